set_option maxRecDepth 100000
section RUN
variable {D d r kk lo hi p n nm nk : Nat} {A mA : Nat → Nat} {T : Pg} {pl : Nat → Int32 → Int32} {B B' : Bk} {G G' G2 : XG} {Q : (Option Value ⊕ Nat) → XG → Prop}
theorem b1_id {c v : Nat} (h : B.1 c = v) : b1 B c v = B := by
  refine Prod.ext (funext fun x => ?_) rfl
  show (if x = c then v else B.1 x) = B.1 x
  by_cases e : x = c
  · rw [if_pos e, e, h]
  · rw [if_neg e]
/-- a guard's walk -/
theorem w_guard {bk : Wk} {m mw tg lp dp s e : Nat} {tk : Int32} (hb : bkA r p hi n nm nk A mA T pl bk m) (hP : PGW T n nm nk pl) (hG : PGG T n) (hw : wS T nm (wB T nm mw) tg lp dp s e) (hs : s < n) (hk : Tk T s = 16 ∨ Tk T s = 17) (hm : B.1 11 - B.1 9 ≤ m) (hse : s < e) (he : e ≤ n) (hl : lp + dp ≤ 6) (h : WK r p hi n nm nk A mA T pl kk tg s tk B G) (hD : dq kk dp ≤ D + 1) (hQ : ∀ z G', oW r kk s e nm mA pl G (stm T pl bk s tk B) z G' → Q z G') : XC xms D 262 [.ref (A s), .ref r, .ref (r + 18 + 4 * kk)] G Q := by
  have h0 := h
  obtain ⟨hr, hu, hI, hkb, h10, ht⟩ := h
  have hib := hI.1
  have hk12 : kk < 12 := by omega
  have hn80 := hP.2.2.1
  have hvp := hP.vpl
  obtain ⟨wp, w⟩ := hw
  rw [if_neg (by omega), if_neg (by omega), if_pos hk] at w
  obtain ⟨d', x, y, ed, wa, wb, wc, -⟩ := w
  have lx := wC_le (wB_le T nm mw) wb
  have lx0 := wB_le T nm mw _ _ _ _ _ _ wa
  have ly := wO_le (wB_le T nm mw) wc
  obtain ⟨nz, o1, o2, kz, fz, k3, kf, -⟩ := hr.gd hs hk
  have nsr : ¬ rgn r (A s) := hr.out (by omega) o2
  obtain ⟨u1, u2, u3, u4, u5, u6, u7, u8, u9, u10, u11⟩ := hu.1.1.2 _ hk12
  have eg : stm T pl bk s tk B = fin T bk s tk (cau T bk s (sInner T pl bk s tk B)) := (stm_16 hk).trans (sGuard_e T pl bk s tk B)
  rw [eg] at hQ
  have qiv := cau_iv hb.2.1 wb (sInner_iv hvp hb.2.1 hb.2.2.1 (s := s) wa hm hI (fun h9 => (ht h9).2.2.2)) (fun _ => by
    obtain ⟨q1, q2, q3, -⟩ := @sInner_kp T pl bk m s tk B hb.2.2.1 hm hI.le
    omega)
  have qkp := @sCaught_kp T pl bk m s tk B hb.2.2.1 hm hI.le
  have ecc : sCaught T pl bk s tk B = cau T bk s (sInner T pl bk s tk B) := rfl
  rw [ecc] at qkp
  have qkb := cau_kb (P := kV nk) hb.2.2.2 wb (by omega) (sInner_kb (P := kV nk) hP.2.2.2.1 hb.2.2.2 (s := s) (tk := tk) wa (by omega) hkb)
  unfold dq at hD
  obtain ⟨d, rfl⟩ : ∃ d, D = d + 1 + 1 := ⟨D - 2, by omega⟩
  have hdd : dq kk d' + 2 ≤ d + 1 := by
    unfold dq
    omega
  have t10 : ∀ kd, hX31_walk 10 kd = none := fun _ => rfl
  have t23 : ∀ kd, hX31_walk 23 kd = if kd = 7 then some 31 else none := fun _ => rfl
  have t67 : ∀ kd, hX31_walk 67 kd = if kd = 7 then some 75 else none := fun _ => rfl
  have t99 : ∀ kd, hX31_walk 99 kd = none := fun _ => rfl
  have t142 : ∀ kd, hX31_walk 142 kd = none := fun _ => rfl
  have cau_w : ∀ Q', (∀ z G', oW r kk s e nm mA pl G (cau T bk s (sInner T pl bk s tk B)) z G' → Q' z G') → XC xms (d + 1) 263 [.ref (A s), .ref r, .ref (r + 18 + 4 * kk)] G Q' := fun Q' hq => w_caught (D := d + 1) hb hP hG wa wb wp hs hk hm (by omega) hse he (by omega) h0 hdd hq
  obtain ⟨q, hq⟩ : ∃ q, cau T bk s (sInner T pl bk s tk B) = q := ⟨_, rfl⟩
  rw [hq] at hQ qiv qkp qkb cau_w
  have hm2 : q.2.2.1 11 - q.2.2.1 9 ≤ m := by
    have h1 := qkp.1
    have h2 := qkp.2.1
    omega
  have hd9 : dq kk d' ≤ d + 1 := by omega
  have hl9 : lp + d' ≤ 6 := by omega
  have lo9 : s ≤ y := by omega
  rw [XC_s]
  cases hT : To T s with
  | none =>
    rw [hT] at kf
    have kf : Gfr G 1138 (A s) = none := kf
    have ef : fin T bk s tk q = q := by
      unfold fin
      rw [hT]
    rw [ef] at hQ
    simp (disch := first | omega | exact cI _ | exact cR _ | exact cK | exact cU | exact cO _ | exact cL _) only [oS, uS.2, Nat.reduceAdd, Nat.reduceSub, Nat.reduceMul, Nat.reduceLeDiff, Nat.reduceEqDiff, Nat.add_sub_cancel, xS, gS, nL, nS, dS, fX31_walk_0, mX31_walk, zX31_walk, kz, kf]
    refine cau_w _ (fun z G2 o => ?_)
    have fi := hQ z G2 o
    rcases o.z with ⟨v, rfl⟩ | ⟨a, rfl⟩
    · simp (disch := first | omega | exact cI _ | exact cR _ | exact cK | exact cU | exact cO _ | exact cL _) only [oS, uS.2, Nat.reduceAdd, Nat.reduceSub, Nat.reduceMul, Nat.reduceLeDiff, Nat.reduceEqDiff, Nat.add_sub_cancel, xS, gS, nL, nS, dS, mX31_walk, zX31_walk, fi]
    · simp (disch := first | omega | exact cI _ | exact cR _ | exact cK | exact cU | exact cO _ | exact cL _) only [oS, uS.2, Nat.reduceAdd, Nat.reduceSub, Nat.reduceMul, Nat.reduceLeDiff, Nat.reduceEqDiff, Nat.add_sub_cancel, xS, gS, nL, nS, dS, mX31_walk, zX31_walk, t10, XHt_n, fi]
  | some fb =>
    rw [hT] at kf wc
    obtain ⟨bf, ebf, hbf⟩ := (show BA (Tp hi G) (p + 6) A (Gfr G 1138 (A s)) fb from kf).o
    have ef : fin T bk s tk q = if q.1 = 5 then q else if (bk fb tk (b2 q.2.2 11 s (q.2.2.2 11 s + 1))).1 = 5 then bk fb tk (b2 q.2.2 11 s (q.2.2.2 11 s + 1)) else if (bk fb tk (b2 q.2.2 11 s (q.2.2.2 11 s + 1))).1 = 0 then (q.1, q.2.1, (bk fb tk (b2 q.2.2 11 s (q.2.2.2 11 s + 1))).2.2) else if q.1 = 4 then ((bk fb tk (b2 q.2.2 11 s (q.2.2.2 11 s + 1))).1, (bk fb tk (b2 q.2.2 11 s (q.2.2.2 11 s + 1))).2.1, b1 (bk fb tk (b2 q.2.2 11 s (q.2.2.2 11 s + 1))).2.2 7 ((bk fb tk (b2 q.2.2 11 s (q.2.2.2 11 s + 1))).2.2.1 7 + 1)) else bk fb tk (b2 q.2.2 11 s (q.2.2.2 11 s + 1)) := by
      unfold fin
      rw [hT]
    rw [ef] at hQ
    clear ef
    -- behind the first part
    have rest : ∀ (v : Int32) G2 x5 x6 x7, q.1 ≠ 5 → RU G2 r mA nm pl q.2.2 → WK r p hi n nm nk A mA T pl kk tg s tk q.2.2 G2 → KT r kk s e G G2 → (q.1 ≠ 4 → ∀ G3 B3, KT r kk s e G G3 → RU G3 r mA nm pl B3 → (q.1 = 1 → Gfi G3 34 (r + 18 + 4 * kk) = Gfi G2 34 (r + 18 + 4 * kk)) → oW r kk s e nm mA pl G (q.1, q.2.1, B3) (.inl (some (.int v))) G3) → XL xms (d + 1) 262 39 [.ref (A s), .ref r, .ref (r + 18 + 4 * kk), .int (if q.1 = 4 then q.2.1 else NN), .int v, x5, x6, x7] [] G2 Q := by
      intro v G2 x5 x6 x7 q5 ru wk kt hway
      rw [if_neg q5] at hQ
      obtain ⟨i1, i2, i3⟩ := qiv q5
      have fnn : q.1 = 4 → ∃ f, q.2.1 = nI f ∧ f < 2147483648 := fun c => by
        obtain ⟨f, ef, hf⟩ := i3 c
        have := i1.1
        exact ⟨f, ef, by omega⟩
      have l2 := ru.1.1.1
      unfold RL0 at l2
      have kz2 : Gkd G2 (A s) = 32 := by rw [kt.1.2.2.2.1]; exact kz
      have nz2 : Gfi G2 82 (A s) = nI s := (kt.1.2.2.2.2.2.2.2.2.1 82 _ nsr).trans nz
      have fr2 : Gfr G2 1138 (A s) = some bf := (kt.1.1 1138 _ (.inl (by decide))).trans ebf
      have u22 : Gkd G2 (r + 18 + 4 * kk) = 9 := by rw [kt.1.2.2.2.1]; exact u2
      have hs80 : s < 80 := by omega
      have hsb : s < 2147483648 := by omega
      have e11 : Gai G2 (r + 11) s = q.2.2.2 11 s := ru.1.2.2.1 11 s (.inr (.inr (.inr (.inr (.inl ⟨rfl, hs80⟩)))))
      have ruE : RU (Sai G2 (r + 11) s (q.2.2.2 11 s + nI 1)) r mA nm pl (b2 q.2.2 11 s (q.2.2.2 11 s + nI 1)) := ru.ai (by decide)
      have ktE : KT r kk s e G (Sai G2 (r + 11) s (q.2.2.2 11 s + nI 1)) := kt.trans (KT.ra ⟨by omega, by omega⟩)
      have wkE : WK r p hi n nm nk A mA T pl kk tg s tk (b2 q.2.2 11 s (q.2.2.2 11 s + nI 1)) (Sai G2 (r + 11) s (q.2.2.2 11 s + nI 1)) := ⟨hr.ye ktE.1, ruE, i1.s2 (by omega), qkb.s2 (by decide), wk.2.2.2.2.1, fun h9 => by
        obtain ⟨t1, t2, t3, t4⟩ := wk.2.2.2.2.2 h9
        exact ⟨t1, t2, (Sai_o (.inl (by omega))).trans t3, t4.mono (Nat.le_refl _)⟩⟩
      have hbfE : BA (Tp hi (Sai G2 (r + 11) s (q.2.2.2 11 s + nI 1))) (p + 6) A (some bf) fb := hbf.kq ktE.1.kq (fun a q => hr.1.n (by omega))
      have g34E : Gfi (Sai G2 (r + 11) s (q.2.2.2 11 s + nI 1)) 34 (r + 18 + 4 * kk) = Gfi G2 34 (r + 18 + 4 * kk) := rfl
      have e1 : (1 : Int32) = nI 1 := rfl
      rw [e1] at hQ
      rw [fX31_walk_39]
      simp (disch := first | omega | exact cI _ | exact cR _ | exact cK | exact cU | exact cO _ | exact cL _) only [oS, uS.2, Nat.reduceAdd, Nat.reduceSub, Nat.reduceMul, Nat.reduceLeDiff, Nat.reduceEqDiff, Nat.add_sub_cancel, xS, gS, nL, nS, dS, mX31_walk, zX31_walk, l2, kz2, nz2, fr2, u22, hs80, hsb, e11]
      generalize Sai G2 (r + 11) s (q.2.2.2 11 s + nI 1) = G3 at ruE ktE wkE hbfE g34E ⊢
      refine hb.go (B := b2 q.2.2 11 s (q.2.2.2 11 s + nI 1)) wc hm2 he hl9 wkE lo9 hbfE hd9 (fun z G4 o wk4 kp4 => ?_)
      obtain ⟨w, hw⟩ : ∃ w, bk fb tk (b2 q.2.2 11 s (q.2.2.2 11 s + nI 1)) = w := ⟨_, rfl⟩
      rw [hw] at o wk4 hQ
      have kt4 : KT r kk s e G G4 := ktE.trans (o.1.mono (by omega) (by omega))
      -- a failure or a way is let go
      have lose : w.1 ≠ 5 → w.1 ≠ 0 → RU G4 r mA nm pl w.2.2 → ∃ G5 B5, G5 = Sfi G4 25 r (nI (w.2.2.1 7 + (if q.1 = 4 then 1 else 0))) ∧ RU G5 r mA nm pl B5 ∧ KT r kk s e G G5 ∧ (if w.1 = 5 then w else if w.1 = 0 then (q.1, q.2.1, w.2.2) else if q.1 = 4 then (w.1, w.2.1, b1 w.2.2 7 (w.2.2.1 7 + 1)) else w) = (w.1, w.2.1, B5) := fun w5 w0 ru4 => by
        rw [if_neg w5, if_neg w0]
        by_cases c : q.1 = 4
        · rw [if_pos c, if_pos c]
          exact ⟨_, _, rfl, ru4.c7, kt4.trans (KT.rf ⟨by omega, by omega⟩), rfl⟩
        · rw [if_neg c, if_neg c]
          have := ru4.c7 (v := w.2.2.1 7)
          rw [b1_id rfl] at this
          exact ⟨_, _, rfl, this, kt4.trans (KT.rf ⟨by omega, by omega⟩), rfl⟩
      rcases o.c with ⟨w4, rfl, g33, ru4⟩ | ⟨w5, rfl, ru4⟩ | ⟨w3, ru4, v4, rfl, v40, g34, hway4⟩
      · have l4 := ru4.1.1.1
        unfold RL0 at l4
        obtain ⟨G5, B5, eG, ru5, kt5, e5⟩ := lose (by omega) (by omega) ru4
        rw [e5] at hQ
        have e7 : Gfi G4 25 r = nI (w.2.2.1 7) := ru4.1.2.1.2.2.2.2.1
        have g5 : Gfi G5 33 (r + 16) = w.2.1 := by rw [eG]; exact (Sfi_o (by decide)).trans g33
        have fi : Q (.inr (r + 16)) G5 := hQ _ _ ⟨kt5, .inr (.inr (.inr (.inr (.inl ⟨w4, rfl, g5, ru5⟩))))⟩
        rw [eG] at fi
        have t67' : hX31_walk 67 7 = some 75 := rfl
        by_cases c : q.1 = 4
        · obtain ⟨f, ef, hf⟩ := fnn c
          rw [if_pos c, ef]
          rw [if_pos c] at fi
          simp (disch := first | omega | exact cI _ | exact cR _ | exact cK | exact cU | exact cO _ | exact cL _) only [oS, uS.2, Nat.reduceAdd, Nat.reduceSub, Nat.reduceMul, Nat.reduceLeDiff, Nat.reduceEqDiff, Nat.add_sub_cancel, xS, gS, nL, nS, dS, fX31_walk_75, fX31_walk_92, fX31_walk_93, mX31_walk, zX31_walk, l4, t67', t99, XHt_s, XHt_n, e7, fi]
        · rw [if_neg c]
          rw [if_neg c] at fi
          simp (disch := first | omega | exact cI _ | exact cR _ | exact cK | exact cU | exact cO _ | exact cL _) only [oS, uS.2, Nat.reduceAdd, Nat.reduceSub, Nat.reduceMul, Nat.reduceLeDiff, Nat.reduceEqDiff, Nat.add_sub_cancel, xS, gS, nL, nS, dS, fX31_walk_75, fX31_walk_92, fX31_walk_93, mX31_walk, zX31_walk, l4, t67', t99, XHt_s, XHt_n, e7, fi]
      · have l4 := ru4.1.1.1
        unfold RL0 at l4
        rw [if_pos w5] at hQ
        have t67' : hX31_walk 67 8 = none := rfl
        have fi : Q (.inr (r + 17)) G4 := hQ _ _ ⟨kt4, .inr (.inr (.inr (.inr (.inr ⟨w5, rfl, ru4⟩))))⟩
        simp (disch := first | omega | exact cI _ | exact cR _ | exact cK | exact cU | exact cO _ | exact cL _) only [oS, uS.2, Nat.reduceAdd, Nat.reduceSub, Nat.reduceMul, Nat.reduceLeDiff, Nat.reduceEqDiff, Nat.add_sub_cancel, xS, gS, nL, nS, dS, mX31_walk, zX31_walk, l4, t67', XHt_n, fi]
      · have l4 := ru4.1.1.1
        unfold RL0 at l4
        by_cases w0 : w.1 = 0
        · have v0 : v4 = nI 0 := by rw [v40]; exact w0
          subst v0
          rw [if_neg (by omega), if_pos w0] at hQ
          by_cases c : q.1 = 4
          · obtain ⟨f, ef, hf⟩ := fnn c
            have fi : Q (.inr (r + 16)) (Sfi G4 33 (r + 16) q.2.1) := hQ _ _ ⟨kt4.trans (KT.rf ⟨by omega, by omega⟩), .inr (.inr (.inr (.inr (.inl ⟨c, rfl, Sfi_S, ru4.fi (by decide) (by decide) ⟨by omega, by omega⟩⟩))))⟩
            rw [if_pos c, ef]
            rw [ef] at fi
            simp (disch := first | omega | exact cI _ | exact cR _ | exact cK | exact cU | exact cO _ | exact cL _) only [oS, uS.2, Nat.reduceAdd, Nat.reduceSub, Nat.reduceMul, Nat.reduceLeDiff, Nat.reduceEqDiff, Nat.add_sub_cancel, xS, gS, nL, nS, dS, fX31_walk_100, fX31_walk_128, mX31_walk, zX31_walk, FX6_with, mX6_with, zX6_with, XC_s (k := 93), l4, t142, XHt_n, fi]
          · have u24 : Gkd G4 (r + 18 + 4 * kk) = 9 := by rw [kt4.1.2.2.2.1]; exact u2
            have fi := hQ _ _ (hway c (Sfi G4 34 (r + 18 + 4 * kk) (Gfi G3 34 (r + 18 + 4 * kk))) w.2.2 (kt4.trans (KT.fi hk12)) (ru4.fi (by decide) (by decide) ⟨by omega, by omega⟩) (fun _ => Sfi_S.trans g34E))
            rw [g34E] at fi
            rw [if_neg c]
            simp (disch := first | omega | exact cI _ | exact cR _ | exact cK | exact cU | exact cO _ | exact cL _) only [oS, uS.2, Nat.reduceAdd, Nat.reduceSub, Nat.reduceMul, Nat.reduceLeDiff, Nat.reduceEqDiff, Nat.add_sub_cancel, xS, gS, nL, nS, dS, fX31_walk_100, fX31_walk_128, fX31_walk_143, mX31_walk, zX31_walk, l4, u24, fi]
        · have v0 : (v4 = nI 0) = False := by rw [v40]; exact eq_false w0
          obtain ⟨G5, B5, eG, ru5, kt5, e5⟩ := lose (by omega) w0 ru4
          rw [e5] at hQ
          have e7 : Gfi G4 25 r = nI (w.2.2.1 7) := ru4.1.2.1.2.2.2.2.1
          have g5 : Gfi G5 34 (r + 18 + 4 * kk) = Gfi G4 34 (r + 18 + 4 * kk) := by rw [eG]; exact Sfi_o (by decide)
          have fi := hQ _ _ (hway4 s e G G5 B5 kt5 ru5 (fun c => g5.trans (g34 c)))
          rw [eG] at fi
          by_cases c : q.1 = 4
          · obtain ⟨f, ef, hf⟩ := fnn c
            rw [if_pos c, ef]
            rw [if_pos c] at fi
            simp (disch := first | omega | exact cI _ | exact cR _ | exact cK | exact cU | exact cO _ | exact cL _) only [oS, uS.2, Nat.reduceAdd, Nat.reduceSub, Nat.reduceMul, Nat.reduceLeDiff, Nat.reduceEqDiff, Nat.add_sub_cancel, xS, gS, nL, nS, dS, fX31_walk_100, fX31_walk_120, fX31_walk_121, mX31_walk, zX31_walk, l4, v0, e7, fi]
          · rw [if_neg c]
            rw [if_neg c] at fi
            simp (disch := first | omega | exact cI _ | exact cR _ | exact cK | exact cU | exact cO _ | exact cL _) only [oS, uS.2, Nat.reduceAdd, Nat.reduceSub, Nat.reduceMul, Nat.reduceLeDiff, Nat.reduceEqDiff, Nat.add_sub_cancel, xS, gS, nL, nS, dS, fX31_walk_100, fX31_walk_120, fX31_walk_121, mX31_walk, zX31_walk, l4, v0, e7, fi]
    simp (disch := first | omega | exact cI _ | exact cR _ | exact cK | exact cU | exact cO _ | exact cL _) only [oS, uS.2, Nat.reduceAdd, Nat.reduceSub, Nat.reduceMul, Nat.reduceLeDiff, Nat.reduceEqDiff, Nat.add_sub_cancel, xS, gS, nL, nS, dS, fX31_walk_0, fX31_walk_14, mX31_walk, zX31_walk, kz, ebf]
    refine cau_w _ (fun z G2 o => ?_)
    have wk2 : q.1 ≠ 5 → WK r p hi n nm nk A mA T pl kk tg s tk q.2.2 G2 := fun h5 => h0.aft o.1 (Nat.le_refl _) (o.n5 h5) h5 qiv qkp qkb
    rcases o.c with ⟨q4, rfl, g33, ru⟩ | ⟨q5, rfl, ru⟩ | ⟨q3, ru, v, rfl, v0, g34, hway⟩
    · have l2 := ru.1.1.1
      unfold RL0 at l2
      have t23' : hX31_walk 23 7 = some 31 := rfl
      have fi : ∀ x5 x6 x7, XL xms (d + 1) 262 39 [.ref (A s), .ref r, .ref (r + 18 + 4 * kk), .int q.2.1, .int (nI 0), x5, x6, x7] [] G2 Q := fun x5 x6 x7 => by
        have := rest (nI 0) G2 x5 x6 x7 (by omega) ru (wk2 (by omega)) o.1 (fun c => absurd q4 c)
        rw [if_pos q4] at this
        exact this
      simp (disch := first | omega | exact cI _ | exact cR _ | exact cK | exact cU | exact cO _ | exact cL _) only [oS, uS.2, Nat.reduceAdd, Nat.reduceSub, Nat.reduceMul, Nat.reduceLeDiff, Nat.reduceEqDiff, Nat.add_sub_cancel, xS, gS, nL, nS, dS, fX31_walk_31, mX31_walk, zX31_walk, l2, t23', XHt_s, g33, fi]
    · have l2 := ru.1.1.1
      unfold RL0 at l2
      rw [if_pos q5] at hQ
      have t23' : hX31_walk 23 8 = none := rfl
      have fi := hQ _ _ o
      simp (disch := first | omega | exact cI _ | exact cR _ | exact cK | exact cU | exact cO _ | exact cL _) only [oS, uS.2, Nat.reduceAdd, Nat.reduceSub, Nat.reduceMul, Nat.reduceLeDiff, Nat.reduceEqDiff, Nat.add_sub_cancel, xS, gS, nL, nS, dS, mX31_walk, zX31_walk, l2, t23', XHt_n, fi]
    · have fi : ∀ x5 x6 x7, XL xms (d + 1) 262 39 [.ref (A s), .ref r, .ref (r + 18 + 4 * kk), .int NN, .int v, x5, x6, x7] [] G2 Q := fun x5 x6 x7 => by
        have := rest v G2 x5 x6 x7 (by omega) ru (wk2 (by omega)) o.1 (fun _ G3 B3 k u f => hway s e G G3 B3 k u (fun c => (f c).trans (g34 c)))
        rw [if_neg (show ¬ q.1 = 4 by omega)] at this
        exact this
      simp (disch := first | omega | exact cI _ | exact cR _ | exact cK | exact cU | exact cO _ | exact cL _) only [oS, uS.2, Nat.reduceAdd, Nat.reduceSub, Nat.reduceMul, Nat.reduceLeDiff, Nat.reduceEqDiff, Nat.add_sub_cancel, xS, gS, nL, nS, dS, mX31_walk, zX31_walk, fi]
end RUN
