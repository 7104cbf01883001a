set_option maxRecDepth 100000
section CODEX
variable {D d r k lo hi p n nm nk a b : Nat} {A mA : Nat → Nat} {T : Pg} {C : Cd} {lw oa ta : Nat} {F F' : Nat → Cf} {pl : Nat → Int32 → Int32} {B B' : Bk} {G G' G2 : XG} {Q : (Option Value ⊕ Nat) → XG → Prop}
/-- how a code's run ends -/
def oFin (r nm : Nat) (mA : Nat → Nat) (pl : Nat → Int32 → Int32) (y : Cs) (g29 g30 : Int32) (G : XG) : Prop := (y.1 = 1 ∧ Gfi G 28 r = nI 0 ∧ Gfi G 29 r = y.2.1 ∧ Gfi G 30 r = g30 ∧ RU G r mA nm pl y.2.2.2) ∨ (y.1 = 5 ∧ Gfi G 28 r = nI 2 ∧ Gfi G 29 r = g29 ∧ Gfi G 30 r = g30 ∧ RU G r mA nm pl y.2.2.2) ∨ (y.1 = 6 ∧ Gfi G 28 r = nI 1 ∧ Gfi G 29 r = g29 ∧ Gfi G 30 r = y.2.1 ∧ RU G r mA nm pl y.2.2.2)
theorem l_run {y : Cs} {v2 v3 v4 v5 : Int32} {g29 g30 : Int32} (hP : PGW T n nm nk pl) (hG : PGG T n) (hd : 295 ≤ d) (hQ : ∀ G', YR r G2 G' → oFin r nm mA pl y g29 g30 G' → Q (.inl none) G') : ∀ M v F B G x6, Tr T nm n pl C M (0, v, F, B) y → pcI C (0, v, F, B) → RX r p hi n nm nk A mA T pl C lw oa ta F B G → Gfi G 28 r = NN → Gfi G 29 r = g29 → Gfi G 30 r = g30 → YR r G2 G → XL xms d 71 27 [.ref p, .ref r, .int v2, .int v3, .int v4, .int v5, x6] [] G Q := by
  intro M
  induction M using Nat.strongRecOn with
  | ind M ih =>
    intro v F B G x6 ht hp hx h28 h29 h30 yr
    cases M with
    | zero =>
      obtain ⟨rfl, -, h⟩ := ht
      have h : (0 : Nat) = 1 ∨ (0 : Nat) = 5 ∨ (0 : Nat) = 6 := h
      omega
    | succ M =>
      obtain ⟨hr, hc, hu, hcf, hkb⟩ := id hx
      obtain ⟨hd1, hok⟩ := ht.hd.1 rfl
      have hd1 : 1 ≤ B.1 10 := hd1
      have h12 : B.1 10 ≤ 12 := hok.1
      obtain ⟨k, hk⟩ : ∃ k, B.1 10 = k + 1 := ⟨B.1 10 - 1, by omega⟩
      have hk12 : k < 12 := by omega
      have l0 := hu.1.1.1
      unfold RL0 at l0
      have e17 : Gfi G 17 r = nI (k + 1) := by rw [hu.1.2.1.2.2.2.2.2.2.2.1, hk]
      obtain ⟨d, rfl⟩ : ∃ e, d = e + 1 := ⟨d - 1, by omega⟩
      have ct : ∀ Q, XC xms (d + 1) 84 [.ref r] G Q = Q (.inl (some (.ref (r + 18 + 4 * k)))) G := fun Q => s_top (n := k) hu.1.1 e17 hk12
      have hPR := hr.2.2.2.1
      unfold PR at hPR
      have s1 : Gkd G p = 4 := hPR.1
      have ys : ∀ (H : XG) (g : Nat) (v : Int32), YR r H (Sfi H g r v) := fun H g v => YI.yr (YI.fi ⟨Nat.le_refl _, by omega⟩)
      have t427 : hX3_run 42 7 = some 51 := rfl
      have t428 : hX3_run 42 8 = some 70 := rfl
      rw [fX3_run_27]
      simp (disch := first | omega | exact cI _ | exact cR _ | exact cK | exact cU | exact cO _ | exact cL _) only [oS, uS.2, Nat.reduceAdd, Nat.reduceSub, Nat.reduceMul, Nat.reduceLeDiff, Nat.reduceEqDiff, Nat.add_sub_cancel, xS, gS, nL, nS, dS, mX3_run, zX3_run, l0, h28, ct, s1]
      refine k_goes (D := d + 1) (k := k) hP hG ht hp hx hk (by omega) (fun M' v' F' B' G' hM t' p' x' e' => ?_) (fun G' y1 yr' g28 g29' g30' ru => ?_) (fun G' y5 ye ru => ?_) (fun G' y6 ye ru g33 => ?_)
      · have fx : ∀ g, 28 ≤ g → g ≤ 30 → Gfi G' g r = Gfi G g r := fun g q1 q2 => e'.2.2.2.2.2.2.2.2.2.2 g r q1 q2
        have fi := fun x6 => ih M' (by omega) v' F' B' G' x6 t' p' x' ((fx 28 (by decide) (by decide)).trans h28) ((fx 29 (by decide) (by decide)).trans h29) ((fx 30 (by decide) (by decide)).trans h30) (yr.trans e'.yr)
        simp (disch := first | omega | exact cI _ | exact cR _ | exact cK | exact cU | exact cO _ | exact cL _) only [oS, uS.2, Nat.reduceAdd, Nat.reduceSub, Nat.reduceMul, Nat.reduceLeDiff, Nat.reduceEqDiff, Nat.add_sub_cancel, xS, gS, nL, nS, dS, mX3_run, zX3_run, fi]
      · have fi := hQ G' (yr.trans yr') (.inl ⟨y1, g28, g29', g30'.trans h30, ru⟩)
        have l1 := ru.1.1.1
        unfold RL0 at l1
        have nn : (nI 0 = NN) = False := n_NN (by decide)
        simp (disch := first | omega | exact cI _ | exact cR _ | exact cK | exact cU | exact cO _ | exact cL _) only [oS, uS.2, Nat.reduceAdd, Nat.reduceSub, Nat.reduceMul, Nat.reduceLeDiff, Nat.reduceEqDiff, Nat.add_sub_cancel, xS, gS, nL, nS, dS, fX3_run_27, fX3_run_48, fX3_run_77, mX3_run, zX3_run, l1, g28, nn, fi]
      · have fx : ∀ g, 28 ≤ g → g ≤ 30 → Gfi G' g r = Gfi G g r := fun g q1 q2 => ye.2.2.2.2.2.2.2.2.2.2 g r q1 q2
        have l1 := ru.1.1.1
        unfold RL0 at l1
        have fi := hQ (Sfi G' 28 r (nI 2)) ((yr.trans ye.yr).trans (ys _ _ _)) (.inr (.inl ⟨y5, Sfi_S, (Sfi_o (by decide)).trans ((fx 29 (by decide) (by decide)).trans h29), (Sfi_o (by decide)).trans ((fx 30 (by decide) (by decide)).trans h30), ru.e3 (by decide) (by decide)⟩))
        simp (disch := first | omega | exact cI _ | exact cR _ | exact cK | exact cU | exact cO _ | exact cL _) only [oS, uS.2, Nat.reduceAdd, Nat.reduceSub, Nat.reduceMul, Nat.reduceLeDiff, Nat.reduceEqDiff, Nat.add_sub_cancel, xS, gS, nL, nS, dS, fX3_run_70, fX3_run_77, mX3_run, zX3_run, l1, t428, XHt_s, fi]
      · have fx : ∀ g, 28 ≤ g → g ≤ 30 → Gfi G' g r = Gfi G g r := fun g q1 q2 => ye.2.2.2.2.2.2.2.2.2.2 g r q1 q2
        have l1 := ru.1.1.1
        unfold RL0 at l1
        have fi := hQ (Sfi (Sfi G' 28 r (nI 1)) 30 r y.2.1) (((yr.trans ye.yr).trans (ys _ _ _)).trans (ys _ _ _)) (.inr (.inr ⟨y6, (Sfi_o (by decide)).trans Sfi_S, (Sfi_o (by decide)).trans ((Sfi_o (by decide)).trans ((fx 29 (by decide) (by decide)).trans h29)), Sfi_S, (ru.e3 (by decide) (by decide)).e3 (by decide) (by decide)⟩))
        simp (disch := first | omega | exact cI _ | exact cR _ | exact cK | exact cU | exact cO _ | exact cL _) only [oS, uS.2, Nat.reduceAdd, Nat.reduceSub, Nat.reduceMul, Nat.reduceLeDiff, Nat.reduceEqDiff, Nat.add_sub_cancel, xS, gS, nL, nS, dS, fX3_run_51, fX3_run_77, mX3_run, zX3_run, l1, t427, XHt_s, g33, fi]
/-- a run on the code -/
theorem k_run {sh : Bool} {mi most : Nat} {a b : Int32} (hP : PGW T n nm nk pl) (hG : PGG T n) (hC : dPg T nm n sh C) (h : RP r p hi n nm nk A mA T G) (hc : CR G r p nm mA C lw oa ta) (hs : RS G r mA nm pl) (hmi : mi < nm) (hmo : most ≤ 400) (hD : 300 ≤ D) (hQ : ∀ G', YR r G G' → EndR r nm mA pl (sRun T pl mi a b most) G' → Q (.inl none) G') : XC xms D 71 [.ref p, .ref r, .int (nI mi), .int a, .int b, .int (nI most)] G Q := by
  obtain ⟨d, rfl⟩ : ∃ d, D = d + 1 := ⟨D - 1, by omega⟩
  have hnm := hP.2.1
  have l0 := hs.1.1
  unfold RL0 at l0
  have hPR := h.2.2.2.1
  unfold PR at hPR
  have p1 : Gkd G p = 4 := hPR.1
  have p2 : Gfr G 1020 p = some (p + 1) := hPR.2.1
  have p3 : Gkd G (p + 1) = 106 := hPR.2.2.1
  have p4 : Gln G (p + 1) = 8 := hPR.2.2.2.1
  have m1 : Gar G (p + 1) mi = some (mA mi) := (h.2.2.2.2.2.1 mi hmi).1
  have hm8 : mi < 8 := by omega
  rw [XC_s]
  simp (disch := first | omega | exact cI _ | exact cR _ | exact cK | exact cU | exact cO _ | exact cL _) only [oS, uS.2, Nat.reduceAdd, Nat.reduceSub, Nat.reduceMul, Nat.reduceLeDiff, Nat.reduceEqDiff, Nat.add_sub_cancel, xS, gS, nL, nS, dS, fX3_run_0, mX3_run, zX3_run, l0]
  refine k_begin (D := d) hs (by omega) (fun G0 h1 y1 f1 f29 f30 => ?_)
  have l1 := h1.1.1.1
  unfold RL0 at l1
  have yr1 : YR r G G0 := YI.yr (y1.mono (fun a q => ⟨q.1, by have := q.2; omega⟩))
  have ys : ∀ (H : XG) (g : Nat) (v : Int32), YR r H (Sfi H g r v) := fun H g v => YI.yr (YI.fi ⟨Nat.le_refl _, by omega⟩)
  have yrA : YR r G (Sfi G0 28 r NN) := yr1.trans (ys _ _ _)
  have ruA : RU (Sfi G0 28 r NN) r mA nm pl (bZero most) := h1.e3 (by decide) (by decide)
  have q1 : Gkd G0 p = 4 := by rw [y1.2.2.2.1]; exact p1
  have q2 : Gfr G0 1020 p = some (p + 1) := by rw [y1.1]; exact p2
  have q3 : Gkd G0 (p + 1) = 106 := by rw [y1.2.2.2.1]; exact p3
  have q4 : Gln G0 (p + 1) = 8 := by rw [y1.2.2.2.2.1]; exact p4
  have q5 : Gar G0 (p + 1) mi = some (mA mi) := by rw [y1.2.2.1]; exact m1
  have a28 : Gfi (Sfi G0 28 r NN) 28 r = NN := Sfi_S
  have a29 : Gfi (Sfi G0 28 r NN) 29 r = 0 := (Sfi_o (by decide)).trans f29
  have a30 : Gfi (Sfi G0 28 r NN) 30 r = NN := (Sfi_o (by decide)).trans f30
  simp (disch := first | omega | exact cI _ | exact cR _ | exact cK | exact cU | exact cO _ | exact cL _) only [oS, uS.2, Nat.reduceAdd, Nat.reduceSub, Nat.reduceMul, Nat.reduceLeDiff, Nat.reduceEqDiff, Nat.add_sub_cancel, xS, gS, nL, nS, dS, mX3_run, zX3_run, l1, q1, q2, q3, q4, q5, hm8]
  generalize Sfi G0 28 r NN = G1 at yrA ruA a28 a29 a30 ⊢
  refine k_enters (D := d) (B := bZero most) ruA (fun e => absurd e (by show ¬ (0 : Nat) = 12; decide)) (by show (0 : Nat) ≤ 12; decide) (by show (0 : Nat) ≤ 12; decide) (by show (0 : Nat) ≤ 401; decide) hmi (by omega) (fun e => absurd e (by show ¬ (0 : Nat) = 12; decide)) (fun _ G2 a1 a2 a3 a4 a5 a6 a7 => ?_)
  have e0 : (bZero most).1 10 = 0 := rfl
  rw [e0] at a4 a5 a6 a7 ⊢
  have yrB := yrA.trans a2.yr
  have cr2 := hc.yr yrB
  have cfg : Gfi G1 77 (mA mi) = nI (C.2.2 mi) := (hc.yr yrA).2.2.2.2.2.2.2.2.2.2.2.2.1 mi hmi
  obtain ⟨F, hF⟩ : ∃ F : Nat → Cf, F = fun j => (if j = 0 then C.2.2 mi else 0, 0, fun i => Gai G2 (r + 21 + 4 * j) i) := ⟨_, rfl⟩
  have cf : CF r F 1 G2 := by
    rw [hF]
    refine ⟨fun _ _ _ _ => rfl, fun j hj => ?_⟩
    have : j = 0 := by omega
    subst this
    exact ⟨a6.trans cfg, a5⟩
  obtain ⟨y, ⟨M, e1, e2⟩, hy⟩ := run_d hP.vpl hC hP.1.pg hnm (a := a) (b := b) (v := 0) (F := F) hmi hmo (by rw [hF]; rfl)
  unfold sRun at hQ
  generalize sBlk T pl most (Tm T mi) NN (bEnter mi a b (bZero most)) = q at *
  have hfin : y.1 = 1 ∨ y.1 = 5 ∨ y.1 = 6 := by
    by_cases c5 : q.1 = 5
    · rw [if_pos c5] at hy
      exact .inr (.inl hy.1)
    · rw [if_neg c5] at hy
      by_cases c4 : q.1 = 4
      · rw [if_pos c4] at hy
        exact .inr (.inr hy.1)
      · rw [if_neg c4] at hy
        exact .inl hy.1
  have fin := fun x6 => l_run (d := d) (Q := Q) (v2 := nI mi) (v3 := a) (v4 := b) (v5 := nI most) (G2 := G) (y := y) (g29 := 0) (g30 := NN) hP hG (by omega) (fun G' yr o => ?_) M 0 F (bEnter mi a b (bZero most)) G2 x6 ⟨e1, e2, hfin⟩ ⟨fun _ j hj => by
    have hj : j + 1 < 0 + 1 := hj
    omega, fun e => absurd e (show ¬ (0 : Nat) = 4 by decide)⟩ ⟨h.yr yrB, cr2, a1, cf, fun f hf => by
    have e4 : (bEnter mi a b (bZero most)).1 4 = 0 := by simp [bEnter, bZero]
    omega⟩ ((a4 r 28 (by omega) (by decide)).trans a28) ((a4 r 29 (by omega) (by decide)).trans a29) ((a4 r 30 (by omega) (by decide)).trans a30) yrB
  · simp (disch := first | omega | exact cI _ | exact cR _ | exact cK | exact cU | exact cO _ | exact cL _) only [oS, uS.2, Nat.reduceAdd, Nat.reduceSub, Nat.reduceMul, Nat.reduceLeDiff, Nat.reduceEqDiff, Nat.add_sub_cancel, xS, gS, nL, nS, dS, mX3_run, zX3_run, fin]
  · refine hQ G' yr ?_
    dsimp only
    by_cases c5 : q.1 = 5
    · rw [if_pos c5] at hy ⊢
      rcases o with ⟨c, -⟩ | ⟨-, b1', b2', b3', b4'⟩ | ⟨c, -⟩
      · omega
      · refine ⟨b1', b2', b3', q.2.2.1 10, ?_⟩
        rw [b1_id rfl, ← hy.2]
        exact b4'
      · omega
    · rw [if_neg c5] at hy ⊢
      by_cases c4 : q.1 = 4
      · rw [if_pos c4] at hy ⊢
        rcases o with ⟨c, -⟩ | ⟨c, -⟩ | ⟨-, b1', b2', b3', b4'⟩
        · omega
        · omega
        · refine ⟨b1', b2', b3'.trans hy.2.1, q.2.2.1 10 - 1, ?_⟩
          have e9 := hy.2.2
          rw [e9] at b4'
          exact b4'
      · rw [if_neg c4] at hy ⊢
        rcases o with ⟨-, b1', b2', b3', b4'⟩ | ⟨c, -⟩ | ⟨c, -⟩
        · refine ⟨b1', b2'.trans hy.2.1, b3', q.2.2.1 10 - 1, ?_⟩
          have e9 := hy.2.2
          rw [e9] at b4'
          exact b4'
        · omega
        · omega
end CODEX
