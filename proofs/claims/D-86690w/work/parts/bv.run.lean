set_option maxRecDepth 100000
section RUN
variable {D d r kk lo hi p n nm nk : Nat} {A mA : Nat → Nat} {T : Pg} {pl : Nat → Int32 → Int32} {B B' : Bk} {G G' G2 : XG} {Q : (Option Value ⊕ Nat) → XG → Prop}
theorem RU.e3 (h : RU G r mA nm pl B) {f : Nat} {v : Int32} (hf : 28 ≤ f) (hf2 : f ≤ 30) : RU (Sfi G f r v) r mA nm pl B := by
  have y : YI (rgn r) G (Sfi G f r v) := YI.fi ⟨by omega, by omega⟩
  obtain ⟨b1, b2, b3, b4⟩ := h.1
  obtain ⟨e1, e2, e3, e4, e5, e6, e7, e8, e9, e10, e11⟩ := b2
  refine h.yi y ⟨b1.xi y, ⟨(Sfi_o (by omega)).trans e1, (Sfi_o (by omega)).trans e2, (Sfi_o (by omega)).trans e3, (Sfi_o (by omega)).trans e4, (Sfi_o (by omega)).trans e5, (Sfi_o (by omega)).trans e6, (Sfi_o (by omega)).trans e7, (Sfi_o (by omega)).trans e8, (Sfi_o (by omega)).trans e9, (Sfi_o (by omega)).trans e10, (Sfi_o (by omega)).trans e11⟩, b3, fun k hk => ⟨(Sfi_o (by omega)).trans (b4 k hk).1, (b4 k hk).2⟩⟩ h.2.2.1
theorem bkA_of (hP : PGW T n nm nk pl) (hG : PGG T n) (m : Nat) : bkA r p hi n nm nk A mA T pl (sBlk T pl m) m := ⟨lpW.bk hP (bk_w hP hG m), sBlk_iv hP.vpl hP.1.pg hP.2.1 m, sBlk_kp T pl m, sBlk_kb hP.2.2.2.1 hP.1 hP.2.1 (fun j _ hj => ⟨j, rfl, by have := hP.2.2.2.2.2.1; omega⟩) hP.2.2.2.2.2.2.2 m⟩
/-- a run is over: what it came to -/
def EndR (r nm : Nat) (mA : Nat → Nat) (pl : Nat → Int32 → Int32) (w : Nat × Int32 × Int32 × Bk) (G : XG) : Prop := Gfi G 28 r = nI w.1 ∧ Gfi G 29 r = w.2.1 ∧ Gfi G 30 r = w.2.2.1 ∧ ∃ x, RU G r mA nm pl (b1 w.2.2.2 10 x)
/-- what a whole run keeps -/
def YR (r : Nat) (G G' : XG) : Prop := (∀ g a, (g ≠ 1056 ∨ ¬ rgn r a) → Gfr G' g a = Gfr G g a) ∧ Gal G' = Gal G ∧ Gar G' = Gar G ∧ Gkd G' = Gkd G ∧ Gln G' = Gln G ∧ Gsv G' = Gsv G ∧ Gtp G' = Gtp G ∧ Gus G' = Gus G ∧ (∀ g a, ¬ rgn r a → Gfi G' g a = Gfi G g a) ∧ (∀ a i, ¬ rgn r a → Gai G' a i = Gai G a i)
theorem YE.yr (h : YE r G G') : YR r G G' := by
  obtain ⟨a1, a2, a3, a4, a5, a6, a7, a8, a9, a10, -⟩ := h
  exact ⟨a1, a2, a3, a4, a5, a6, a7, a8, a9, a10⟩
theorem YI.yr (h : YI (rgn r) G G') : YR r G G' := by
  obtain ⟨a1, a2, a3, a4, a5, a6, a7, a8, a9, a10⟩ := h
  exact ⟨fun g a _ => by rw [a1], a2, a3, a4, a5, a6, a7, a8, a9, a10⟩
theorem YR.trans {G2 : XG} (h : YR r G G') (k : YR r G' G2) : YR r G G2 := by
  obtain ⟨a1, a2, a3, a4, a5, a6, a7, a8, a9, a10⟩ := h
  obtain ⟨b1, b2, b3, b4, b5, b6, b7, b8, b9, b10⟩ := k
  exact ⟨fun g a q => (b1 g a q).trans (a1 g a q), b2.trans a2, b3.trans a3, b4.trans a4, b5.trans a5, b6.trans a6, b7.trans a7, b8.trans a8, fun g a q => (b9 g a q).trans (a9 g a q), fun a i q => (b10 a i q).trans (a10 a i q)⟩
theorem YR.kq (k : YR r G G') : KQ (fun a => rgn r a ∧ a < hi) 0 0 (Tp hi G) (Tp hi G') := by
  obtain ⟨a1, a2, a3, a4, a5, a6, a7, a8, a9, a10⟩ := k
  exact ⟨a6, Nat.le_refl _, Nat.le_refl _, Nat.le_of_eq a8, fun a _ => ⟨congrFun a4 a, congrFun a5 a⟩, fun a ha hn => ⟨fun f => ⟨a9 f a (fun q => hn ⟨q, ha⟩), a1 f a (.inr (fun q => hn ⟨q, ha⟩))⟩, fun i => ⟨a10 a i (fun q => hn ⟨q, ha⟩), congrFun (congrFun a3 a) i, congrFun (congrFun a2 a) i⟩⟩⟩
theorem RP.yr (h : RP r p hi n nm nk A mA T G) (k : YR r G G') : RP r p hi n nm nk A mA T G' := by
  obtain ⟨h1, h2, h3, h4, h5, h6, h7⟩ := h
  have ht : p + 6 ≤ hi := h4.t
  have hx : ∀ a, p ≤ a → a < hi → ¬ rgn r a := fun a q1 q2 q => h1.n q1 ⟨q, q2⟩
  have ar : Gar G' = Gar G := k.2.2.1
  have kd : Gkd G' = Gkd G := k.2.2.2.1
  have hp4 : PR (Tp hi G') p := h4.kq k.kq (fun f _ _ => ((k.kq.2.2.2.2.2 p (Nat.lt_of_lt_of_le (by omega) ht) (h1.n (Nat.le_refl _))).1 f).2)
  refine ⟨h1, ?_, (k.1 1029 r (.inl (by decide))).trans h3, hp4, fun s s1 s2 => ?_, fun m hm => ?_, fun x hx' => ?_⟩
  · rw [k.2.2.2.2.2.2.1]
    exact h2
  · obtain ⟨e1, e2⟩ := h5 s s1 s2
    refine ⟨?_, SO.kq k.kq (fun a q => h1.n (by omega)) e2⟩
    show Gar G' (p + 3) s = _
    rw [ar]
    exact e1
  · obtain ⟨e1, e2, e3, e4, e5, e6⟩ := h6 m hm
    refine ⟨by rw [ar]; exact e1, by rw [kd]; exact e2, (k.2.2.2.2.2.2.2.2.1 76 _ (hx _ (by omega) e5)).trans e3, e4, e5, ?_⟩
    rw [k.1 1117 (mA m) (.inl (by decide))]
    exact e6.kq k.kq (fun a q => h1.n (by omega))
  · rw [k.2.2.2.2.2.2.2.2.2 (p + 2) x (hx _ (by omega) (by omega))]
    exact h7 x hx'
/-- a run on the tree -/
theorem k_walk {mi most : Nat} {a b : Int32} (hP : PGW T n nm nk pl) (hG : PGG T n) (h : RP r p hi n nm nk A mA T G) (hs : RS G r mA nm pl) (hmi : mi < nm) (hmo : most ≤ 400) (hD : dq 0 6 + 3 ≤ D) (hQ : ∀ G', YR r G G' → EndR r nm mA pl (sRun T pl mi a b most) G' → Q (.inl none) G') : XC xms D 68 [.ref p, .ref r, .int (nI mi), .int a, .int b, .int (nI most)] G Q := by
  obtain ⟨d, rfl⟩ : ∃ d, D = d + 1 := ⟨D - 1, by omega⟩
  have hnm := hP.2.1
  have hd3 : 270 ≤ d := by unfold dq at hD; omega
  have l0 := hs.1.1
  unfold RL0 at l0
  have hPR := h.2.2.2.1
  unfold PR at hPR
  have p1 : Gkd G p = 4 := hPR.1
  have p2 : Gfr G 1020 p = some (p + 1) := hPR.2.1
  have p3 : Gkd G (p + 1) = 106 := hPR.2.2.1
  have p4 : Gln G (p + 1) = 8 := hPR.2.2.2.1
  have pr : ¬ rgn r p := h.out (Nat.le_refl _) (by have : p + 6 ≤ hi := h.2.2.2.1.t; omega)
  have m1 : Gar G (p + 1) mi = some (mA mi) := (h.2.2.2.2.2.1 mi hmi).1
  obtain ⟨mw, lo2, hh2, w2, hhn⟩ := hP.1 mi hmi
  have hm8 : mi < 8 := by omega
  have tb : ∀ kd, hX3_walk 3 kd = none := fun _ => rfl
  rw [XC_s]
  simp (disch := first | omega | exact cI _ | exact cR _ | exact cK | exact cU | exact cO _ | exact cL _) only [oS, uS.2, Nat.reduceAdd, Nat.reduceSub, Nat.reduceMul, Nat.reduceLeDiff, Nat.reduceEqDiff, Nat.add_sub_cancel, xS, gS, nL, nS, dS, fX3_walk_0, mX3_walk, zX3_walk, l0]
  refine k_begin (D := d) hs (by omega) (fun G1 h1 y1 f1 f29 f30 => ?_)
  have l1 := h1.1.1.1
  unfold RL0 at l1
  have yr1 : YR r G G1 := YI.yr (y1.mono (fun a q => ⟨q.1, by have := q.2; omega⟩))
  have r1 := h.yr yr1
  have q1 : Gkd G1 p = 4 := by rw [y1.2.2.2.1]; exact p1
  have q2 : Gfr G1 1020 p = some (p + 1) := by rw [y1.1]; exact p2
  have q3 : Gkd G1 (p + 1) = 106 := by rw [y1.2.2.2.1]; exact p3
  have q4 : Gln G1 (p + 1) = 8 := by rw [y1.2.2.2.2.1]; exact p4
  have q5 : Gar G1 (p + 1) mi = some (mA mi) := by rw [y1.2.2.1]; exact m1
  simp (disch := first | omega | exact cI _ | exact cR _ | exact cK | exact cU | exact cO _ | exact cL _) only [oS, uS.2, Nat.reduceAdd, Nat.reduceSub, Nat.reduceMul, Nat.reduceLeDiff, Nat.reduceEqDiff, Nat.add_sub_cancel, xS, gS, nL, nS, dS, mX3_walk, zX3_walk, l1, q1, q2, q3, q4, q5, hm8]
  refine k_enters (D := d) (B := bZero most) h1 (fun e => absurd e (by show ¬ (0 : Nat) = 12; decide)) (by show (0 : Nat) ≤ 12; decide) (by show (0 : Nat) ≤ 12; decide) (by show (0 : Nat) ≤ 401; decide) hmi (by omega) (fun e => absurd e (by show ¬ (0 : Nat) = 12; decide)) (fun _ G2 a1 a2 a3 a4 a5 a6 a7 => ?_)
  have e0 : (bZero most).1 10 = 0 := rfl
  rw [e0] at a4 a5 a6 a7 ⊢
  have l2 := a1.1.1.1
  unfold RL0 at l2
  have r2 := r1.ye a2
  have q12 : Gkd G2 p = 4 := by rw [a2.2.2.2.1]; exact q1
  have g29 : Gfi G2 29 r = 0 := (a4 r 29 (by omega) (by decide)).trans f29
  have g30 : Gfi G2 30 r = NN := (a4 r 30 (by omega) (by decide)).trans f30
  have hiv := @iv_0 mi most a b hmo
  have wk : WK r p hi n nm nk A mA T pl 0 999 0 NN (bEnter mi a b (bZero most)) G2 := ⟨r2, a1, hiv, fun f hf => by
    have e4 : (bEnter mi a b (bZero most)).1 4 = 0 := by simp [bEnter, bZero]
    omega, rfl, fun h9 => absurd rfl h9⟩
  have e9 : (bEnter mi a b (bZero most)).1 9 = 0 := by simp [bEnter, bZero]
  have e11 : (bEnter mi a b (bZero most)).1 11 = most := by simp [bEnter, bZero]
  simp (disch := first | omega | exact cI _ | exact cR _ | exact cK | exact cU | exact cO _ | exact cL _) only [oS, uS.2, Nat.reduceAdd, Nat.reduceSub, Nat.reduceMul, Nat.reduceLeDiff, Nat.reduceEqDiff, Nat.add_sub_cancel, xS, gS, nL, nS, dS, mX3_walk, zX3_walk, l2, q12]
  refine k_walks (bkA_of hP hG most) w2 hhn hmi (by omega) wk a7 (by omega) (fun z G3 o => ?_)
  obtain ⟨o1, -, -, o4⟩ := o
  have sq := sBlk_sg T pl most (Tm T mi) NN (bEnter mi a b (bZero most))
  have kpq := sBlk_kp T pl most (Tm T mi) NN (bEnter mi a b (bZero most)) (by omega) (by omega)
  unfold sRun at hQ
  generalize sBlk T pl most (Tm T mi) NN (bEnter mi a b (bZero most)) = q at *
  have yr3 : YR r G G3 := (yr1.trans a2.yr).trans o1.yr
  have h29 : Gfi G3 29 r = 0 := (o1.2.2.2.2.2.2.2.2.2.2 29 r (by decide) (by decide)).trans g29
  have h30 : Gfi G3 30 r = NN := (o1.2.2.2.2.2.2.2.2.2.2 30 r (by decide) (by decide)).trans g30
  have ys : ∀ (H : XG) (g : Nat) (v : Int32), YR r H (Sfi H g r v) := fun H g v => YI.yr (YI.fi ⟨Nat.le_refl _, by omega⟩)
  rcases o4 with ⟨c5, rfl, ru⟩ | ⟨c4, rfl, g33, ru⟩ | ⟨c3, rfl, ru⟩
  · have l3 := ru.1.1.1
    unfold RL0 at l3
    dsimp only at hQ
    rw [if_pos c5] at hQ
    have fi := hQ (Sfi G3 28 r (nI 2)) (yr3.trans (ys _ _ _)) ⟨Sfi_S, (Sfi_o (by decide)).trans h29, (Sfi_o (by decide)).trans h30, 0, ru.e3 (by decide) (by decide)⟩
    have t22 : hX3_walk 22 8 = some 55 := rfl
    simp (disch := first | omega | exact cI _ | exact cR _ | exact cK | exact cU | exact cO _ | exact cL _) only [oS, uS.2, Nat.reduceAdd, Nat.reduceSub, Nat.reduceMul, Nat.reduceLeDiff, Nat.reduceEqDiff, Nat.add_sub_cancel, xS, gS, nL, nS, dS, fX3_walk_55, fX3_walk_62, mX3_walk, zX3_walk, l3, t22, XHt_s, fi]
  · have l3 := ru.1.1.1
    unfold RL0 at l3
    dsimp only at hQ
    rw [if_neg (by omega), if_pos c4] at hQ
    have fi := hQ (Sfi (Sfi G3 28 r (nI 1)) 30 r q.2.1) ((yr3.trans (ys _ _ _)).trans (ys _ _ _)) ⟨(Sfi_o (by decide)).trans Sfi_S, (Sfi_o (by decide)).trans ((Sfi_o (by decide)).trans h29), Sfi_S, q.2.2.1 10 - 1, (ru.e3 (by decide) (by decide)).e3 (by decide) (by decide)⟩
    have t22 : hX3_walk 22 7 = some 36 := rfl
    simp (disch := first | omega | exact cI _ | exact cR _ | exact cK | exact cU | exact cO _ | exact cL _) only [oS, uS.2, Nat.reduceAdd, Nat.reduceSub, Nat.reduceMul, Nat.reduceLeDiff, Nat.reduceEqDiff, Nat.add_sub_cancel, xS, gS, nL, nS, dS, fX3_walk_36, fX3_walk_62, mX3_walk, zX3_walk, l3, t22, XHt_s, g33, fi]
  · have l3 := ru.1.1.1
    unfold RL0 at l3
    dsimp only at hQ
    rw [if_neg (by omega), if_neg (by omega)] at hQ
    generalize (if q.1 = 1 then q.2.1 else 0 : Int32) = v at hQ ⊢
    have fi := hQ (Sfi (Sfi G3 29 r v) 28 r (nI 0)) ((yr3.trans (ys _ _ _)).trans (ys _ _ _)) ⟨Sfi_S, (Sfi_o (by decide)).trans Sfi_S, (Sfi_o (by decide)).trans ((Sfi_o (by decide)).trans h30), q.2.2.1 10 - 1, (ru.e3 (by decide) (by decide)).e3 (by decide) (by decide)⟩
    simp (disch := first | omega | exact cI _ | exact cR _ | exact cK | exact cU | exact cO _ | exact cL _) only [oS, uS.2, Nat.reduceAdd, Nat.reduceSub, Nat.reduceMul, Nat.reduceLeDiff, Nat.reduceEqDiff, Nat.add_sub_cancel, xS, gS, nL, nS, dS, fX3_walk_62, mX3_walk, zX3_walk, l3, fi]
end RUN
