set_option maxRecDepth 100000
section RUN
variable {D d r kk lo hi p n nm nk : Nat} {A mA : Nat → Nat} {T : Pg} {pl : Nat → Int32 → Int32} {B B' : Bk} {G G' G2 : XG} {Q : (Option Value ⊕ Nat) → XG → Prop}
/-- a walk's end, by what it is -/
theorem oW.c {lo1 hi1 : Nat} {q : Rs} {z : Option Value ⊕ Nat} (h : oW r kk lo1 hi1 nm mA pl G q z G') : (q.1 = 4 ∧ z = .inr (r + 16) ∧ Gfi G' 33 (r + 16) = q.2.1 ∧ RU G' r mA nm pl q.2.2) ∨ (q.1 = 5 ∧ z = .inr (r + 17) ∧ RU G' r mA nm pl (b1 q.2.2 10 (kk + 1))) ∨ (q.1 < 4 ∧ RU G' r mA nm pl q.2.2 ∧ ∃ v, z = .inl (some (.int v)) ∧ ((v = nI 0) = (q.1 = 0)) ∧ (q.1 = 1 → Gfi G' 34 (r + 18 + 4 * kk) = q.2.1) ∧ ∀ lo hi G0 G3 B3, KT r kk lo hi G0 G3 → RU G3 r mA nm pl B3 → (q.1 = 1 → Gfi G3 34 (r + 18 + 4 * kk) = q.2.1) → oW r kk lo hi nm mA pl G0 (q.1, q.2.1, B3) (.inl (some (.int v))) G3) := by
  rcases h.2 with ⟨q0, e, ru⟩ | ⟨q0, e, g34, ru⟩ | ⟨q0, ⟨j, ej, j1, j2, e⟩, ru⟩ | ⟨q0, ⟨j, ej, j1, j2, e⟩, ru⟩ | ⟨q0, e, g33, ru⟩ | ⟨q0, e, ru⟩
  · exact .inr (.inr ⟨by omega, ru, _, e, by rw [q0]; exact propext ⟨fun _ => rfl, fun _ => rfl⟩, fun c => by omega, fun lo hi G0 G3 B3 k u f => ⟨k, .inl ⟨q0, rfl, u⟩⟩⟩)
  · exact .inr (.inr ⟨by omega, ru, _, e, by rw [q0, n_eq (by omega) (by omega)], fun _ => g34, fun lo hi G0 G3 B3 k u f => ⟨k, .inr (.inl ⟨q0, rfl, f q0, u⟩)⟩⟩)
  · exact .inr (.inr ⟨by omega, ru, _, e, by rw [q0, n_eq (by omega) (by omega)]; exact propext ⟨fun _ => by omega, fun _ => by omega⟩, fun c => by omega, fun lo hi G0 G3 B3 k u f => ⟨k, .inr (.inr (.inl ⟨q0, ⟨j, ej, j1, j2, rfl⟩, u⟩))⟩⟩)
  · exact .inr (.inr ⟨by omega, ru, _, e, by rw [q0, n_eq (by omega) (by omega)]; exact propext ⟨fun _ => by omega, fun _ => by omega⟩, fun c => by omega, fun lo hi G0 G3 B3 k u f => ⟨k, .inr (.inr (.inr (.inl ⟨q0, ⟨j, ej, j1, j2, rfl⟩, u⟩)))⟩⟩)
  · exact .inl ⟨q0, e, g33, ru⟩
  · exact .inr (.inl ⟨q0, e, ru⟩)
/-- where the top frame is -/
theorem RU.at {v : Int32} (h : RU G r mA nm pl B) (hk : kk < 12) : RU (Sfi G 35 (r + 18 + 4 * kk) v) r mA nm pl (b2 B (18 + 4 * kk) 0 v) := by
  have y : YZ (rgn r) G (Sfi G 35 (r + 18 + 4 * kk) v) := YZ.fi ⟨by omega, by omega⟩
  obtain ⟨b1, b2, b3, b4⟩ := h.1
  obtain ⟨e1, e2, e3, e4, e5, e6, e7, e8, e9, e10, e11⟩ := b2
  refine h.yz y ⟨b1.xz y, ⟨(Sfi_o (by omega)).trans e1, (Sfi_o (by omega)).trans e2, (Sfi_o (by omega)).trans e3, (Sfi_o (by omega)).trans e4, (Sfi_o (by omega)).trans e5, (Sfi_o (by omega)).trans e6, (Sfi_o (by omega)).trans e7, (Sfi_o (by omega)).trans e8, (Sfi_o (by omega)).trans e9, (Sfi_o (by omega)).trans e10, (Sfi_o (by omega)).trans e11⟩, fun o i hv => ?_, fun k hk => ⟨?_, (b4 k hk).2⟩⟩ h.2.2.1
  · show Gai G (r + o) i = (if o = 18 + 4 * kk ∧ i = 0 then v else B.2 o i)
    have hv' := hv
    unfold vld at hv
    rw [if_neg (by omega)]
    exact b3 o i hv'
  · show (if 35 = 35 ∧ r + 18 + 4 * k = r + 18 + 4 * kk then v else Gfi G 35 (r + 18 + 4 * k)) = (if 18 + 4 * k = 18 + 4 * kk ∧ 0 = 0 then v else B.2 (18 + 4 * k) 0)
    by_cases e : k = kk
    · rw [if_pos ⟨rfl, by omega⟩, if_pos ⟨by omega, rfl⟩]
    · rw [if_neg (by omega), if_neg (by omega)]
      exact (b4 k hk).1
theorem KT.sl {i : Nat} {v : Int32} (hk : kk < 12) (h1 : 8 * lo ≤ i) (h2 : i < 8 * hi) : KT r kk lo hi G (Sai G (r + 21 + 4 * kk) i v) := ⟨(YZ.ai (P := rgn r) ⟨by omega, by omega⟩).ye, fun j hj y => Sai_o (.inl (by omega)), fun y hy => Sai_o (.inr (by omega)), fun _ _ => rfl⟩
theorem KT.fi {f : Nat} {v : Int32} (hk : kk < 12) (hf : f < 28 ∨ 30 < f := by omega) : KT r kk lo hi G (Sfi G f (r + 18 + 4 * kk) v) := ⟨(YZ.fi (P := rgn r) ⟨by omega, by omega⟩ hf).ye, fun j hj y => rfl, fun y hy => rfl, fun j hj => if_neg (fun e => by omega)⟩
theorem KT.rf {f a : Nat} {v : Int32} (ha : rgb r a) (hf : f < 28 ∨ 30 < f := by omega) : KT r kk lo hi G (Sfi G f a v) := ⟨(YZ.fi (P := rgn r) ⟨ha.1, by have := ha.2; omega⟩ hf).ye, fun j hj y => rfl, fun y hy => rfl, fun j hj => if_neg (fun e => by have := ha.2; omega)⟩
theorem KT.ra {a i : Nat} {v : Int32} (ha : rgb r a) : KT r kk lo hi G (Sai G a i v) := ⟨(YZ.ai (P := rgn r) ⟨ha.1, by have := ha.2; omega⟩).ye, fun j hj y => Sai_o (.inl (by have := ha.2; omega)), fun y hy => Sai_o (.inl (by have := ha.2; omega)), fun _ _ => rfl⟩
theorem KT.op {s e : Nat} (y : YZ (fun a => rgb r a ∨ a = r + 21 + 4 * kk) G G') (hk : kk < 12) (he : s < e) (hs : ∀ y, (y < 8 * s + 4 ∨ 8 * s + 7 ≤ y) → Gai G' (r + 21 + 4 * kk) y = Gai G (r + 21 + 4 * kk) y) : KT r kk s e G G' := by
  refine ⟨(y.mono (P' := rgn r) (fun a q => ?_)).ye, fun j hj x => y.2.2.2.2.2.2.2.2.2.1 _ x (fun q => ?_), fun x hx => hs x (by omega), fun j hj => y.2.2.2.2.2.2.2.2.1 34 _ (fun q => ?_)⟩
  · rcases q with q | q
    · exact ⟨q.1, by have := q.2; omega⟩
    · exact ⟨by omega, by omega⟩
  · rcases q with q | q
    · have := q.2
      omega
    · omega
  · rcases q with q | q
    · have := q.2
      omega
    · omega
theorem sOpens_10 {pl : Nat → Int32 → Int32} {s : Nat} : ∀ (n i : Nat) (B : Bk), (sOpens pl s n i B).2.2.2.1 10 = B.1 10 := by
  intro n
  induction n with
  | zero => intro i B; rfl
  | succ n ih =>
    intro i B
    unfold sOpens
    split
    · rfl
    · dsimp only
      split
      · rw [ih]
        exact bPass_c.2.1
      · exact bMakes_c.2.1.trans bPass_c.2.1
theorem sOpens_04 {pl : Nat → Int32 → Int32} {s : Nat} : ∀ (n i : Nat) (B : Bk), (sOpens pl s n i B).2.1 = 0 ∨ (sOpens pl s n i B).2.1 = 4 ∨ (sOpens pl s n i B).2.1 = 5 := by
  intro n
  induction n with
  | zero => intro i B; exact .inl rfl
  | succ n ih =>
    intro i B
    unfold sOpens
    split
    · exact .inr (.inr rfl)
    · dsimp only
      split
      · exact ih _ _
      · exact .inr (.inl rfl)
theorem sCl_10 {pl : Nat → Int32 → Int32} {s o : Nat} : ∀ (n p : Nat) (v : Int32) (B : Bk), (sCl pl s o n p v B).2.2.1 10 = B.1 10 := by
  intro n
  induction n with
  | zero => intro p v B; rfl
  | succ n ih =>
    intro p v B
    unfold sCl
    split
    · rfl
    · dsimp only
      have e : (bPass (7 * s + 4 + n) (b1 (b2 (bStp B) 10 ((bStp B).1 6) (nI (o + n))) 6 ((bStp B).1 6 + 1))).1 10 = B.1 10 := bPass_c.2.1
      split
      · rw [ih]
        exact e
      · split
        · rw [ih, bSup_c]
          exact bMakes_c.2.1.trans e
        · rw [ih]
          exact bMakes_c.2.1.trans e
/-- the first block of a with: the walk -/
theorem w_inner {bk : Wk} {m mw tg lp dp s x e na : Nat} {tk : Int32} (hb : bkA r p hi n nm nk A mA T pl bk m) (hP : PGW T n nm nk pl) (wa : wB T nm mw tg lp dp (Tl T s) (s + 1) x) (hs : s < n) (hk : Tk T s = 17) (hna : Ta T s = nI na) (hna3 : na ≤ 3) (hm : B.1 11 - B.1 9 ≤ m) (hx : x ≤ e) (hse : s < e) (he : e ≤ n) (hl : lp + dp ≤ 6) (h : WK r p hi n nm nk A mA T pl kk tg s tk B G) (hD : dq kk dp + 1 ≤ D) (hQ : ∀ z G', oW r kk s e nm mA pl G (sInner T pl bk s tk B) z G' → Q z G') : XC xms D 264 [.ref (A s), .ref r, .ref (r + 18 + 4 * kk)] G Q := by
  have h0 := h
  obtain ⟨hr, hu, hI, hkb, h10, ht⟩ := h
  have hib := hI.1
  have hk12 : kk < 12 := by omega
  have hn80 := hP.2.2.1
  have hvp := hP.vpl
  obtain ⟨o3, o1, o2, k1, k2, k3, -⟩ := hr.sk hs hk
  obtain ⟨bb, ebb, hbb⟩ := k3.o
  have kz : Gkd G (A s) = 32 := k1
  have fz : Gfi G 94 (A s) = nI na := Eq.trans k2 hna
  have nz : Gfi G 82 (A s) = nI s := o3
  have ebb : Gfr G 1135 (A s) = some bb := ebb
  have nsr : ¬ rgn r (A s) := hr.out (by omega) o2
  obtain ⟨u1, u2, u3, u4, u5, u6, u7, u8, u9, u10, u11⟩ := hu.1.1.2 _ hk12
  have l0 := hu.1.1.1
  unfold RL0 at l0
  obtain ⟨d, rfl⟩ : ∃ d, D = d + 1 + 1 := ⟨D - 2, by unfold dq at hD; omega⟩
  have hdd : dq kk dp ≤ d + 1 := by omega
  have hd3 : 280 ≤ d + 1 := by unfold dq at hdd; omega
  -- what it comes to
  obtain ⟨w, hw⟩ : ∃ w, sOpens pl s na 0 B = w := ⟨_, rfl⟩
  have es : sInner T pl bk s tk B = if w.2.1 = 5 then w.2 else if (if w.2.1 = 0 then bk (Tl T s) tk w.2.2.2 else w.2).1 = 5 then (if w.2.1 = 0 then bk (Tl T s) tk w.2.2.2 else w.2) else sCl pl s (B.1 5) w.1 (if w.2.1 = 0 then bk (Tl T s) tk w.2.2.2 else w.2).1 (if w.2.1 = 0 then bk (Tl T s) tk w.2.2.2 else w.2).2.1 (b2 (if w.2.1 = 0 then bk (Tl T s) tk w.2.2.2 else w.2).2.2 (oAt (if w.2.1 = 0 then bk (Tl T s) tk w.2.2.2 else w.2).2.2) 0 (nI s)) := by
    unfold sInner
    rw [if_neg (by omega), hna, n_clamp (by omega)]
    dsimp only
    rw [hw]
  rw [es] at hQ
  clear es
  have e84 : 8 * s + 4 < 2147483648 := by omega
  have t47 : ∀ kd, hX31_inner 47 kd = if kd = 7 then some 55 else none := fun _ => rfl
  have t20 : ∀ kd, hX31_inner 20 kd = none := fun _ => rfl
  have t86 : ∀ kd, hX31_inner 86 kd = none := fun _ => rfl
  have t107 : ∀ kd, hX31_inner 107 kd = none := fun _ => rfl
  -- closing
  have clo : ∀ (q : Rs) G2 (v : Int32) x7, q.1 ≠ 5 → RU G2 r mA nm pl q.2.2 → WK r p hi n nm nk A mA T pl kk tg s tk q.2.2 G2 → KT r kk s e G G2 → (q.1 = 4 → vK q.2.2 q.2.1) → (∀ i, i < w.1 → Gai G2 (r + 21 + 4 * kk) (8 * s + 4 + i) = nI (B.1 5 + i)) → w.1 ≤ 3 → (q.1 ≠ 4 → ∀ G3 B3, KT r kk s e G G3 → RU G3 r mA nm pl B3 → (q.1 = 1 → Gfi G3 34 (r + 18 + 4 * kk) = Gfi G2 34 (r + 18 + 4 * kk)) → oW r kk s e nm mA pl G (q.1, q.2.1, B3) (.inl (some (.int v))) G3) → (∀ z G', oW r kk s e nm mA pl G (sCl pl s (B.1 5) w.1 q.1 q.2.1 (b2 q.2.2 (oAt q.2.2) 0 (nI s))) z G' → Q z G') → XL xms (d + 1) 264 64 [.ref (A s), .ref r, .ref (r + 18 + 4 * kk), .int (nI (8 * s + 4)), .int (nI w.1), .int (if q.1 = 4 then q.2.1 else NN), .int v, x7] [] G2 Q := by
    intro q G2 v x7 q5 ru wk kt hv4 hsl w3 hway hQ
    have hI2 := wk.2.2.1
    have h102 := wk.2.2.2.2.1
    have eat : oAt q.2.2 = 18 + 4 * kk := by unfold oAt; omega
    rw [eat] at hQ
    have ru2 : RU (Sfi G2 35 (r + 18 + 4 * kk) (nI s)) r mA nm pl (b2 q.2.2 (18 + 4 * kk) 0 (nI s)) := ru.at hk12
    have I2 : Iv 0 0 0 0 0 (b2 q.2.2 (18 + 4 * kk) 0 (nI s)) := hI2.s2 (by omega)
    have kt2 : KT r kk s e G (Sfi G2 35 (r + 18 + 4 * kk) (nI s)) := kt.trans (KT.fi hk12)
    have g34 : Gfi (Sfi G2 35 (r + 18 + 4 * kk) (nI s)) 34 (r + 18 + 4 * kk) = Gfi G2 34 (r + 18 + 4 * kk) := Sfi_o (by decide)
    have hsl2 : ∀ i, i < w.1 → Gai (Sfi G2 35 (r + 18 + 4 * kk) (nI s)) (r + 21 + 4 * kk) (8 * s + 4 + i) = (fun y => nI (B.1 5 + (y - (8 * s + 4)))) (8 * s + 4 + i) := fun i hi' => by
      show Gai G2 _ _ = nI (B.1 5 + (8 * s + 4 + i - (8 * s + 4)))
      rw [hsl i hi', show 8 * s + 4 + i - (8 * s + 4) = i from by omega]
    have vk2 : q.1 = 4 → vK (b2 q.2.2 (18 + 4 * kk) 0 (nI s)) q.2.1 := fun c => (hv4 c).mono (Nat.le_refl _)
    have kz2 : Gkd G2 (A s) = 32 := by rw [kt.1.2.2.2.1]; exact kz
    have nz2 : Gfi G2 82 (A s) = nI s := (kt.1.2.2.2.2.2.2.2.2.1 82 _ nsr).trans nz
    have u22 : Gkd G2 (r + 18 + 4 * kk) = 9 := by rw [kt.1.2.2.2.1]; exact u2
    have u52 : Gfr G2 1055 (r + 18 + 4 * kk) = some (r + 21 + 4 * kk) := (kt.1.1 1055 _ (.inl (by decide))).trans u5
    have ne35 : (A s = r + 18 + 4 * kk) = False := eq_false (fun q => nsr ⟨by omega, by omega⟩)
    have l2 := ru.1.1.1
    unfold RL0 at l2
    rw [fX31_inner_64]
    simp (disch := first | omega | exact cI _ | exact cR _ | exact cK | exact cU | exact cO _ | exact cL _) only [oS, uS.2, Nat.reduceAdd, Nat.reduceSub, Nat.reduceMul, Nat.reduceLeDiff, Nat.reduceEqDiff, Nat.add_sub_cancel, xS, gS, nL, nS, dS, mX31_inner, zX31_inner, l2, kz2, nz2, u22, u52, ne35]
    generalize Sfi G2 35 (r + 18 + 4 * kk) (nI s) = G3 at ru2 kt2 g34 hsl2 ⊢
    refine k_closes (D := d + 1) (s := s) (k := kk) (n := w.1) (p := q.1) (v := q.2.1) (sl := fun y => nI (B.1 5 + (y - (8 * s + 4)))) hvp (by omega) hk12 (by omega) w3 ru2 I2 hsl2 vk2 q5 (fun z G4 o => ?_)
    rw [cCl_e w.1 q.1 q.2.1 _ (fun i hi' => by show nI (B.1 5 + (8 * s + 4 + i - (8 * s + 4))) = _; rw [show 8 * s + 4 + i - (8 * s + 4) = i from by omega])] at o
    have hx4 := fun (c : q.1 ≠ 4) => sCl_p (pl := pl) (s := s) (o := B.1 5) w.1 q.1 q.2.1 (b2 q.2.2 (18 + 4 * kk) 0 (nI s)) c
    have hx45 := fun (v' : Int32) => sCl_45 (pl := pl) (s := s) (o := B.1 5) w.1 v' (b2 q.2.2 (18 + 4 * kk) 0 (nI s))
    have hiv := sCl_iv hvp (s := s) (o := B.1 5) w.1 q.1 q.2.1 _ I2 vk2
    have hkp := sCl_kp (pl := pl) (s := s) (o := B.1 5) w.1 q.1 q.2.1 (b2 q.2.2 (18 + 4 * kk) 0 (nI s)) I2.le
    obtain ⟨q3, hq3⟩ : ∃ q3, sCl pl s (B.1 5) w.1 q.1 q.2.1 (b2 q.2.2 (18 + 4 * kk) 0 (nI s)) = q3 := ⟨_, rfl⟩
    rw [hq3] at hQ o hiv hkp
    obtain ⟨c1, c2, c3⟩ := o
    have kt4 : KT r kk s e G G4 := kt2.trans (c2.kt hk12)
    have l4 := c1.1.1.1
    unfold RL0 at l4
    rcases c3 with ⟨c5, rfl⟩ | ⟨c5, rfl⟩
    · have fin : Q (.inr (r + 17)) G4 := hQ _ _ ⟨kt4, .inr (.inr (.inr (.inr (.inr ⟨c5, rfl, ?_⟩))))⟩
      · simp (disch := first | omega | exact cI _ | exact cR _ | exact cK | exact cU | exact cO _ | exact cL _) only [oS, uS.2, Nat.reduceAdd, Nat.reduceSub, Nat.reduceMul, Nat.reduceLeDiff, Nat.reduceEqDiff, Nat.add_sub_cancel, xS, gS, nL, nS, dS, mX31_inner, zX31_inner, l4, t86, XHt_n, fin]
      · have e10 : q3.2.2.1 10 = kk + 1 := by
          have hh := sCl_10 (pl := pl) (s := s) (o := B.1 5) w.1 q.1 q.2.1 (b2 q.2.2 (18 + 4 * kk) 0 (nI s))
          rw [hq3] at hh
          exact hh.trans h102
        have e11 : b1 q3.2.2 10 (kk + 1) = q3.2.2 := by
          refine Prod.ext (funext fun x => ?_) rfl
          show (if x = 10 then kk + 1 else q3.2.2.1 x) = q3.2.2.1 x
          by_cases c : x = 10
          · rw [if_pos c, c, e10]
          · rw [if_neg c]
        rw [e11]
        exact c1
    · by_cases c4 : q3.1 = 4
      · obtain ⟨f, ef, hf⟩ := (hiv c5).2.2 c4
        have hfb : f < 2147483648 := by
          have := (hiv c5).1.1
          omega
        rw [if_pos c4]
        have fin : Q (.inr (r + 16)) (Sfi G4 33 (r + 16) q3.2.1) := hQ _ _ ⟨kt4.trans (KT.rf ⟨by omega, by omega⟩), .inr (.inr (.inr (.inr (.inl ⟨c4, rfl, Sfi_S, c1.fi (by decide) (by decide) ⟨by omega, by omega⟩⟩))))⟩
        rw [ef] at fin ⊢
        simp (disch := first | omega | exact cI _ | exact cR _ | exact cK | exact cU | exact cO _ | exact cL _) only [oS, uS.2, Nat.reduceAdd, Nat.reduceSub, Nat.reduceMul, Nat.reduceLeDiff, Nat.reduceEqDiff, Nat.add_sub_cancel, xS, gS, nL, nS, dS, mX31_inner, zX31_inner, FX6_with, mX6_with, zX6_with, XC_s (k := 93), l4, t107, XHt_n, fin]
      · rw [if_neg c4]
        have q4 : q.1 ≠ 4 := fun c => by
          rw [c] at hq3
          have := hx45 q.2.1
          rw [hq3] at this
          omega
        have e3 : q3 = (q.1, q.2.1, (sCl pl s (B.1 5) w.1 0 0 (b2 q.2.2 (18 + 4 * kk) 0 (nI s))).2.2) := by
          rcases hx4 q4 with ⟨-, e⟩ | ⟨e0, e⟩
          · rw [← hq3, e]
          · rw [hq3] at e
            rw [← e] at e0
            omega
        have fin : Q (.inl (some (.int v))) G4 := hQ _ _ (by
          rw [e3]
          rw [e3] at c1
          exact hway q4 G4 _ kt4 c1 (fun _ => by
            rw [c2.2.2.2.2.2.2.2.2.1 34 (r + 18 + 4 * kk) (fun q => by have := q.2; omega)]
            exact g34))
        simp (disch := first | omega | exact cI _ | exact cR _ | exact cK | exact cU | exact cO _ | exact cL _) only [oS, uS.2, Nat.reduceAdd, Nat.reduceSub, Nat.reduceMul, Nat.reduceLeDiff, Nat.reduceEqDiff, Nat.add_sub_cancel, xS, gS, nL, nS, dS, fX31_inner_108, mX31_inner, zX31_inner, l4, fin]
  rw [XC_s]
  simp (disch := first | omega | exact cI _ | exact cR _ | exact cK | exact cU | exact cO _ | exact cL _) only [oS, uS.2, Nat.reduceAdd, Nat.reduceSub, Nat.reduceMul, Nat.reduceLeDiff, Nat.reduceEqDiff, Nat.add_sub_cancel, xS, gS, nL, nS, dS, fX31_inner_0, mX31_inner, zX31_inner, FX31_slot, mX31_slot, zX31_slot, XC_s (k := 261), l0, kz, nz, fz, u2, u5]
  refine k_opens (D := d + 1) (s := s) (k := kk) (n := na) hvp (by omega) hk12 (by omega) hna3 hu hI (fun z G1 o => ?_)
  have hov := sOpens_iv hvp (s := s) na 0 B hI
  have hok := @sOpens_kp pl s na 0 B hI.le
  have hob := sOpens_kb (P := kV nk) hP.2.2.2.1 (s := s) na 0 B hkb
  have hon := (sOpens_n (pl := pl) (s := s) na 0 B).1
  have ho04 := sOpens_04 (pl := pl) (s := s) na 0 B
  rw [hw] at o hov hok hob hon ho04
  obtain ⟨c1, c2, c3⟩ := o
  have l1 := c1.1.1.1
  unfold RL0 at l1
  rcases c3 with ⟨c5, rfl, csl⟩ | ⟨c5, rfl, c31, -, cw3, csl⟩
  · rw [if_pos c5] at hQ
    have fin : Q (.inr (r + 17)) G1 := hQ _ _ ⟨KT.op c2 hk12 hse csl, .inr (.inr (.inr (.inr (.inr ⟨c5, rfl, ?_⟩))))⟩
    · simp (disch := first | omega | exact cI _ | exact cR _ | exact cK | exact cU | exact cO _ | exact cL _) only [oS, uS.2, Nat.reduceAdd, Nat.reduceSub, Nat.reduceMul, Nat.reduceLeDiff, Nat.reduceEqDiff, Nat.add_sub_cancel, xS, gS, nL, nS, dS, mX31_inner, zX31_inner, l1, t20, XHt_n, fin]
    · have e10 : w.2.2.2.1 10 = kk + 1 := by
        have hh := sOpens_10 (pl := pl) (s := s) na 0 B
        rw [hw] at hh
        exact hh.trans h10
      have e11 : b1 w.2.2.2 10 (kk + 1) = w.2.2.2 := by
        refine Prod.ext (funext fun x => ?_) rfl
        show (if x = 10 then kk + 1 else w.2.2.2.1 x) = w.2.2.2.1 x
        by_cases c : x = 10
        · rw [if_pos c, c, e10]
        · rw [if_neg c]
      rw [e11]
      exact c1
  · rw [if_neg c5] at hQ
    have kt1 : KT r kk s e G G1 := KT.op c2 hk12 hse (fun y hy => (csl y).trans (if_neg (by omega)))
    have wk1 : WK r p hi n nm nk A mA T pl kk tg s tk w.2.2.2 G1 := h0.aft (q := w.2) kt1 (Nat.le_refl _) c1 c5 hov hok hob
    have sl1 : ∀ i, i < w.1 → Gai G1 (r + 21 + 4 * kk) (8 * s + 4 + i) = nI (B.1 5 + i) := fun i hi' => by
      rw [csl, if_pos ⟨by omega, by omega⟩, show 8 * s + 4 + i - (8 * s + 4) = i from by omega]
    have kz1 : Gkd G1 (A s) = 32 := by rw [kt1.1.2.2.2.1]; exact kz
    have fr1 : Gfr G1 1135 (A s) = some bb := (kt1.1.1 1135 _ (.inl (by decide))).trans ebb
    have hbb1 : BA (Tp hi G1) (p + 6) A (some bb) (Tl T s) := hbb.kq kt1.1.kq (fun a q => hr.1.n (by omega))
    by_cases c4 : w.2.1 = 4
    · rw [if_neg (show ¬ w.2.1 = 0 by omega)] at hQ
      rw [if_neg c5] at hQ
      rw [if_pos c4] at c31
      obtain ⟨f, ef, hf⟩ := (hov c5).2.2 c4
      have hfb : f < 2147483648 := by
        have := (hov c5).1.1
        omega
      have fin : ∀ x7, XL xms (d + 1) 264 64 [.ref (A s), .ref r, .ref (r + 18 + 4 * kk), .int (nI (8 * s + 4)), .int (nI w.1), .int (nI f), .int (nI 0), x7] [] G1 Q := fun x7 => by
        have := clo w.2 G1 (nI 0) x7 c5 c1 wk1 kt1 (fun _ => (hov c5).2.2 c4) sl1 cw3 (fun c => absurd c4 c) hQ
        rw [if_pos c4, ef] at this
        exact this
      rw [ef] at c31
      simp (disch := first | omega | exact cI _ | exact cR _ | exact cK | exact cU | exact cO _ | exact cL _) only [oS, uS.2, Nat.reduceAdd, Nat.reduceSub, Nat.reduceMul, Nat.reduceLeDiff, Nat.reduceEqDiff, Nat.add_sub_cancel, xS, gS, nL, nS, dS, mX31_inner, zX31_inner, l1, c31, fin]
    · have c0 : w.2.1 = 0 := by omega
      rw [if_pos c0] at hQ
      rw [if_neg c4] at c31
      simp (disch := first | omega | exact cI _ | exact cR _ | exact cK | exact cU | exact cO _ | exact cL _) only [oS, uS.2, Nat.reduceAdd, Nat.reduceSub, Nat.reduceMul, Nat.reduceLeDiff, Nat.reduceEqDiff, Nat.add_sub_cancel, xS, gS, nL, nS, dS, mX31_inner, zX31_inner, l1, c31, kz1, fr1]
      obtain ⟨k31, k32, k33, k34⟩ := hok
      refine hb.go wa (by omega) (by omega) hl wk1 (by omega) hbb1 hdd (fun z G2 o wk kp2 => ?_)
      have hov2 := hb.2.1 mw tg lp dp (Tl T s) (s + 1) x tk w.2.2.2 wa (by omega) wk1.2.2.1 (fun h9 => (wk1.2.2.2.2.2 h9).2.2.2)
      obtain ⟨q, hq⟩ : ∃ q, bk (Tl T s) tk w.2.2.2 = q := ⟨_, rfl⟩
      rw [hq] at o wk kp2 hQ hov2
      have kt2 : KT r kk s e G G2 := kt1.trans (o.1.mono (by omega) hx)
      have sl2 : ∀ i, i < w.1 → Gai G2 (r + 21 + 4 * kk) (8 * s + 4 + i) = nI (B.1 5 + i) := fun i hi' => (o.1.2.2.1 _ (.inl (by omega))).trans (sl1 i hi')
      rcases o.c with ⟨q4, rfl, g33, ru⟩ | ⟨q5, rfl, ru⟩ | ⟨q3, ru, v, rfl, v0, g34, hway⟩
      · have l2 := ru.1.1.1
        unfold RL0 at l2
        rw [if_neg (by omega)] at hQ
        have fin : ∀ x7, XL xms (d + 1) 264 64 [.ref (A s), .ref r, .ref (r + 18 + 4 * kk), .int (nI (8 * s + 4)), .int (nI w.1), .int q.2.1, .int (nI 0), x7] [] G2 Q := fun x7 => by
          have := clo q G2 (nI 0) x7 (by omega) ru (wk (by omega)) kt2 (fun _ => (hov2 (by omega)).2.2 q4) sl2 cw3 (fun c => absurd q4 c) hQ
          rw [if_pos q4] at this
          exact this
        have t47' : hX31_inner 47 7 = some 55 := rfl
        simp (disch := first | omega | exact cI _ | exact cR _ | exact cK | exact cU | exact cO _ | exact cL _) only [oS, uS.2, Nat.reduceAdd, Nat.reduceSub, Nat.reduceMul, Nat.reduceLeDiff, Nat.reduceEqDiff, Nat.add_sub_cancel, xS, gS, nL, nS, dS, fX31_inner_55, mX31_inner, zX31_inner, l2, t47', XHt_s, g33, fin]
      · have l2 := ru.1.1.1
        unfold RL0 at l2
        rw [if_pos q5] at hQ
        have t47' : hX31_inner 47 8 = none := rfl
        have fin := hQ _ _ (o.of kt1 (by omega) hx)
        simp (disch := first | omega | exact cI _ | exact cR _ | exact cK | exact cU | exact cO _ | exact cL _) only [oS, uS.2, Nat.reduceAdd, Nat.reduceSub, Nat.reduceMul, Nat.reduceLeDiff, Nat.reduceEqDiff, Nat.add_sub_cancel, xS, gS, nL, nS, dS, mX31_inner, zX31_inner, l2, t47', XHt_n, fin]
      · rw [if_neg (by omega)] at hQ
        have fin : ∀ x7, XL xms (d + 1) 264 64 [.ref (A s), .ref r, .ref (r + 18 + 4 * kk), .int (nI (8 * s + 4)), .int (nI w.1), .int NN, .int v, x7] [] G2 Q := fun x7 => by
          have := clo q G2 v x7 (by omega) ru (wk (by omega)) kt2 (fun c => by omega) sl2 cw3 (fun _ G3 B3 k u f => hway s e G G3 B3 k u (fun c => (f c).trans (g34 c))) hQ
          rw [if_neg (show ¬ q.1 = 4 by omega)] at this
          exact this
        simp (disch := first | omega | exact cI _ | exact cR _ | exact cK | exact cU | exact cO _ | exact cL _) only [oS, uS.2, Nat.reduceAdd, Nat.reduceSub, Nat.reduceMul, Nat.reduceLeDiff, Nat.reduceEqDiff, Nat.add_sub_cancel, xS, gS, nL, nS, dS, mX31_inner, zX31_inner, fin]
end RUN
