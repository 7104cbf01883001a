set_option maxRecDepth 100000
def ivB (T : Pg) (nm : Nat) (bk : Wk) (n : Nat) : Prop := ∀ mw tg lp dp ss lo hi tk B, wB T nm mw tg lp dp ss lo hi → B.1 11 - B.1 9 ≤ n → Iv 0 0 0 0 0 B → (tg ≠ 999 → vK B tk) → ivR B (bk ss tk B)
def wPg (T : Pg) (nm : Nat) : Prop := ∀ mi, mi < nm → ∃ mw dp lo hi, wB T nm mw 999 0 dp (Tm T mi) lo hi
section INV
variable {T : Pg} {nm : Nat} {pl : Nat → Int32 → Int32} {bk : Wk} {n : Nat}
theorem Iv.le {x3 x4 x5 x6 x12 : Nat} {B : Bk} (h : Iv x3 x4 x5 x6 x12 B) : B.1 9 ≤ B.1 11 := h.1.2.1
theorem sLoop_iv (hb : ivB T nm bk n) (hk : kpB bk n) {mw tg lp dp lo hi : Nat} {ss : List Nat} {tk : Int32} (w : wB T nm mw tg lp dp ss lo hi) : ∀ (t : Nat) (B : Bk), B.1 11 - B.1 9 ≤ n → Iv 0 0 0 0 0 B → (tg ≠ 999 → vK B tk) → ivR B (sLoop bk ss tk t B) := by
  intro t
  induction t with
  | zero => intro B _ h _ _; exact ⟨h, Nat.le_refl _, fun e => absurd e (show ¬ (0 : Nat) = 4 from by decide)⟩
  | succ t ih =>
    intro B hn h ht
    unfold sLoop
    split
    · exact fun h5 => absurd rfl h5
    · next hs =>
      have hl := isSpent_no hs h.le
      have e9 : (bStp B).1 9 = B.1 9 + 1 := rfl
      have e11 : (bStp B).1 11 = B.1 11 := rfl
      have e4 : (bStp B).1 4 = B.1 4 := rfl
      have r1 := hb mw tg lp dp ss lo hi tk (bStp B) w (by omega) (h.stp hs).z (fun h9 => (ht h9).mono (by omega))
      obtain ⟨k1, k2, k3, k4⟩ := hk ss tk (bStp B) (by omega) (by omega)
      dsimp only
      generalize bk ss tk (bStp B) = q at *
      split
      · next hc =>
        have h5 : q.1 ≠ 5 := by rcases hc with e | e <;> omega
        obtain ⟨i1, i2, i3⟩ := r1 h5
        exact (ih q.2.2 (by omega) i1 (fun h9 => (ht h9).mono (by omega))).from (by omega)
      · split
        · next hc =>
          obtain ⟨i1, i2, i3⟩ := r1 (by omega)
          exact fun _ => ⟨i1, by show B.1 4 ≤ q.2.2.1 4; omega, fun e => absurd e (show ¬ (0 : Nat) = 4 from by decide)⟩
        · split
          · next hc =>
            obtain ⟨i1, i2, i3⟩ := r1 (by omega)
            exact fun _ => ⟨i1, by show B.1 4 ≤ q.2.2.1 4; omega, fun e => by have e : q.1 = 4 := e; omega⟩
          · exact r1.from (by omega)
theorem sInner_iv (hp : vPl pl) (hb : ivB T nm bk n) (hk : kpB bk n) {mw tg lp dp s hi : Nat} {tk : Int32} {B : Bk} (w : wB T nm mw tg lp dp (Tl T s) (s + 1) hi) (hn : B.1 11 - B.1 9 ≤ n) (h : Iv 0 0 0 0 0 B) (ht : tg ≠ 999 → vK B tk) : ivR B (sInner T pl bk s tk B) := by
  unfold sInner
  split
  · exact hb _ _ _ _ _ _ _ _ _ w hn h ht
  · have r0 := sOpens_iv hp (s := s) (Ta T s).toNatClampNeg 0 B h
    obtain ⟨k1, k2, k3, k4⟩ := @sOpens_kp pl s (Ta T s).toNatClampNeg 0 B h.le
    dsimp only
    generalize sOpens pl s (Ta T s).toNatClampNeg 0 B = z at *
    split
    · next h5 => exact fun h => absurd h5 h
    · next h5 =>
      obtain ⟨i1, i2, i3⟩ := r0 h5
      have rq : ivR B (if z.2.1 = 0 then bk (Tl T s) tk z.2.2.2 else z.2) := by
        split
        · exact (hb _ _ _ _ _ _ _ _ _ w (by omega) i1 (fun h9 => (ht h9).mono (by omega))).from (by omega)
        · exact r0
      generalize (if z.2.1 = 0 then bk (Tl T s) tk z.2.2.2 else z.2) = q at *
      split
      · next q5 => exact fun h => absurd q5 h
      · next q5 =>
        obtain ⟨j1, j2, j3⟩ := rq q5
        exact (sCl_iv hp z.1 q.1 q.2.1 _ j1.sat (fun e => (j3 e).mono (Nat.le_refl _))).from j2
theorem cau_iv (hb : ivB T nm bk n) {mw lp dp s x y : Nat} {B : Bk} {r : Rs} (w : wC (wB T nm mw) s lp dp (Tc T s) x y) (hr : ivR B r) (hn : r.1 ≠ 5 → r.2.2.1 11 - r.2.2.1 9 ≤ n) : ivR B (cau T bk s r) := by
  unfold cau
  split
  · next h4 =>
    obtain ⟨i1, i2, i3⟩ := hr (by omega)
    cases hc : catchFor T (r.2.2.2 3 r.2.1.toNatClampNeg) (Tc T s) with
    | none => exact hr
    | some b =>
      obtain ⟨x1, y1, w1, -⟩ := wC_in (wB_le T nm mw) w hc
      exact (hb _ _ _ _ _ _ _ _ _ w1 (hn (by omega)) i1 (fun _ => i3 h4)).from i2
  · exact hr
theorem fin_iv (hb : ivB T nm bk n) {mw tg lp dp s x y : Nat} {tk : Int32} {B : Bk} {r : Rs} (w : wO (wB T nm mw) tg lp dp (To T s) x y) (hr : ivR B r) (hn : r.1 ≠ 5 → r.2.2.1 11 - r.2.2.1 9 ≤ n) (ht : tg ≠ 999 → vK B tk) : ivR B (fin T bk s tk r) := by
  unfold fin
  cases hT : To T s with
  | none => exact hr
  | some b =>
    rw [hT] at w
    dsimp only
    split
    · next h5 => exact fun h => absurd h5 h
    · next h5 =>
      obtain ⟨i1, i2, i3⟩ := hr h5
      have r1 := hb mw tg lp dp b x y tk (b2 r.2.2 11 s (r.2.2.2 11 s + 1)) w (hn h5) (i1.s2 (by omega)) (fun h9 => (ht h9).mono i2)
      have e4 : (b2 r.2.2 11 s (r.2.2.2 11 s + 1)).1 4 = r.2.2.1 4 := rfl
      generalize bk b tk (b2 r.2.2 11 s (r.2.2.2 11 s + 1)) = z at *
      split
      · next z5 => exact fun h => absurd z5 h
      · next z5 =>
        obtain ⟨j1, j2, j3⟩ := r1 z5
        split
        · exact fun _ => ⟨j1, by show B.1 4 ≤ z.2.2.1 4; omega, fun e => (i3 e).mono (show r.2.2.1 4 ≤ z.2.2.1 4 from by omega)⟩
        · split
          · exact fun _ => ⟨j1.s7, by show B.1 4 ≤ z.2.2.1 4; omega, fun e => (j3 e).mono (Nat.le_refl _)⟩
          · exact r1.from (by omega)
theorem Iv.ent {m : Nat} {x y : Int32} {B : Bk} (h : Iv 0 0 0 0 0 B) (hd : B.1 10 ≠ 12) : Iv 0 0 0 0 0 (bEnter m x y B) := by
  obtain ⟨⟨a1, a2, a3, a4, a5, a6, a7, a8, a9, a10, a11⟩, b1, b2', b3⟩ := h
  have eo : ∀ c, c < 100 → c ≠ 10 → c ≠ 8 → (bEnter m x y B).1 c = B.1 c := by
    intro c h1 h2 h3
    simp only [bEnter]
    rw [if_neg h2, if_neg h3, if_neg (by omega)]
  have e10 : (bEnter m x y B).1 10 = B.1 10 + 1 := rfl
  have e8 : (bEnter m x y B).1 8 = if B.1 8 < B.1 10 + 1 then B.1 10 + 1 else B.1 8 := rfl
  have f8 : (bEnter m x y B).1 8 ≤ 12 := by rw [e8]; split <;> omega
  have e3 := eo 3 (by omega) (by omega) (by omega)
  have e4 := eo 4 (by omega) (by omega) (by omega)
  have e5 := eo 5 (by omega) (by omega) (by omega)
  have e6 := eo 6 (by omega) (by omega) (by omega)
  have e9 := eo 9 (by omega) (by omega) (by omega)
  have e11 := eo 11 (by omega) (by omega) (by omega)
  have e12 := eo 12 (by omega) (by omega) (by omega)
  have e13 := eo 13 (by omega) (by omega) (by omega)
  refine ⟨⟨by omega, by omega, by omega, by omega, by omega, by omega, by omega, by omega, by omega, by omega, f8⟩, fun f hf => ?_, fun d i hd' hi => ?_, fun n hn => ?_⟩
  · have rr : ∀ o, o ≤ 8 → (bEnter m x y B).2 o f = B.2 o f := by
      intro o h1
      simp only [bEnter]
      rw [if_neg (by omega), if_neg (by omega), if_neg (by omega)]
    rw [rr 3 (by omega), rr 5 (by omega), rr 6 (by omega)]
    unfold vN
    rw [e4]
    exact b1 f (by omega)
  · unfold vR
    rw [e12]
    by_cases ed : d = B.1 10
    · subst ed
      refine Or.inl ?_
      simp only [bEnter]
      rw [if_neg (by omega), if_neg (by omega), if_pos ⟨trivial, hi⟩]
    · have : (bEnter m x y B).2 (20 + 4 * d) i = B.2 (20 + 4 * d) i := by
        simp only [bEnter]
        rw [if_neg (by omega), if_neg (by omega), if_neg (by omega)]
      rw [this]
      exact b2' d i (by omega) hi
  · have : (bEnter m x y B).2 14 n = B.2 14 n := by
      simp only [bEnter]
      rw [if_neg (by omega), if_neg (by omega), if_neg (by omega)]
    rw [this]
    exact b3 n (by omega)
theorem Iv.ext {B : Bk} (h : Iv 0 0 0 0 0 B) (hd : 2 ≤ B.1 10) : Iv 0 0 0 0 0 (bExit B) := by
  obtain ⟨⟨a1, a2, a3, a4, a5, a6, a7, a8, a9, a10, a11⟩, b1, b2', b3⟩ := h
  exact ⟨⟨a1, a2, a3, a4, a5, a6, a7, a8, by show 1 ≤ B.1 10 - 1; omega, by show B.1 10 - 1 ≤ 12; omega, a11⟩, b1, fun d i hd' hi => b2' d i (by have : d < B.1 10 - 1 := hd'; omega) hi, b3⟩
theorem sCall_iv (hb : ivB T nm bk n) (hk : kpB bk n) (hP : wPg T nm) {s : Nat} {tk x y : Int32} {B : Bk} (hn : B.1 11 - B.1 9 ≤ n) (h : Iv 0 1 0 0 0 B) (hm : ∃ mi, Tb T s = nI mi ∧ mi < nm) (hnm : nm ≤ 8) : ivR B (sCall T bk s tk x y B) := by
  unfold sCall
  split
  · exact sFail_iv h (vD_n (j := 6) (by omega))
  · next hd =>
    obtain ⟨mi, em, hmi⟩ := hm
    rw [em, nI_clamp (by omega)]
    obtain ⟨mw, dp, lo, hi, w⟩ := hP mi hmi
    have i0 : Iv 0 0 0 0 0 (bEnter mi x y B) := h.z.ent hd
    have e9 : (bEnter mi x y B).1 9 = B.1 9 := by simp only [bEnter]; rw [if_neg (by omega), if_neg (by omega), if_neg (by omega)]
    have e11 : (bEnter mi x y B).1 11 = B.1 11 := by simp only [bEnter]; rw [if_neg (by omega), if_neg (by omega), if_neg (by omega)]
    have e4 : (bEnter mi x y B).1 4 = B.1 4 := by simp only [bEnter]; rw [if_neg (by omega), if_neg (by omega), if_neg (by omega)]
    have e10 : (bEnter mi x y B).1 10 = B.1 10 + 1 := rfl
    have r1 := hb mw 999 0 dp (Tm T mi) lo hi tk (bEnter mi x y B) w (by omega) i0 (fun h9 => absurd rfl h9)
    obtain ⟨k1, k2, k3, k4⟩ := hk (Tm T mi) tk (bEnter mi x y B) (by omega) i0.le
    have hd1 := h.1
    dsimp only
    generalize bk (Tm T mi) tk (bEnter mi x y B) = q at *
    split
    · next h5 => exact fun h => absurd h5 h
    · next h5 =>
      obtain ⟨j1, j2, j3⟩ := r1 h5
      have kk := k4 h5
      have jx : Iv 0 0 0 0 0 (bExit q.2.2) := j1.ext (by omega)
      have ex4 : (bExit q.2.2).1 4 = q.2.2.1 4 := rfl
      split
      · next h4 => exact fun _ => ⟨jx, by show B.1 4 ≤ (bExit q.2.2).1 4; omega, fun _ => (j3 h4).mono (Nat.le_refl _)⟩
      · refine fun _ => ⟨?_, ?_, fun e => absurd e (show ¬ (0 : Nat) = 4 from by decide)⟩
        · show Iv 0 0 0 0 0 (if Tk T s = 2 then _ else _)
          split
          · exact jx.s2 (by have := jx.1; unfold oVar; omega)
          · exact jx
        · show B.1 4 ≤ (if Tk T s = 2 then _ else _ : Bk).1 4
          split
          · show B.1 4 ≤ (bExit q.2.2).1 4; omega
          · omega
theorem evE_k {B : Bk} : ∀ (es : List En) (st : List Int32), (evs B es st).1 = 0 ∨ (evs B es st).1 = 2 ∨ (evs B es st).1 = 3 ∨ (evs B es st).1 = 4 := by
  intro es
  induction es with
  | nil => intro st; exact Or.inl rfl
  | cons e r ih =>
    intro st
    unfold evs
    split
    · exact ih _
    · unfold ev1
      repeat' split
      all_goals first
        | exact Or.inl rfl
        | exact Or.inr (Or.inl rfl)
        | exact Or.inr (Or.inr (Or.inl rfl))
        | exact Or.inr (Or.inr (Or.inr rfl))
theorem evE_d {B : Bk} {es : List En} (h : (evE B es).1 ≠ 0) : vD (evE B es).1 := by
  unfold evE at h ⊢
  dsimp only at h ⊢
  rcases evE_k (B := B) es [] with e | e | e | e
  · exact absurd e h
  · rw [e]; exact vD_n (j := 2) (by omega)
  · rw [e]; exact vD_n (j := 3) (by omega)
  · rw [e]; exact vD_n (j := 4) (by omega)
theorem ivR.ok {B B' : Bk} {v : Int32} (h : Iv 0 0 0 0 0 B') (e : B.1 4 ≤ B'.1 4) : ivR B (0, v, B') := fun _ => ⟨h, e, fun e => absurd e (show ¬ (0 : Nat) = 4 from by decide)⟩
theorem stm_iv (hp : vPl pl) (hb : ivB T nm bk n) (hk : kpB bk n) (hP : wPg T nm) (hnm : nm ≤ 8) {mw tg lp dp s e : Nat} {tk : Int32} {B : Bk} (w : wS T nm (wB T nm mw) tg lp dp s e) (hn : B.1 11 - B.1 9 ≤ n) (h : Iv 1 1 1 1 1 B) (ht : tg ≠ 999 → vK B tk) : ivR B (stm T pl bk s tk B) := by
  obtain ⟨⟨w0, w1, w2, w3, w4, w5, w6, w7, w8, w9⟩, w⟩ := w
  have hf : ∀ k, vD k → ivR B (sFail k B) := fun k hk => sFail_iv h hk
  have c4 := bPass_4 (k := 7 * s) (B := B)
  have hpi : Iv 1 1 1 1 1 (bPass (7 * s) B) := h.pass
  unfold stm
  dsimp only
  generalize bPass (7 * s) B = B1 at *
  by_cases k0 : Tk T s = 0
  · rw [if_pos k0]
    split
    · exact ivR.ok (by have := (hpi.s2 (o := 2) (i := B1.1 3) (v := Ta T s) (by omega)).s3; exact this.z) (by show B.1 4 ≤ B1.1 4; omega)
    · next hk => exact (sFail_iv hpi ((hp _ _).resolve_left hk)).from (by omega)
  rw [if_neg k0]
  have hrow : ∀ v, vR B v → Iv 0 0 0 0 0 (b2 B (oRow B) (Ta T s).toNatClampNeg v) := by
    intro v hv
    obtain ⟨a, b1, b2', b3⟩ := h.z
    refine ⟨a, fun f hf => ?_, fun d i hd hi => ?_, fun n hn => ?_⟩
    · have rr : ∀ o, o ≤ 8 → (b2 B (oRow B) (Ta T s).toNatClampNeg v).2 o f = B.2 o f := by
        intro o ho
        show (if o = oRow B ∧ _ then _ else _) = _
        rw [if_neg (by unfold oRow; omega)]
      rw [rr 3 (by omega), rr 5 (by omega), rr 6 (by omega)]
      exact b1 f hf
    · show vR B (if 20 + 4 * d = oRow B ∧ i = _ then v else B.2 (20 + 4 * d) i)
      split
      · exact hv
      · exact b2' d i hd hi
    · show ∃ z, (if 14 = oRow B ∧ _ then v else B.2 14 n) = nI z ∧ z ≤ 8
      rw [if_neg (by unfold oRow; omega)]
      exact b3 n hn
  by_cases k4 : Tk T s = 4
  · rw [if_pos k4]
    exact ivR.ok (hrow NN (Or.inl rfl)) (Nat.le_refl _)
  rw [if_neg k4]
  by_cases k5 : Tk T s = 5
  · rw [if_pos k5]
    obtain ⟨j, ej, hj⟩ := w4 k5
    refine ivR.ok (hrow _ ?_) (Nat.le_refl _)
    unfold rowOf
    rw [ej, nI_clamp (by omega)]
    have := h.2.2.1 (B.1 10 - 1) j (by have := h.1; omega) hj
    rw [show 20 + 4 * (B.1 10 - 1) = oRow B from by have := h.1; unfold oRow; omega] at this
    exact this
  rw [if_neg k5]
  by_cases k11 : Tk T s = 11
  · rw [if_pos k11]
    exact fun _ => ⟨h.z, Nat.le_refl _, fun e => absurd e (show ¬ (2 : Nat) = 4 from by decide)⟩
  rw [if_neg k11]
  by_cases k12 : Tk T s = 12
  · rw [if_pos k12]
    exact fun _ => ⟨h.z, Nat.le_refl _, fun e => absurd e (show ¬ (3 : Nat) = 4 from by decide)⟩
  rw [if_neg k12]
  by_cases k13 : Tk T s = 13
  · rw [if_pos k13]
    exact hf _ (w5 (Or.inl k13))
  rw [if_neg k13]
  by_cases k14 : Tk T s = 14
  · rw [if_pos k14]
    have := h.makes (c := tk) (w5 (Or.inr k14))
    exact fun _ => ⟨this.1.z, by show B.1 4 ≤ (bMakes (Ta T s) tk B).1 4; omega, fun _ => ⟨B.1 4, rfl, by show B.1 4 < (bMakes (Ta T s) tk B).1 4; omega⟩⟩
  rw [if_neg k14]
  by_cases k15 : Tk T s = 15
  · rw [if_pos k15]
    rw [if_neg (by omega), if_neg (by omega), if_neg (by omega)] at w
    obtain ⟨-, -, w⟩ := w
    exact fun _ => ⟨h.z, Nat.le_refl _, fun _ => ht (Nat.ne_of_lt (w (Or.inr k15)).2.1)⟩
  rw [if_neg k15]
  by_cases k16 : Tk T s = 16 ∨ Tk T s = 17
  · rw [if_pos k16]
    rw [if_neg (by omega), if_neg (by omega), if_pos k16] at w
    obtain ⟨d, x, y, -, wa, wb, wc, -⟩ := w
    rw [sGuard_e]
    clear w0 w1 w2 w3 w4 w5 w6 w7 w8 w9
    have r1 := sInner_iv hp hb hk (s := s) wa hn h.z ht
    obtain ⟨q1, q2, q3, -⟩ := @sInner_kp T pl bk n s tk B hk hn h.le
    have r2 := cau_iv hb wb r1 (fun _ => by omega)
    obtain ⟨p1, p2, p3, -⟩ := @sCaught_kp T pl bk n s tk B hk hn h.le
    have ec : sCaught T pl bk s tk B = cau T bk s (sInner T pl bk s tk B) := rfl
    rw [ec] at p1 p2 p3
    exact fin_iv hb wc r2 (fun _ => by omega) ht
  rw [if_neg k16]
  by_cases k9' : (evE B (T1 T s)).1 ≠ 0
  · rw [if_pos k9']
    exact hf _ (evE_d k9')
  rw [if_neg k9']
  by_cases k1 : Tk T s = 1
  · rw [if_pos k1]
    exact ivR.ok (h.z.s2 (by have := h.1; unfold oVar; omega)) (Nat.le_refl _)
  rw [if_neg k1]
  by_cases k3 : Tk T s = 3
  · rw [if_pos k3]
    split
    · next hz =>
      refine ivR.ok ?_ (Nat.le_refl (B.1 4))
      obtain ⟨z, ez, hz8⟩ : ∃ z, (evE B (T1 T s)).2 = nI z ∧ z ≤ 8 := by
        have e1 : (evE B (T1 T s)).2 = nI (evE B (T1 T s)).2.toNatClampNeg := (Int32.ofNat_toNatClampNeg _ hz.1).symm
        have h8 : (8 : Int32) = nI 8 := rfl
        refine ⟨(evE B (T1 T s)).2.toNatClampNeg, e1, ?_⟩
        have := hz.2
        rw [e1, h8, n_le (Int32.toNatClampNeg_lt _) (by omega)] at this
        exact this
      obtain ⟨⟨a1, a2, a3, a4, a5, a6, a7, a8, a9, a10, a11⟩, b1, b2', b3⟩ := h
      refine ⟨⟨a1, a2, by show B.1 3 + 0 ≤ B.1 9; omega, by show B.1 4 + 0 ≤ B.1 9; omega, by show B.1 5 + 0 ≤ B.1 9; omega, by show B.1 6 + 0 ≤ B.1 9; omega, a7, a8, a9, a10, a11⟩, fun f hf => ?_, fun d i hd hi => ?_, fun n hn => ?_⟩
      · have ho : 20 ≤ oRow B := by unfold oRow; omega
        have key : ∀ B2 : Bk, B2.1 4 = B.1 4 → (∀ o, o ≤ 8 → B2.2 o f = B.2 o f) → vD (B2.2 3 f) ∧ vN B2 f (B2.2 5 f) ∧ vN B2 f (B2.2 6 f) := by
          intro B2 e4 eo
          rw [eo 3 (by omega), eo 5 (by omega), eo 6 (by omega)]
          unfold vN
          rw [e4]
          exact b1 f hf
        refine key _ rfl (fun o h8 => ?_)
        dsimp only
        rw [if_neg (by omega), if_neg (by omega), if_neg (by omega)]
      · have hd : d < B.1 10 := hd
        show (if 20 + 4 * d = 14 ∧ _ then _ else if 20 + 4 * d = 15 ∧ _ then _ else if 20 + 4 * d = oRow B ∧ _ then nI (B.1 12) else B.2 (20 + 4 * d) i) = NN ∨ ∃ n, (if 20 + 4 * d = 14 ∧ _ then _ else if 20 + 4 * d = 15 ∧ _ then _ else if 20 + 4 * d = oRow B ∧ _ then nI (B.1 12) else B.2 (20 + 4 * d) i) = nI n ∧ n < B.1 12 + 1
        rw [if_neg (by omega), if_neg (by omega)]
        split
        · exact Or.inr ⟨B.1 12, rfl, by omega⟩
        · rcases b2' d i hd hi with e | ⟨m, e, hm⟩
          · exact Or.inl e
          · exact Or.inr ⟨m, e, by omega⟩
      · have hn : n < B.1 12 + 1 := hn
        show ∃ z, (if 14 = 14 ∧ n = B.1 12 then (evE B (T1 T s)).2 else if 14 = 15 ∧ _ then _ else if 14 = oRow B ∧ _ then _ else B.2 14 n) = nI z ∧ z ≤ 8
        by_cases en : n = B.1 12
        · rw [if_pos ⟨rfl, en⟩]
          exact ⟨z, ez, hz8⟩
        · rw [if_neg (by omega), if_neg (by omega), if_neg (by unfold oRow; omega)]
          exact b3 n (by omega)
    · exact hf _ (vD_n (j := 5) (by omega))
  rw [if_neg k3]
  by_cases k8 : Tk T s = 8
  · rw [if_pos k8]
    exact fun _ => ⟨h.z, Nat.le_refl _, fun e => absurd e (show ¬ (1 : Nat) = 4 from by decide)⟩
  rw [if_neg k8]
  by_cases k10 : Tk T s = 10
  · rw [if_pos k10]
    rw [if_neg (by omega), if_pos k10] at w
    obtain ⟨d, -, wa⟩ := w
    exact sLoop_iv hb hk wa _ _ hn h.z ht
  rw [if_neg k10]
  by_cases k2' : (evE B (T2 T s)).1 ≠ 0
  · rw [if_pos k2']
    exact hf _ (evE_d k2')
  rw [if_neg k2']
  by_cases k6 : Tk T s = 6
  · rw [if_pos k6]
    split
    · exact hf _ (vD_n (j := 4) (by omega))
    · split
      · exact ivR.ok (h.z.s2 (by omega)) (Nat.le_refl _)
      · exact hf _ (vD_n (j := 3) (by omega))
  rw [if_neg k6]
  by_cases k9 : Tk T s = 9
  · rw [if_pos k9]
    rw [if_pos k9] at w
    obtain ⟨d, x, -, wa, wb⟩ := w
    split
    · exact hb _ _ _ _ _ _ _ _ _ wa hn h.z ht
    · cases hT : To T s with
      | none =>
        exact hb 0 tg lp d [] 0 0 tk B ⟨rfl, rfl⟩ hn h.z ht
      | some b =>
        rw [hT] at wb
        exact hb _ _ _ _ _ _ _ _ _ wb hn h.z ht
  rw [if_neg k9]
  have k27 : Tk T s = 2 ∨ Tk T s = 7 := by omega
  exact sCall_iv hb hk hP hn (h.wk (by omega) (by omega) (by omega) (by omega) (by omega)) (w8 k27) hnm
theorem sBlk_iv (hp : vPl pl) (hP : wPg T nm) (hnm : nm ≤ 8) : ∀ n, ivB T nm (sBlk T pl n) n := by
  intro n
  induction n with
  | zero =>
    intro mw tg lp dp ss lo hi tk B w hn h ht
    unfold sBlk
    split
    · exact ivR.ok h (Nat.le_refl _)
    · exact fun h5 => absurd rfl h5
  | succ n ih =>
    intro mw tg lp dp ss lo hi tk B w hn h ht
    unfold sBlk
    split
    · exact ivR.ok h (Nat.le_refl _)
    · next s r =>
      split
      · exact fun h5 => absurd rfl h5
      · next hs =>
        have hl := isSpent_no hs h.le
        cases mw with
        | zero => exact absurd w.1 (by intro h; cases h)
        | succ mw =>
          obtain ⟨rfl, e, -, ws, wr⟩ := w
          have e9 : (b2 (bStp B) (oAt B) 0 (nI s)).1 9 = B.1 9 + 1 := rfl
          have e11 : (b2 (bStp B) (oAt B) 0 (nI s)).1 11 = B.1 11 := rfl
          have e4 : (b2 (bStp B) (oAt B) 0 (nI s)).1 4 = B.1 4 := rfl
          have r1 := stm_iv (e := e) hp ih (sBlk_kp T pl n) hP hnm (tk := tk) (B := b2 (bStp B) (oAt B) 0 (nI s)) ws (by omega) (h.stp hs).sat (fun h9 => (ht h9).mono (by omega))
          obtain ⟨k1, k2, k3, k4⟩ := @stm_kp T pl (sBlk T pl n) n s tk (b2 (bStp B) (oAt B) 0 (nI s)) (sBlk_kp T pl n) (by omega) (by omega)
          dsimp only
          generalize stm T pl (sBlk T pl n) s tk (b2 (bStp B) (oAt B) 0 (nI s)) = q at *
          split
          · next h0 =>
            obtain ⟨i1, i2, i3⟩ := r1 (by omega)
            exact (ih mw tg lp dp r e hi tk q.2.2 wr (by omega) i1 (fun h9 => (ht h9).mono (by omega))).from (by omega)
          · exact r1.from (by omega)
end INV
