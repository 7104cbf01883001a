set_option maxRecDepth 100000
/-! a whole program's code, a whole run -/
def mX (T : Pg) (sh : Bool) (m : Nat) (X0 : LX) : Nat → LX
  | 0 => X0
  | k + 1 => if lTL sh (mX T sh m X0 k) = true then mX T sh m X0 k else aX 22 0 0 (aX 21 0 0 (blX T sh m (Tm T k) (mX T sh m X0 k)))
def cdX (T : Pg) (sh : Bool) (m : Nat) (X0 : LX) (nm : Nat) : Cd := (Xo (mX T sh m X0 nm), Xr (mX T sh m X0 nm), fun k => Xn (mX T sh m X0 k))
def wPm (T : Pg) (nm M : Nat) : Prop := ∀ mi, mi < nm → ∃ mw dp lo hi, wB T nm mw 999 0 dp (Tm T mi) lo hi ∧ hi < M
theorem mX_E {T : Pg} {sh : Bool} {m : Nat} {X0 : LX} (w : wX X0) (h0 : X0.2 = []) : ∀ k, wX (mX T sh m X0 k) ∧ (mX T sh m X0 k).2 = [] ∧ Ex 0 (mX T sh m X0 k) (mX T sh m X0 (k + 1)) := by
  have st : ∀ k, wX (mX T sh m X0 k) → (mX T sh m X0 k).2 = [] → wX (mX T sh m X0 (k + 1)) ∧ (mX T sh m X0 (k + 1)).2 = [] ∧ Ex 0 (mX T sh m X0 k) (mX T sh m X0 (k + 1)) := by
    intro k wk hk
    rw [mX]
    split
    · exact ⟨wk, hk, Ex.refl⟩
    · obtain ⟨a1, a2⟩ := blX_E (T := T) (sh := sh) m (Tm T k) _ wk
      refine ⟨a1.a.a, ?_, a2.a.a⟩
      have := a2.2.2.2.len
      rw [hk] at this
      exact List.eq_nil_of_length_eq_zero this
  intro k
  induction k with
  | zero => exact ⟨w, h0, (st 0 w h0).2.2⟩
  | succ k ih =>
    have := st k ih.1 ih.2.1
    exact ⟨this.1, this.2.1, (st (k + 1) this.1 this.2.1).2.2⟩
theorem mX_le {T : Pg} {sh : Bool} {m : Nat} {X0 : LX} (w : wX X0) (h0 : X0.2 = []) {k : Nat} : ∀ d, Ex 0 (mX T sh m X0 k) (mX T sh m X0 (k + d)) := by
  intro d
  induction d with
  | zero => exact Ex.refl
  | succ d ih => exact ih.trans (mX_E w h0 (k + d)).2.2 (Nat.le_refl _)
theorem pg_ok {T : Pg} {nm M m : Nat} {sh : Bool} {X0 : LX} (w : wX X0) (h0 : X0.2 = []) (hW : wPm T nm M) (hM : M ≤ m) (ht : lTL sh (mX T sh m X0 nm) = false) (hn : Xn (mX T sh m X0 nm) < 100000) : okPg T nm sh (cdX T sh m X0 nm) := by
  intro mi hmi
  obtain ⟨mw, dp, lo, hi, wb, hh⟩ := hW mi hmi
  have hC : cnd T sh (cdX T sh m X0 nm) (mX T sh m X0 nm) [] [] 0 := by
    have e := (mX_E (T := T) (sh := sh) (m := m) w h0 nm).2.1
    refine ⟨by rw [e]; rfl, (List.append_nil _).symm, fun i _ _ => ?_, fun pc kd _ _ => ?_, hn⟩
    · rw [e]
      exact rfl
    · rw [e]
      rfl
  have e1 := mX_le (T := T) (sh := sh) (m := m) w h0 (k := mi + 1) (nm - (mi + 1))
  rw [show mi + 1 + (nm - (mi + 1)) = nm from by omega] at e1
  have e0 := mX_le (T := T) (sh := sh) (m := m) w h0 (k := mi) (nm - mi)
  rw [show mi + (nm - mi) = nm from by omega] at e0
  obtain ⟨wk, hk, -⟩ := mX_E (T := T) (sh := sh) (m := m) w h0 mi
  obtain ⟨l1, c1⟩ := hC.back e1 (Nat.le_refl _)
  have em : mX T sh m X0 (mi + 1) = aX 22 0 0 (aX 21 0 0 (blX T sh m (Tm T mi) (mX T sh m X0 mi))) := by
    rw [mX, if_neg]
    rw [lTL_le ht e0.1]
    decide
  rw [em] at c1
  obtain ⟨a1, a2⟩ := blX_E (T := T) (sh := sh) m (Tm T mi) _ wk
  obtain ⟨z22, -⟩ := c1.at a1.a (Nat.zero_le _)
  obtain ⟨l2, c2⟩ := c1.back (Ex.refl.a (a := 0)) (Nat.le_refl _)
  obtain ⟨z21, -⟩ := c2.at a1 (Nat.zero_le _)
  obtain ⟨l3, c3⟩ := c2.back (Ex.refl.a (a := 0)) (Nat.le_refl _)
  have hlt : lTL sh (blX T sh m (Tm T mi) (mX T sh m X0 mi)) = false := by
    refine lTL_le ht (Nat.le_trans ?_ e1.1)
    rw [em]
    exact Nat.le_succ_of_le (Nat.le_succ _)
  have ho := blX_ok T nm sh M m (Tm T mi) (mX T sh m X0 mi) mw 999 0 dp lo hi (cdX T sh m X0 nm) [] l3 wk wb (by omega) hh (by rw [hk]; trivial) (Nat.zero_le _) hlt (c3.sub (Nat.zero_le _))
  rw [hk] at ho
  exact ⟨m, mw, dp, lo, hi, _, ho, wb, by rw [z21], by have z22 : (cdX T sh m X0 nm).1 (Xn (blX T sh m (Tm T mi) (mX T sh m X0 mi)) + 1) = _ := z22; rw [z22]⟩
theorem iv_0 {m most : Nat} {a b : Int32} (h : most ≤ 400) : Iv 0 0 0 0 0 (bEnter m a b (bZero most)) := by
  have e3 : (bEnter m a b (bZero most)).1 3 = 0 := by simp [bEnter, bZero]
  have e4 : (bEnter m a b (bZero most)).1 4 = 0 := by simp [bEnter, bZero]
  have e5 : (bEnter m a b (bZero most)).1 5 = 0 := by simp [bEnter, bZero]
  have e6 : (bEnter m a b (bZero most)).1 6 = 0 := by simp [bEnter, bZero]
  have e8 : (bEnter m a b (bZero most)).1 8 = 1 := by simp [bEnter, bZero]
  have e9 : (bEnter m a b (bZero most)).1 9 = 0 := by simp [bEnter, bZero]
  have e10 : (bEnter m a b (bZero most)).1 10 = 1 := by simp [bEnter, bZero]
  have e11 : (bEnter m a b (bZero most)).1 11 = most := by simp [bEnter, bZero]
  have e12 : (bEnter m a b (bZero most)).1 12 = 0 := by simp [bEnter, bZero]
  have e13 : (bEnter m a b (bZero most)).1 13 = 0 := by simp [bEnter, bZero]
  refine ⟨⟨by omega, by omega, by omega, by omega, by omega, by omega, by omega, by omega, by omega, by omega, by omega⟩, fun f hf => ?_, fun d i hd hi => ?_, fun n hn => ?_⟩
  · omega
  · have : d = 0 := by omega
    subst this
    refine Or.inl ?_
    simp only [bEnter]
    rw [if_neg (by omega), if_neg (by omega), if_pos ⟨rfl, hi⟩]
  · omega
theorem cOp_22 {T : Pg} {pl : Nat → Int32 → Int32} {C : Cd} {k x y : Nat} {F : Nat → Cf} {B : Bk} : cOp T pl C k (22, x, y) F B = if k = 0 then (1, (F k).2.1, F, bExit B) else (0, 0, F, if Tk T (C.1 ((F (k - 1)).1 - 1)).2.1 = 2 then b2 (bExit B) (oVar (bExit B)) (Ta T (C.1 ((F (k - 1)).1 - 1)).2.1).toNatClampNeg (F k).2.1 else bExit B) := rfl
theorem run_c {T : Pg} {nm : Nat} {pl : Nat → Int32 → Int32} {sh : Bool} {C : Cd} (hpl : vPl pl) (hP : okPg T nm sh C) (hW : wPg T nm) (hnm : nm ≤ 8) {m most : Nat} {a b v : Int32} {F : Nat → Cf} (hm : m < nm) (hmo : most ≤ 400) (hF : (F 0).1 = C.2.2 m) :
    ∃ y, cTo T pl C (0, v, F, bEnter m a b (bZero most)) y ∧
      (if (sBlk T pl most (Tm T m) NN (bEnter m a b (bZero most))).1 = 5 then y.1 = 5 ∧ y.2.2.2 = (sBlk T pl most (Tm T m) NN (bEnter m a b (bZero most))).2.2
       else if (sBlk T pl most (Tm T m) NN (bEnter m a b (bZero most))).1 = 4 then y.1 = 6 ∧ y.2.1 = (sBlk T pl most (Tm T m) NN (bEnter m a b (bZero most))).2.1 ∧ y.2.2.2 = bExit (sBlk T pl most (Tm T m) NN (bEnter m a b (bZero most))).2.2
       else y.1 = 1 ∧ y.2.1 = (if (sBlk T pl most (Tm T m) NN (bEnter m a b (bZero most))).1 = 1 then (sBlk T pl most (Tm T m) NN (bEnter m a b (bZero most))).2.1 else 0) ∧ y.2.2.2 = bExit (sBlk T pl most (Tm T m) NN (bEnter m a b (bZero most))).2.2) := by
  obtain ⟨m1, mw, dp, lo, hi, q, o1, o2, o3, o4⟩ := hP m hm
  have hiv := @iv_0 m most a b hmo
  have e9 : (bEnter m a b (bZero most)).1 9 = 0 := by simp [bEnter, bZero]
  have e11 : (bEnter m a b (bZero most)).1 11 = most := by simp [bEnter, bZero]
  have e10 : (bEnter m a b (bZero most)).1 10 = 1 := rfl
  have bb := blk_c hpl hP hW hnm most m1 mw 999 0 dp [] (fun _ => none) (Tm T m) (C.2.2 m) q lo hi NN F (bEnter m a b (bZero most)) v 0 o1 o2 (by omega) hiv e10 hF (fun h => absurd rfl h)
  obtain ⟨k1, k2, k3, k4⟩ := sBlk_kp T pl most (Tm T m) NN (bEnter m a b (bZero most)) (by omega) (by omega)
  have sq := sBlk_sg T pl most (Tm T m) NN (bEnter m a b (bZero most))
  generalize sBlk T pl most (Tm T m) NN (bEnter m a b (bZero most)) = r at *
  obtain ⟨y, t, i⟩ := bb
  -- giving
  have give : ∀ (F3 : Nat → Cf) (v0 : Int32) (e1 : Nat), (F3 0).1 = e1 → (C.1 e1).1 = 22 → r.2.2.1 10 = 1 → cGo T pl C (0, v0, F3, r.2.2) = (1, (F3 0).2.1, fpc F3 0 (e1 + 1), bExit r.2.2) := by
    intro F3 v0 e1 h1 h2 h3
    unfold cGo
    rw [if_pos rfl]
    show cOp T pl C (r.2.2.1 10 - 1) (C.1 (F3 (r.2.2.1 10 - 1)).1) (fpc F3 (r.2.2.1 10 - 1) ((F3 (r.2.2.1 10 - 1)).1 + 1)) r.2.2 = _
    rw [h3, h1]
    have ei : C.1 e1 = (22, (C.1 e1).2.1, (C.1 e1).2.2) := by rw [← h2]
    rw [ei]
    show cOp T pl C 0 (22, (C.1 e1).2.1, (C.1 e1).2.2) (fpc F3 0 (e1 + 1)) r.2.2 = _
    rw [cOp_22, if_pos rfl, fpc_2]
  rcases i.case sq with ⟨r5, y5, yb⟩ | ⟨r4, F3, rfl, g3, hh⟩ | ⟨r0, v3, F3, rfl, g3, hp3⟩ | ⟨r13, v3, F3, rfl, g3, m3, n3, hn3, hw1, hw2, hL⟩
  · exact ⟨y, t, by rw [if_pos r5]; exact ⟨y5, yb⟩⟩
  · have hd : r.2.2.1 10 = 1 := by have := k4 (by omega); omega
    refine ⟨(6, r.2.1, F3, bExit r.2.2), t.trans (cTo.one (y := (4, r.2.1, F3, bExit r.2.2)) ?_ (cTo.one ?_ cTo.refl)), by rw [if_neg (by omega), if_pos r4]; exact ⟨rfl, rfl, rfl⟩⟩
    · unfold cGo
      rw [if_neg (show ¬ (4 : Nat) = 0 from by decide), if_pos rfl]
      show (if r.2.2.1 10 = 0 then _ else match hlr T C.2.1 ((F3 (r.2.2.1 10 - 1)).1 - 1) (r.2.2.2 3 r.2.1.toNatClampNeg) with | some q => _ | none => _) = _
      rw [hd, if_neg (by decide)]
      show (match hlr T C.2.1 ((F3 0).1 - 1) (r.2.2.2 3 r.2.1.toNatClampNeg) with | some q => _ | none => _) = _
      rw [hh]
    · unfold cGo
      rw [if_neg (show ¬ (4 : Nat) = 0 from by decide), if_pos rfl]
      show (if (bExit r.2.2).1 10 = 0 then ((6, r.2.1, F3, bExit r.2.2) : Cs) else _) = _
      rw [if_pos (by show r.2.2.1 10 - 1 = 0; omega)]
  · have hd : r.2.2.1 10 = 1 := by have := k4 (by omega); omega
    have ei : C.1 q = (21, (C.1 q).2.1, (C.1 q).2.2) := by rw [← o3]
    refine ⟨_, t.trans (cTo.one (y := (0, 0, fre (fpc F3 0 (q + 1)) 0 0, r.2.2)) ?_ (cTo.one (give _ 0 (q + 1) (by rw [fre_1, fpc_1]) o4 hd) cTo.refl)), by rw [if_neg (by omega), if_neg (by omega), if_neg (by omega)]; exact ⟨rfl, fre_r, rfl⟩⟩
    unfold cGo
    rw [if_pos rfl]
    show cOp T pl C (r.2.2.1 10 - 1) (C.1 (F3 (r.2.2.1 10 - 1)).1) (fpc F3 (r.2.2.1 10 - 1) ((F3 (r.2.2.1 10 - 1)).1 + 1)) r.2.2 = _
    rw [hd]
    show cOp T pl C 0 (C.1 (F3 0).1) (fpc F3 0 ((F3 0).1 + 1)) r.2.2 = _
    rw [hp3, ei]
    rfl
  · have hd : r.2.2.1 10 = 1 := by have := k4 (by omega); omega
    obtain ⟨w1, l2⟩ := hL
    refine ⟨_, t.trans (cTo.one (give F3 v3 _ rfl l2 hd) cTo.refl), by rw [if_neg (by omega), if_neg (by omega), if_pos w1]; exact ⟨rfl, (hw1 w1).1, rfl⟩⟩
