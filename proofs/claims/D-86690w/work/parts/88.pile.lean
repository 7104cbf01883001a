set_option maxRecDepth 100000
section PILE4
variable {T : Pg} {pl : Nat → Int32 → Int32}
/-- what a statement comes to, with the rest of its block on the pile -/
def pSt (T : Pg) (pl : Nat → Int32 → Int32) (x : Ps) (K : List Fr) (q : Rs) : Prop := ∃ y, pTo T pl x y ∧ (pIs K q y ∨ (q.1 = 0 ∧ ∃ v, y = (9, v, K, 9, q.2.2)))
theorem pEnd.st {x : Ps} {K : List Fr} {q : Rs} (h : pEnd T pl x K q) : pSt T pl x K q := by
  obtain ⟨y, a, b⟩ := h
  exact ⟨y, a, Or.inl b⟩
theorem pSt.on {v w : Int32} {K : List Fr} {B : Bk} : pSt T pl (9, v, K, 9, B) K (0, w, B) := ⟨_, pTo.refl, Or.inr ⟨rfl, v, rfl⟩⟩
def hgT (T : Pg) : Prop := (∀ s, Tk T s = 2 → 0 ≤ Ta T s) ∧ ∀ s, Tk T s = 17 → 1 ≤ (Ta T s).toNatClampNeg
theorem fin_5 {bk : Wk} {s : Nat} {tk : Int32} {q : Rs} (h : q.1 = 5) : fin T bk s tk (cau T bk s q) = q := by
  have e : cau T bk s q = q := by unfold cau; rw [if_neg (by omega)]
  rw [e]
  unfold fin
  cases To T s with
  | none => rfl
  | some b => dsimp only; rw [if_pos h]
theorem guard_p {bk : Wk} {n s : Nat} (hT : hgT T) (hb : pB T pl bk n) (hk : kpB bk n) (hs : sgB bk) {K : List Fr} {B : Bk} {sv : Int32} (hk16 : Tk T s = 16 ∨ Tk T s = 17) (hn : B.1 11 - B.1 9 ≤ n) (h : B.1 9 ≤ B.1 11) (hd : 1 ≤ B.1 10) (hat : B.2 (oAt B) 0 = nI s) : pEnd T pl (pDo T pl s sv K B) K (sGuard T pl bk s (tkOf K) B) := by
  rw [sGuard_e]
  unfold pDo sInner
  dsimp only
  by_cases k16 : Tk T s = 16
  · rw [if_pos k16, if_pos k16]
    have p := hb (Tl T s) sv (fGrd s 0 0 0 0 0 NN :: K) B hn h hd
    have et : tkOf (fGrd s 0 0 0 0 0 NN :: K) = tkOf K := rfl
    rw [et] at p
    obtain ⟨j1, j2, j3, j4⟩ := hk (Tl T s) (tkOf K) B hn h
    have sq := hs (Tl T s) (tkOf K) B
    generalize bk (Tl T s) (tkOf K) B = q at *
    refine p.bind (fun h5 => by rw [fin_5 h5]; exact ⟨h5, rfl⟩) (fun h5 v hv => ?_)
    have := cau_p (pl := pl) (s := s) (v := v) (o := 0) (m := 0) (K := K) hb hk hs (q := q) (by omega) j3 (by have := j4 h5; omega) (by omega) hv
    rw [if_pos rfl] at this
    exact this
  · have k17 : Tk T s = 17 := by omega
    rw [if_neg k16, if_neg k16, if_pos k17]
    obtain ⟨x1, x2, x3, x4⟩ := @sOpens_kp pl s (Ta T s).toNatClampNeg 0 B h
    have xs := @sOpens_sg pl s (Ta T s).toNatClampNeg 0 B
    obtain ⟨xn1, xn2⟩ := @sOpens_n pl s (Ta T s).toNatClampNeg 0 B
    have xo := @sOpens_o pl s (Ta T s).toNatClampNeg 0 B
    have hna := hT.2 s k17
    generalize sOpens pl s (Ta T s).toNatClampNeg 0 B = z at *
    obtain ⟨zn, z1, zv, zB⟩ := z
    dsimp only at *
    by_cases z5 : z1 = 5
    · subst z5
      rw [if_pos rfl, if_pos rfl, fin_5 rfl]
      exact pEnd.out rfl rfl
    · rw [if_neg z5, if_neg z5]
      have x10 := x4 z5
      have eoa : oAt zB = oAt B := by unfold oAt; rw [x10]
      have hat' : zB.2 (oAt zB) 0 = nI s := by rw [eoa, xo _ _ (by unfold oAt; omega)]; exact hat
      by_cases z4 : z1 = 4
      · subst z4
        rw [if_pos rfl, if_neg (show ¬ (4 : Nat) = 0 from by decide), if_neg (show ¬ ((4, zv, zB) : Rs).1 = 5 from (show ¬ (4 : Nat) = 5 from by decide))]
        have := cau_p (pl := pl) (s := s) (v := zv) (o := B.1 5) (m := zn) (K := K) hb hk hs (q := (4, zv, zB)) (by show zB.1 11 - zB.1 9 ≤ n; omega) x3 (by show 1 ≤ zB.1 10; omega) (show (4 : Nat) < 5 from by decide) (fun _ => rfl)
        have e : (if zn = 0 then ((4, zv, zB) : Rs) else sCl pl s (B.1 5) zn 4 zv (b2 zB (oAt zB) 0 (nI s))) = sCl pl s (B.1 5) zn 4 zv (b2 zB (oAt zB) 0 (nI s)) := by
          split
          · next h0 => subst h0; rw [b2_id hat']; rfl
          · rfl
        have e2 : (if zn = 0 then ((4, zv, zB) : Rs) else sCl pl s (B.1 5) zn ((4, zv, zB) : Rs).1 ((4, zv, zB) : Rs).2.1 (b2 ((4, zv, zB) : Rs).2.2 (oAt ((4, zv, zB) : Rs).2.2) 0 (nI s))) = sCl pl s (B.1 5) zn 4 zv (b2 zB (oAt zB) 0 (nI s)) := e
        rw [e2] at this
        exact this
      · have z0 : z1 = 0 := by omega
        subst z0
        rw [if_neg (show ¬ (0 : Nat) = 4 from by decide), if_pos rfl]
        have p := hb (Tl T s) sv (fGrd s 0 0 0 (B.1 5) zn NN :: K) zB (by omega) x3 (by omega)
        have et : tkOf (fGrd s 0 0 0 (B.1 5) zn NN :: K) = tkOf K := rfl
        rw [et] at p
        obtain ⟨j1, j2, j3, j4⟩ := hk (Tl T s) (tkOf K) zB (by omega) x3
        have sq := hs (Tl T s) (tkOf K) zB
        generalize bk (Tl T s) (tkOf K) zB = q at *
        have ezn := xn2 rfl
        refine p.bind (fun h5 => by rw [if_pos h5, fin_5 h5]; exact ⟨h5, rfl⟩) (fun h5 v hv => ?_)
        have := cau_p (pl := pl) (s := s) (v := v) (o := B.1 5) (m := zn) (K := K) hb hk hs (q := q) (by omega) j3 (by have := j4 h5; omega) (by omega) hv
        rw [if_neg (by omega)] at this
        rw [if_neg h5]
        exact this
theorem call_p {bk : Wk} {n s : Nat} (hT : hgT T) (hb : pB T pl bk n) (hk : kpB bk n) (hs : sgB bk) {K : List Fr} {B : Bk} {sv x y : Int32} (hk2 : Tk T s = 2 ∨ Tk T s = 7) (hn : B.1 11 - B.1 9 ≤ n) (h : B.1 9 ≤ B.1 11) (hd : 1 ≤ B.1 10) : pEnd T pl (if B.1 10 = 12 then pFail 6 K B else (9, sv, fBlk (Tm T (Tb T s).toNatClampNeg) :: fMth (if Tk T s = 2 then Ta T s else -1) :: K, 9, bEnter (Tb T s).toNatClampNeg x y B)) K (sCall T bk s (tkOf K) x y B) := by
  unfold sCall
  by_cases d12 : B.1 10 = 12
  · rw [if_pos d12, if_pos d12]
    exact pEnd.ok (by decide) (fun _ => rfl)
  rw [if_neg d12, if_neg d12]
  generalize hmi : (Tb T s).toNatClampNeg = mi
  have e9 : (bEnter mi x y B).1 9 = B.1 9 := by simp only [bEnter]; rw [if_neg (by omega), if_neg (by omega), if_neg (by omega)]
  have e11 : (bEnter mi x y B).1 11 = B.1 11 := by simp only [bEnter]; rw [if_neg (by omega), if_neg (by omega), if_neg (by omega)]
  have e10 : (bEnter mi x y B).1 10 = B.1 10 + 1 := rfl
  generalize ht : (if Tk T s = 2 then Ta T s else (-1 : Int32)) = t
  have p := hb (Tm T mi) sv (fMth t :: K) (bEnter mi x y B) (by omega) (by omega) (by omega)
  have et : tkOf (fMth t :: K) = tkOf K := rfl
  rw [et] at p
  obtain ⟨j1, j2, j3, j4⟩ := hk (Tm T mi) (tkOf K) (bEnter mi x y B) (by omega) (by omega)
  have sq := hs (Tm T mi) (tkOf K) (bEnter mi x y B)
  dsimp only
  generalize bk (Tm T mi) (tkOf K) (bEnter mi x y B) = q at *
  refine p.bind (fun h5 => by rw [if_pos h5]; exact ⟨h5, rfl⟩) (fun h5 v hv => ?_)
  have h10 := j4 h5
  rw [if_neg h5]
  refine pEnd.one rfl ?_
  simp only [pGo]
  rw [if_neg (by omega), if_neg (show ¬ (fMth t).1 = 1 from (by decide : ¬ 0 = 1)), if_neg (show ¬ (fMth t).1 = 2 from (by decide : ¬ 0 = 2)), if_neg (show ¬ (fMth t).1 = 3 from (by decide : ¬ 0 = 3)), if_neg (show ¬ (bExit q.2.2).1 10 = 0 from by show ¬ q.2.2.1 10 - 1 = 0; omega)]
  by_cases q4 : q.1 = 4
  · rw [if_pos q4, if_pos q4]
    exact pEnd.ok (by decide) (fun _ => hv (by omega))
  · rw [if_neg q4, if_neg q4]
    have ev : (if q.1 = 1 then v else 0) = (if q.1 = 1 then q.2.1 else 0) := by
      split
      · next h1 => exact hv (by omega)
      · rfl
    rw [ev]
    have eB : (if 0 ≤ (fMth t).2.2.2.2.2.1 then b2 (bExit q.2.2) (oVar (bExit q.2.2)) (fMth t).2.2.2.2.2.1.toNatClampNeg (if q.1 = 1 then q.2.1 else 0) else bExit q.2.2) = (if Tk T s = 2 then b2 (bExit q.2.2) (oVar (bExit q.2.2)) (Ta T s).toNatClampNeg (if q.1 = 1 then q.2.1 else 0) else bExit q.2.2) := by
      have e0 : (fMth t).2.2.2.2.2.1 = t := rfl
      rw [e0, ← ht]
      by_cases k2 : Tk T s = 2
      · rw [if_pos k2, if_pos k2, if_pos (hT.1 s k2)]
      · rw [if_neg k2, if_neg k2, if_neg (by decide)]
    rw [eB]
    exact pEnd.ok (by decide) (fun h => absurd rfl h)
def isNb (k : Nat) : Prop := k = 0 ∨ k = 1 ∨ k = 3 ∨ k = 4 ∨ k = 5 ∨ k = 6 ∨ k = 8 ∨ k = 11 ∨ k = 12 ∨ k = 13 ∨ k = 14 ∨ k = 15
theorem stm_nb {bk bk' : Wk} {s : Nat} {tk : Int32} {B : Bk} (h : isNb (Tk T s)) : stm T pl bk s tk B = stm T pl bk' s tk B := by
  rcases h with h | h | h | h | h | h | h | h | h | h | h | h <;> simp [stm, h]
theorem stm_n5 {bk : Wk} {s : Nat} {tk : Int32} {B : Bk} (h : isNb (Tk T s)) : (stm T pl bk s tk B).1 ≠ 5 := by
  have f : ∀ k C, (sFail k C).1 = 4 := fun _ _ => rfl
  rcases h with h | h | h | h | h | h | h | h | h | h | h | h <;> simp only [stm, h] <;> simp [f] <;> (repeat' split) <;> simp [f]
theorem stm_p {bk : Wk} {n s : Nat} (hT : hgT T) (hnil : ∀ tk B, bk [] tk B = (0, 0, B)) (hb : pB T pl bk n) (hk : kpB bk n) (hs : sgB bk) {K : List Fr} {B : Bk} {sv : Int32} (h17 : Tk T s ≤ 17) (hn : B.1 11 - B.1 9 ≤ n) (h : B.1 9 ≤ B.1 11) (hd : 1 ≤ B.1 10) (hat : B.2 (oAt B) 0 = nI s) : pSt T pl (pDo T pl s sv K B) K (stm T pl bk s (tkOf K) B) := by
  by_cases k16 : Tk T s = 16 ∨ Tk T s = 17
  · rw [stm_16 k16]
    exact (guard_p hT hb hk hs k16 hn h hd hat).st
  by_cases k27 : Tk T s = 2 ∨ Tk T s = 7
  · rw [stm_2 k27]
    unfold pDo
    dsimp only
    rw [if_neg (by omega), if_neg (by omega), if_pos k27]
    split
    · exact (pEnd.ok (by decide) (fun _ => rfl)).st
    split
    · exact (pEnd.ok (by decide) (fun _ => rfl)).st
    exact (call_p hT hb hk hs k27 hn h hd).st
  by_cases k9 : Tk T s = 9
  · rw [stm_9 k9]
    unfold pDo
    dsimp only
    rw [if_neg (by omega), if_neg (by omega), if_neg (by omega), if_pos k9]
    split
    · exact (pEnd.ok (by decide) (fun _ => rfl)).st
    split
    · exact (pEnd.ok (by decide) (fun _ => rfl)).st
    by_cases x3 : holds (Ta T s) (evE B (T1 T s)).2 (evE B (T2 T s)).2 = true
    · rw [if_pos x3, if_pos x3]
      exact (hb (Tl T s) sv K B hn h hd).st
    · rw [if_neg x3, if_neg x3]
      cases hT2 : To T s with
      | none =>
        show pSt T pl (9, sv, K, 9, B) K (bk [] (tkOf K) B)
        rw [hnil]
        exact pSt.on
      | some b => exact (hb b sv K B hn h hd).st
  by_cases k10 : Tk T s = 10
  · rw [stm_10 k10]
    unfold pDo
    dsimp only
    rw [if_neg (by omega), if_neg (by omega), if_neg (by omega), if_neg (by omega), if_pos k10]
    split
    · exact (pEnd.ok (by decide) (fun _ => rfl)).st
    cases ht : turns (evE B (T1 T s)).2 with
    | zero =>
      rw [if_pos rfl]
      exact pSt.on
    | succ t =>
      rw [if_neg (Nat.succ_ne_zero t)]
      exact (loop_p hb hk hs t sv B hn h hd).st
  have hnb : isNb (Tk T s) := by unfold isNb; omega
  unfold pDo
  dsimp only
  rw [if_neg (by omega), if_neg (by omega), if_neg (by omega), if_neg (by omega), if_neg (by omega)]
  rw [stm_nb (bk' := bk) hnb]
  have h5 := stm_n5 (T := T) (pl := pl) (bk := bk) (tk := tkOf K) (B := B) hnb
  generalize stm T pl bk s (tkOf K) B = q at *
  obtain ⟨q1, qv, qB⟩ := q
  dsimp only at *
  by_cases q0 : q1 = 0
  · rw [if_pos q0, q0]
    exact pSt.on
  · rw [if_neg q0]
    exact (pEnd.ok h5 (fun _ => rfl)).st
/-- THE PILE'S RUN OF A BLOCK IS ITS MEANING -/
theorem blk_p (hT : hgT T) (h17 : ∀ s, Tk T s ≤ 17) : ∀ n, pB T pl (sBlk T pl n) n := by
  intro n
  induction n with
  | zero =>
    intro ss sv K B hn h hd
    have hsp : isSpent B = true := by
      unfold isSpent
      rw [show B.1 9 = B.1 11 from by omega]
      exact beq_self_eq_true _
    unfold sBlk
    match ss with
    | [] => exact pEnd.one rfl (pEnd.ok (by decide) (fun h => absurd rfl h))
    | s :: r =>
      refine pEnd.one rfl ?_
      show pEnd T pl (if isSpent B = true then (9, sv, fBlk r :: K, 2, B) else pDo T pl s sv (fBlk r :: K) (b2 (bStp B) (oAt B) 0 (nI s))) K _
      rw [if_pos hsp]
      exact pEnd.out rfl rfl
  | succ n ih =>
    intro ss sv K B hn h hd
    unfold sBlk
    match ss with
    | [] => exact pEnd.one rfl (pEnd.ok (by decide) (fun h => absurd rfl h))
    | s :: r =>
      refine pEnd.one rfl ?_
      show pEnd T pl (if isSpent B = true then (9, sv, fBlk r :: K, 2, B) else pDo T pl s sv (fBlk r :: K) (b2 (bStp B) (oAt B) 0 (nI s))) K (if isSpent B = true then (5, 0, B) else _)
      by_cases hsp : isSpent B = true
      · rw [if_pos hsp, if_pos hsp]
        exact pEnd.out rfl rfl
      rw [if_neg hsp, if_neg hsp]
      have hl := isSpent_no hsp h
      have e9 : (b2 (bStp B) (oAt B) 0 (nI s)).1 9 = B.1 9 + 1 := rfl
      have e11 : (b2 (bStp B) (oAt B) 0 (nI s)).1 11 = B.1 11 := rfl
      have e10 : (b2 (bStp B) (oAt B) 0 (nI s)).1 10 = B.1 10 := rfl
      have hat : (b2 (bStp B) (oAt B) 0 (nI s)).2 (oAt (b2 (bStp B) (oAt B) 0 (nI s))) 0 = nI s := if_pos ⟨rfl, rfl⟩
      have hnil : ∀ tk B, sBlk T pl n [] tk B = (0, 0, B) := by intro tk B; cases n <;> rfl
      have p := stm_p (K := fBlk r :: K) (sv := sv) hT hnil ih (sBlk_kp T pl n) (sBlk_sg T pl n) (h17 s) (B := b2 (bStp B) (oAt B) 0 (nI s)) (by omega) (by omega) (by omega) hat
      have et : tkOf (fBlk r :: K) = tkOf K := rfl
      rw [et] at p
      obtain ⟨k1, k2, k3, k4⟩ := @stm_kp T pl (sBlk T pl n) n s (tkOf K) (b2 (bStp B) (oAt B) 0 (nI s)) (sBlk_kp T pl n) (by omega) (by omega)
      have sq := @stm_sg T pl (sBlk T pl n) s (tkOf K) (b2 (bStp B) (oAt B) 0 (nI s)) (sBlk_sg T pl n)
      dsimp only
      generalize stm T pl (sBlk T pl n) s (tkOf K) (b2 (bStp B) (oAt B) 0 (nI s)) = q at *
      obtain ⟨y, a, b⟩ := p
      have goes : ∀ v, q.1 = 0 → pEnd T pl (9, v, fBlk r :: K, 9, q.2.2) K (sBlk T pl n r (tkOf K) q.2.2) := fun v q0 => ih r v K q.2.2 (by omega) k3 (by have := k4 (by omega); omega)
      rcases b with b | ⟨q0, v, rfl⟩
      · unfold pIs at b
        by_cases q5 : q.1 = 5
        · rw [if_pos q5] at b
          rw [if_neg (by omega)]
          refine ⟨y, a, ?_⟩
          unfold pIs
          rw [if_pos q5]
          exact b
        · rw [if_neg q5] at b
          obtain ⟨v, hv, rfl⟩ := b
          by_cases q0 : q.1 = 0
          · rw [if_pos q0]
            obtain ⟨z, c, d⟩ := goes v q0
            refine ⟨z, a.trans ?_, d⟩
            rw [q0]
            refine pTo.one (y := (9, v, fBlk r :: K, 9, q.2.2)) ?_ c
            simp only [pGo]
            rw [if_neg (by decide), if_pos (show (fBlk r).1 = 1 from rfl), if_pos trivial]
          · rw [if_neg q0]
            obtain ⟨z, c, d⟩ : pEnd T pl (q.1, v, K, 9, q.2.2) K q := pEnd.ok q5 hv
            refine ⟨z, a.trans (pTo.one ?_ c), d⟩
            simp only [pGo]
            rw [if_neg (by omega), if_pos (show (fBlk r).1 = 1 from rfl), if_neg q0]
      · rw [if_pos q0]
        obtain ⟨z, c, d⟩ := goes v q0
        exact ⟨z, a.trans c, d⟩
/-- a whole run of the pile -/
theorem run_p (hT : hgT T) (h17 : ∀ s, Tk T s ≤ 17) {m most : Nat} {a b sv : Int32} : ∃ y, pTo T pl (9, sv, [fBlk (Tm T m), fMth (-1)], 9, bEnter m a b (bZero most)) y ∧
    (if (sBlk T pl most (Tm T m) NN (bEnter m a b (bZero most))).1 = 5 then y.2.2.2.1 = 2 ∧ y.2.2.2.2 = (sBlk T pl most (Tm T m) NN (bEnter m a b (bZero most))).2.2
     else ∃ v, ((sBlk T pl most (Tm T m) NN (bEnter m a b (bZero most))).1 ≠ 0 → v = (sBlk T pl most (Tm T m) NN (bEnter m a b (bZero most))).2.1) ∧ y = ((sBlk T pl most (Tm T m) NN (bEnter m a b (bZero most))).1, v, [], if (sBlk T pl most (Tm T m) NN (bEnter m a b (bZero most))).1 = 4 then 1 else 0, bExit (sBlk T pl most (Tm T m) NN (bEnter m a b (bZero most))).2.2)) := by
  have e9 : (bEnter m a b (bZero most)).1 9 = 0 := by simp [bEnter, bZero]
  have e11 : (bEnter m a b (bZero most)).1 11 = most := by simp [bEnter, bZero]
  have e10 : (bEnter m a b (bZero most)).1 10 = 1 := rfl
  obtain ⟨y, t, i⟩ := blk_p (pl := pl) hT h17 most (Tm T m) sv [fMth (-1)] (bEnter m a b (bZero most)) (by omega) (by omega) (by omega)
  have et : tkOf [fMth (-1)] = NN := rfl
  rw [et] at i
  obtain ⟨k1, k2, k3, k4⟩ := sBlk_kp T pl most (Tm T m) NN (bEnter m a b (bZero most)) (by omega) (by omega)
  have sq := sBlk_sg T pl most (Tm T m) NN (bEnter m a b (bZero most))
  generalize sBlk T pl most (Tm T m) NN (bEnter m a b (bZero most)) = q at *
  unfold pIs at i
  by_cases h5 : q.1 = 5
  · rw [if_pos h5] at i
    exact ⟨y, t, by rw [if_pos h5]; exact i⟩
  · rw [if_neg h5] at i
    obtain ⟨v, hv, rfl⟩ := i
    refine ⟨_, t.trans (pTo.one rfl pTo.refl), ?_⟩
    rw [if_neg h5]
    refine ⟨v, hv, ?_⟩
    have hd := k4 h5
    simp only [pGo]
    rw [if_neg (by omega), if_neg (show ¬ (fMth (-1)).1 = 1 from (by decide : ¬ 0 = 1)), if_neg (show ¬ (fMth (-1)).1 = 2 from (by decide : ¬ 0 = 2)), if_neg (show ¬ (fMth (-1)).1 = 3 from (by decide : ¬ 0 = 3)), if_pos (show (bExit q.2.2).1 10 = 0 from by show q.2.2.1 10 - 1 = 0; omega)]
end PILE4
