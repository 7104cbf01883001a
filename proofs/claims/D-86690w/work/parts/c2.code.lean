set_option maxRecDepth 100000
section DRUN3
variable {T : Pg} {nm N : Nat} {pl : Nat → Int32 → Int32} {sh : Bool} {C : Cd} {bk : Wk} {n : Nat}
/-- .. with the catches -/
theorem cau_d (hb : dBk T nm N pl sh C bk n) (hk : kpB bk n) (hs : sgB bk) (hi0 : ivB T nm bk n) (hpl : vPl pl) {s : Nat} (hgd : gdS T s) (hsN : s < N) {m mw tg lp dp : Nat} {K : List Sc} {h : Hf} {p q hi hi1 hi2 : Nat} {tk : Int32} {k : Nat} {F : Nat → Cf} {B : Bk} {v : Int32}
    (c : okCa T C (okBlk T sh C m) K h s p q) (w : xB T nm N mw tg lp dp (Tl T s) (s + 1) hi1) (w2 : wC (xB T nm N mw) s lp dp (Tc T s) hi1 hi2) (hhi : hi2 ≤ hi) (hs9 : s ≠ 999) (w3 : Tk T s ≠ 16 → ∃ na, Ta T s = nI na ∧ 1 ≤ na ∧ na ≤ 3) (ht : tg ≠ 999 → tg < s ∧ (F k).2.2 (8 * tg) = tk)
    (htv : tg ≠ 999 → vK B tk) (hn : B.1 11 - B.1 9 ≤ n) (hiv : Iv 0 0 0 0 0 B) (hd : B.1 10 = k + 1) (hp : (F k).1 = p) (hat : B.2 (oAt B) 0 = nI s) :
    dEnd T nm N pl sh C (0, v, F, B) K h q F k s hi (cau T bk s (sInner T pl bk s tk B)) := by
  have hl := hiv.le
  have hw := xB_le T nm N mw _ _ _ _ _ _ w
  have hw2 := wC_le (xB_le T nm N mw) w2
  unfold okCa at c
  by_cases hc : Tc T s = []
  · rw [if_pos hc] at c
    have e : cau T bk s (sInner T pl bk s tk B) = sInner T pl bk s tk B := by
      unfold cau
      rw [hc]
      unfold catchFor
      split <;> rfl
    rw [e]
    exact inn_d hb hk hs hi0 hpl hgd hsN c w (by omega) w3 ht htv hn hiv hd hp hat
  rw [if_neg hc] at c
  obtain ⟨p1, as, c1, c2, c3, c4⟩ := c
  have b1 := inn_d (hi := hi) (v := v) hb hk hs hi0 hpl hgd hsN c1 w (by omega) w3 ht htv hn hiv hd hp hat
  have vr := sInner_iv hpl hi0 hk (s := s) (xB.b _ _ _ _ _ _ _ w) hn hiv htv
  obtain ⟨k1, k2, k3, k4⟩ := @sInner_kp T pl bk n s tk B hk hn hl
  have sq := @sInner_sg T pl bk s tk B hs
  generalize sInner T pl bk s tk B = r at *
  refine b1.bind (fun y iy => ?_)
  rcases iy.case sq with ⟨r5, y5, yb⟩ | ⟨r4, F2, rfl, g2, hh⟩ | ⟨r0, v2, F2, rfl, g2, hp2⟩ | ⟨r13, v2, F2, rfl, g2, m2, n2, hn2, hw1, hw2', hL⟩
  · have e : cau T bk s r = r := by unfold cau; rw [if_neg (by omega)]
    rw [e]
    exact dEnd.now (cIs.i5' r5 y5 yb)
  · have hd2 : r.2.2.1 10 = k + 1 := by have := k4 (by omega); omega
    unfold cau
    rw [if_pos r4]
    rcases hCs_c (T := T) (C := C) (h := h) (s := s) (r.2.2.2 3 r.2.1.toNatClampNeg) (Tc T s) as (p1 + 1) hi1 hi2 c4 w2 (xB_le T nm N mw) with ⟨i1, i2⟩ | ⟨b, a1, e1, x1, y1, i1, i2, i3, i4, i5, i6, i7, i8⟩
    · rw [i1]
      obtain ⟨z1, zv, zB⟩ := r
      dsimp only at r4
      subst r4
      exact dEnd.now (cIs.i4 g2 (hh.trans i2))
    · rw [i1]
      dsimp only
      refine dEnd.take hd2 (hh.trans i2) (vr.f r4) (by have := hiv.1; omega) ?_
      have hw6 := xB_le T nm N mw _ _ _ _ _ _ i6
      have g3 : prs F (fsl (fpc F2 k a1) k (8 * s) r.2.1) k s hi := g2.pc.sl (by omega) (by omega)
      have bb := hb m mw s lp dp K h b a1 e1 x1 y1 r.2.1 (fsl (fpc F2 k a1) k (8 * s) r.2.1) r.2.2 0 k i3 i6 (by omega) (vr (by omega)).1 hd2 (by rw [fsl_1, fpc_1]) (fun _ => ⟨by omega, fsl_i, (vr (by omega)).2.2 r4⟩)
      obtain ⟨j1, j2, j3, j4⟩ := hk b r.2.1 r.2.2 (by omega) k3
      have sz := hs b r.2.1 r.2.2
      generalize bk b r.2.1 r.2.2 = z at *
      refine bb.bind (fun y iy => ?_)
      rcases iy.case sz with ⟨r5, y5, yb⟩ | ⟨_, F3, rfl, _, _⟩ | ⟨z0, v3, F3, rfl, g4, hp3⟩ | ⟨_, v3, F3, rfl, _, _⟩
      · exact dEnd.now (cIs.i5' r5 y5 yb)
      · exact dEnd.now (iy.uq (by omega) g3 (by omega) (by omega))
      · have g5 := g3.trans g4 (show s ≤ x1 from by omega) (show y1 ≤ hi from by omega)
        refine dEnd.jmp hp3 (by have := j4 (by omega); omega) i4 i5 (by have := hiv.1; omega) ?_
        obtain ⟨z1, zv, zB⟩ := z
        dsimp only at z0
        subst z0
        exact dEnd.now (cIs.i0 g5.pc.pc fpc_1)
      · exact dEnd.now (iy.uq (by omega) g3 (by omega) (by omega))
  · have e : cau T bk s r = r := by unfold cau; rw [if_neg (by omega)]
    rw [e]
    have hd2 : r.2.2.1 10 = k + 1 := by have := k4 (by omega); omega
    refine dEnd.jmp hp2 hd2 c2 c3 (by have := hiv.1; omega) ?_
    obtain ⟨z1, zv, zB⟩ := r
    dsimp only at r0
    subst r0
    exact dEnd.now (cIs.i0 g2.pc.pc fpc_1)
  · have e : cau T bk s r = r := by unfold cau; rw [if_neg (by omega)]
    rw [e]
    unfold okLv at hL
    rw [if_neg (show ¬ (2 : Nat) = 0 from by decide), if_neg (show ¬ (2 : Nat) = 1 from by decide), if_pos rfl] at hL
    obtain ⟨z1, zv, zB⟩ := r
    exact dEnd.now (cIs.iw (m := m2) r13 g2 hn2 hw1 hw2' hL)
/-- ENTER and the finishing block -/
theorem ent_d {s : Nat} (hsN : s < N) (hb : dBk T nm N pl sh C bk n) {m mw tg lp dp : Nat} {K K0 : List Sc} {h h0 : Hf} {b : List Nat} {a e q hi lo1 hi1 : Nat} {tk : Int32} {k : Nat} {F F1 : Nat → Cf} {B : Bk} {v : Int32} {r : Rs}
    (c1 : C.1 a = (12, s, 0)) (c2 : okBlk T sh C m K0 h0 b (a + 1) e) (w : xB T nm N mw tg lp dp b lo1 hi1) (h1 : s < lo1) (ht : tg ≠ 999 → tg < s ∧ (F1 k).2.2 (8 * tg) = tk)
    (htv : tg ≠ 999 → vK B tk) (hn : B.1 11 - B.1 9 ≤ n) (hiv : Iv 0 0 0 0 0 B) (hd : B.1 10 = k + 1) (hp : (F1 k).1 = a)
    (g : ∀ y, cIs T sh C K0 h0 e (fpc F1 k (a + 1)) k lo1 hi1 (bk b tk (b2 B 11 s (B.2 11 s + 1))) y → dEnd T nm N pl sh C y K h q F k s hi r) :
    dEnd T nm N pl sh C (0, v, F1, B) K h q F k s hi r := by
  refine dEnd.op hp hd c1 ⟨by have := hiv.1; omega, hsN⟩ ?_
  show dEnd T nm N pl sh C (0, 0, fpc F1 k (a + 1), b2 B 11 s (B.2 11 s + 1)) K h q F k s hi r
  refine (hb m mw tg lp dp K0 h0 b (a + 1) e lo1 hi1 tk (fpc F1 k (a + 1)) (b2 B 11 s (B.2 11 s + 1)) 0 k c2 w hn (hiv.s2 (by omega)) hd fpc_1 (fun h9 => ⟨by have := (ht h9).1; omega, by rw [fpc_2]; exact (ht h9).2, (htv h9).mono (Nat.le_refl _)⟩)).bind g
/-- the rest of a guard, in code with copies -/
theorem fic_d {s : Nat} (hsN : s < N) (hi0 : ivB T nm bk n) (hb : dBk T nm N pl sh C bk n) (hk : kpB bk n) (hs : sgB bk) {m mw tg lp dp : Nat} {K : List Sc} {h : Hf} {q hi lo1 : Nat} {b : List Nat} {tk : Int32} {k : Nat} {F : Nat → Cf} {x : Cs} {r : Rs}
    (hsh : sh = false) (hT : To T s = some b) {p1 p2 p3 : Nat}
    (c0 : dEnd T nm N pl sh C x ((3, s, 0, 0, h) :: K) (fun _ => some (p2 + 1, 8 * s + 1)) p1 F k s hi r)
    (c1 : C.1 p1 = (12, s, 0)) (c2 : okBlk T sh C m K h b (p1 + 1) p2) (c3 : (C.1 p2).1 = 5) (c3' : (C.1 p2).2.2 = q) (c4 : C.1 (p2 + 1) = (12, s, 0)) (c5 : okBlk T sh C m ((4, s, 0, 0, h) :: K) (fun _ => some (p3 + 1, 8 * s + 7)) b (p2 + 2) p3) (c6 : (C.1 p3).1 = 5) (c6' : (C.1 p3).2.2 = p3 + 3) (c7 : (C.1 (p3 + 1)).1 = 16) (c8 : C.1 (p3 + 2) = (15, 0, 8 * s + 7)) (a8 : hAt T C h (p3 + 2)) (c9 : C.1 (p3 + 3) = (15, 0, 8 * s + 1)) (a9 : hAt T C h (p3 + 3))
    (w : xB T nm N mw tg lp dp b lo1 hi) (hlo : s < lo1) (ht : tg ≠ 999 → tg < s ∧ (F k).2.2 (8 * tg) = tk)
    (kn : r.1 ≠ 5 → r.2.2.1 11 - r.2.2.1 9 ≤ n ∧ r.2.2.1 9 ≤ r.2.2.1 11 ∧ r.2.2.1 10 = k + 1 ∧ Iv 0 0 0 0 0 r.2.2 ∧ (tg ≠ 999 → vK r.2.2 tk)) (sr : r.1 ≤ 5) (vr4 : r.1 = 4 → vK r.2.2 r.2.1 ∧ r.2.2.1 4 ≤ 400) :
    dEnd T nm N pl sh C x K h q F k s hi (fin T bk s tk r) := by
  have hw := xB_le T nm N mw _ _ _ _ _ _ w
  refine c0.bind (fun y iy => ?_)
  unfold fin
  rw [hT]
  dsimp only
  by_cases r5 : r.1 = 5
  · rw [if_pos r5]
    rcases iy.case sr with ⟨_, y5, yb⟩ | ⟨e, _⟩ | ⟨e, _⟩ | ⟨e, _⟩
    · exact dEnd.now (cIs.i5' r5 y5 yb)
    · omega
    · omega
    · omega
  rw [if_neg r5]
  obtain ⟨hn, hl, hd, hiv, htv⟩ := kn r5
  have kw := hk b tk (b2 r.2.2 11 s (r.2.2.2 11 s + 1)) hn hl
  have h12 : k < 12 := by have := hiv.1; omega
  have vz := hi0 mw tg lp dp b lo1 hi tk (b2 r.2.2 11 s (r.2.2.2 11 s + 1)) (xB.b _ _ _ _ _ _ _ w) hn (hiv.s2 (by omega)) (fun h9 => (htv h9).mono (Nat.le_refl _))
  have sw := hs b tk (b2 r.2.2 11 s (r.2.2.2 11 s + 1))
  have e10 : (b2 r.2.2 11 s (r.2.2.2 11 s + 1)).1 10 = r.2.2.1 10 := rfl
  obtain ⟨j1, j2, j3, j4⟩ := kw
  rcases iy.case sr with ⟨e5, _⟩ | ⟨r4, F2, rfl, g2, hh⟩ | ⟨r0, v2, F2, rfl, g2, hp2⟩ | ⟨r13, v2, F2, rfl, g2, m2, n2, hn2, hw1, hw2, hL⟩
  · exact absurd e5 r5
  · -- a failure is on its way
    refine dEnd.take hd hh (vr4 r4) h12 ?_
    have g3 : prs F (fsl (fpc F2 k (p2 + 1)) k (8 * s + 1) r.2.1) k s hi := g2.pc.sl (by omega) (by omega)
    refine ent_d (tk := tk) hsN hb c4 c5 w hlo (F1 := fsl (fpc F2 k (p2 + 1)) k (8 * s + 1) r.2.1) (fun h9 => ⟨(ht h9).1, by rw [g3.2 _ (by have := (ht h9).1; omega)]; exact (ht h9).2⟩) htv hn hiv hd (by rw [fsl_1, fpc_1]) ?_
    have x1 : (fsl (fpc F2 k (p2 + 1)) k (8 * s + 1) r.2.1 k).2.2 (8 * s + 1) = r.2.1 := fsl_i
    generalize fsl (fpc F2 k (p2 + 1)) k (8 * s + 1) r.2.1 = F3 at *
    generalize bk b tk (b2 r.2.2 11 s (r.2.2.2 11 s + 1)) = z at *
    intro y iy
    rcases iy.case sw with ⟨z5, y5, yb⟩ | ⟨z4, F4, rfl, g4, hh4⟩ | ⟨z0, v4, F4, rfl, g4, hp4⟩ | ⟨z13, v4, F4, rfl, g4, m4, n4, hn4, hw3, hw4, hL4⟩
    · rw [if_pos z5]
      exact dEnd.now (cIs.i5' z5 y5 yb)
    · rw [if_neg (by omega), if_neg (by omega), if_pos r4]
      have g5 := g3.pc.trans g4 (show s ≤ lo1 from by omega) (Nat.le_refl hi)
      have hd4 : z.2.2.1 10 = k + 1 := by have := j4 (by omega); omega
      refine dEnd.take hd4 hh4 (vz.f z4) h12 ?_
      refine dEnd.op (p := p3 + 1) (i := (16, (C.1 (p3 + 1)).2.1, (C.1 (p3 + 1)).2.2)) (by rw [fsl_1, fpc_1]) hd4 (by rw [← c7]) ⟨by omega, trivial⟩ ?_
      refine dEnd.op (p := p3 + 2) (F1 := fpc (fsl (fpc F4 k (p3 + 1)) k (8 * s + 7) z.2.1) k (p3 + 1 + 1)) fpc_1 hd4 c8 ⟨by show z.2.2.1 10 ≤ 12; omega, by show 8 * s + 7 < 8 * N; omega⟩ ?_
      show dEnd T nm N pl sh C (4, (fpc (fpc (fsl (fpc F4 k (p3 + 1)) k (8 * s + 7) z.2.1) k (p3 + 1 + 1)) k (p3 + 2 + 1) k).2.2 (8 * s + 7), fpc (fpc (fsl (fpc F4 k (p3 + 1)) k (8 * s + 7) z.2.1) k (p3 + 1 + 1)) k (p3 + 2 + 1), b1 z.2.2 7 (z.2.2.1 7 + 1)) K h q F k s hi (z.1, z.2.1, b1 z.2.2 7 (z.2.2.1 7 + 1))
      rw [fpc_2, fpc_2, fsl_i, z4]
      refine dEnd.now (cIs.i4 (g5.pc.sl (by omega) (by omega)).pc.pc ?_)
      rw [fpc_1]
      exact a8 _
    · rw [if_neg (by omega), if_pos z0]
      have g5 := g3.pc.trans g4 (show s ≤ lo1 from by omega) (Nat.le_refl hi)
      have hd4 : z.2.2.1 10 = k + 1 := by have := j4 (by omega); omega
      refine dEnd.jmp hp4 hd4 c6 c6' h12 ?_
      refine dEnd.op (p := p3 + 3) fpc_1 hd4 c9 ⟨by omega, by show 8 * s + 1 < 8 * N; omega⟩ ?_
      show dEnd T nm N pl sh C (4, (fpc (fpc (fpc F4 k (p3 + 1)) k (p3 + 3)) k (p3 + 3 + 1) k).2.2 (8 * s + 1), fpc (fpc (fpc F4 k (p3 + 1)) k (p3 + 3)) k (p3 + 3 + 1), z.2.2) K h q F k s hi (r.1, r.2.1, z.2.2)
      rw [fpc_2, fpc_2, fpc_2, g4.2 _ (by omega), fpc_2, x1, r4]
      refine dEnd.now (cIs.i4 g5.pc.pc.pc ?_)
      rw [fpc_1]
      exact a9 _
    · rw [if_neg (by omega), if_neg (by omega), if_pos r4]
      have g5 := g3.pc.trans g4 (show s ≤ lo1 from by omega) (Nat.le_refl hi)
      have hd4 : z.2.2.1 10 = k + 1 := by have := j4 (by omega); omega
      unfold okLv at hL4
      rw [if_neg (show ¬ (4 : Nat) = 0 from by decide), if_neg (show ¬ (4 : Nat) = 1 from by decide), if_neg (show ¬ (4 : Nat) = 2 from by decide), if_neg (show ¬ (4 : Nat) = 3 from by decide), if_pos rfl] at hL4
      obtain ⟨l1, l2⟩ := hL4
      refine dEnd.op (i := (16, (C.1 (F4 k).1).2.1, (C.1 (F4 k).1).2.2)) rfl hd4 (by rw [← l1]) ⟨by omega, trivial⟩ ?_
      show dEnd T nm N pl sh C (0, 0, fpc F4 k ((F4 k).1 + 1), b1 z.2.2 7 (z.2.2.1 7 + 1)) K h q F k s hi (z.1, z.2.1, b1 z.2.2 7 (z.2.2.1 7 + 1))
      refine dEnd.now (cIs.iw (m := m4) z13 g5.pc hn4 (fun e => ?_) hw4 ?_)
      · rw [fpc_2]; exact hw3 e
      · rw [fpc_1]; exact l2
  · -- it just goes on
    refine ent_d (tk := tk) hsN hb c1 c2 w hlo (F1 := F2) (fun h9 => ⟨(ht h9).1, by rw [g2.2 _ (by have := (ht h9).1; omega)]; exact (ht h9).2⟩) htv hn hiv hd hp2 ?_
    generalize bk b tk (b2 r.2.2 11 s (r.2.2.2 11 s + 1)) = z at *
    intro y iy
    rcases iy.case sw with ⟨z5, y5, yb⟩ | ⟨z4, F4, rfl, g4, hh4⟩ | ⟨z0, v4, F4, rfl, g4, hp4⟩ | ⟨z13, v4, F4, rfl, g4, _⟩
    · rw [if_pos z5]
      exact dEnd.now (cIs.i5' z5 y5 yb)
    · rw [if_neg (by omega), if_neg (by omega), if_neg (by omega)]
      exact dEnd.now (iy.uq (by omega) g2.pc (by omega) (Nat.le_refl _))
    · rw [if_neg (by omega), if_pos z0, r0]
      have g5 := g2.pc.trans g4 (show s ≤ lo1 from by omega) (Nat.le_refl hi)
      refine dEnd.jmp hp4 (by have := j4 (by omega); omega) c3 c3' h12 ?_
      exact dEnd.now (cIs.i0 g5.pc.pc fpc_1)
    · rw [if_neg (by omega), if_neg (by omega), if_neg (by omega)]
      exact dEnd.now (iy.uq (by omega) g2.pc (by omega) (Nat.le_refl _))
  · -- a way out
    unfold okLv at hL
    rw [if_neg (show ¬ (3 : Nat) = 0 from by decide), if_neg (show ¬ (3 : Nat) = 1 from by decide), if_neg (show ¬ (3 : Nat) = 2 from by decide), if_pos rfl, hsh, if_neg (show ¬ false = true from by decide)] at hL
    obtain ⟨e1, e2, e3, l1, l2, l3, l4, l5⟩ := hL
    have hfb : finB T s = b := by unfold finB; rw [hT]; rfl
    rw [← hsh] at l3 l5
    replace l3 : okBlk T sh C m2 K h b (e1 + 1) e2 := by rw [← hfb]; exact l3
    -- from e1 on, with the result kept
    have key : ∀ (F3 : Nat → Cf) (v3 : Int32), prs F F3 k s hi → (F3 k).1 = e1 → (r.1 = 1 → (F3 k).2.2 (8 * s + 2) = r.2.1) → dEnd T nm N pl sh C (0, v3, F3, r.2.2) K h q F k s hi (if (bk b tk (b2 r.2.2 11 s (r.2.2.2 11 s + 1))).1 = 5 then bk b tk (b2 r.2.2 11 s (r.2.2.2 11 s + 1)) else if (bk b tk (b2 r.2.2 11 s (r.2.2.2 11 s + 1))).1 = 0 then (r.1, r.2.1, (bk b tk (b2 r.2.2 11 s (r.2.2.2 11 s + 1))).2.2) else if r.1 = 4 then ((bk b tk (b2 r.2.2 11 s (r.2.2.2 11 s + 1))).1, (bk b tk (b2 r.2.2 11 s (r.2.2.2 11 s + 1))).2.1, b1 (bk b tk (b2 r.2.2 11 s (r.2.2.2 11 s + 1))).2.2 7 ((bk b tk (b2 r.2.2 11 s (r.2.2.2 11 s + 1))).2.2.1 7 + 1)) else bk b tk (b2 r.2.2 11 s (r.2.2.2 11 s + 1))) := by
      intro F3 v3 g3 hp3 hkp
      refine ent_d (tk := tk) hsN hb l2 l3 w hlo (F1 := F3) (fun h9 => ⟨(ht h9).1, by rw [g3.2 _ (by have := (ht h9).1; omega)]; exact (ht h9).2⟩) htv hn hiv hd hp3 ?_
      generalize bk b tk (b2 r.2.2 11 s (r.2.2.2 11 s + 1)) = z at *
      intro y iy
      rcases iy.case sw with ⟨z5, y5, yb⟩ | ⟨z4, F4, rfl, g4, hh4⟩ | ⟨z0, v4, F4, rfl, g4, hp4⟩ | ⟨z13, v4, F4, rfl, g4, _⟩
      · rw [if_pos z5]
        exact dEnd.now (cIs.i5' z5 y5 yb)
      · rw [if_neg (by omega), if_neg (by omega), if_neg (by omega)]
        exact dEnd.now (iy.uq (by omega) g3.pc (by omega) (Nat.le_refl _))
      · rw [if_neg (by omega), if_pos z0]
        have g5 := g3.pc.trans g4 (show s ≤ lo1 from by omega) (Nat.le_refl hi)
        have hd4 : z.2.2.1 10 = k + 1 := by have := j4 (by omega); omega
        by_cases w1 : r.1 = 1
        · rw [if_pos w1] at l4
          refine dEnd.op hp4 hd4 l4.1 ⟨by omega, by show 8 * s + 2 < 8 * N; omega⟩ ?_
          show dEnd T nm N pl sh C (0, 0, fre (fpc F4 k (e2 + 1)) k ((fpc F4 k (e2 + 1) k).2.2 (8 * s + 2)), z.2.2) K h q F k s hi (r.1, r.2.1, z.2.2)
          rw [fpc_2, g4.2 _ (by omega), fpc_2, hkp w1]
          refine dEnd.now (cIs.iw (m := m2) r13 g5.pc.re hn2 (fun e => ⟨fre_r, (hw1 e).2⟩) hw2 ?_)
          rw [fre_1, fpc_1, ← l4.2]
          exact l5
        · rw [if_neg w1] at l4
          refine dEnd.now (cIs.iw (m := m2) r13 g5 hn2 (fun e => absurd e w1) hw2 ?_)
          rw [hp4, ← l4]
          exact l5
      · rw [if_neg (by omega), if_neg (by omega), if_neg (by omega)]
        exact dEnd.now (iy.uq (by omega) g3.pc (by omega) (Nat.le_refl _))
    by_cases w1 : r.1 = 1
    · rw [if_pos w1] at l1
      refine dEnd.op rfl hd l1.1 ⟨by omega, by show 8 * s + 2 < 8 * N; omega⟩ ?_
      show dEnd T nm N pl sh C (0, 0, fsl (fpc F2 k ((F2 k).1 + 1)) k (8 * s + 2) (fpc F2 k ((F2 k).1 + 1) k).2.1, r.2.2) K h q F k s hi _
      refine key _ _ (g2.pc.sl (by omega) (by omega)) (by rw [fsl_1, fpc_1, l1.2]) (fun _ => ?_)
      rw [fsl_i, fpc_2]
      exact (hw1 w1).1
    · rw [if_neg w1] at l1
      exact key _ _ g2 l1.symm (fun e => absurd e w1)
end DRUN3
