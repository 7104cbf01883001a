set_option maxRecDepth 100000
section DRUN4
variable {T : Pg} {nm N : Nat} {pl : Nat → Int32 → Int32} {sh : Bool} {C : Cd} {bk : Wk} {n : Nat}
/-- the rest of a guard, in code with one finishing block -/
theorem fis_d {s : Nat} (hsN : s < N) (hi0 : ivB T nm bk n) (hb : dBk T nm N pl sh C bk n) (hk : kpB bk n) (hs : sgB bk) {m mw tg lp dp : Nat} {K : List Sc} {h : Hf} {q hi lo1 : Nat} {b : List Nat} {tk : Int32} {k : Nat} {F : Nat → Cf} {x : Cs} {r : Rs}
    (hsh : sh = true) (hT : To T s = some b) {p1 p3 : Nat}
    (c0 : dEnd T nm N pl sh C x ((3, s, 0, p1 + 4, h) :: K) (fun _ => some (p1 + 3, 8 * s + 1)) p1 F k s hi r)
    (c1 : C.1 p1 = (18, 0, 8 * s + 1)) (c2 : C.1 (p1 + 1) = (19, 8 * s + 3, q)) (c3 : (C.1 (p1 + 2)).1 = 5) (c3' : (C.1 (p1 + 2)).2.2 = p1 + 4) (c4 : C.1 (p1 + 3) = (19, 8 * s + 3, p3 + 4)) (c5 : C.1 (p1 + 4) = (12, s, 0)) (c6 : okBlk T sh C m ((5, s, 0, 0, h) :: K) (fun _ => some (p3 + 1, 8 * s + 7)) b (p1 + 5) p3) (c7 : (C.1 p3).1 = 5) (c7' : (C.1 p3).2.2 = p3 + 3) (c8 : C.1 (p3 + 1) = (17, 0, 8 * s + 1)) (c9 : C.1 (p3 + 2) = (15, 0, 8 * s + 7)) (a9 : hAt T C h (p3 + 2)) (c10 : C.1 (p3 + 3) = (20, 0, 8 * s + 3)) (c11 : C.1 (p3 + 4) = (15, 0, 8 * s + 1)) (a11 : hAt T C h (p3 + 4)) (hq : q = p3 + 5) (hp3 : p3 < 100000)
    (w : xB T nm N mw tg lp dp b lo1 hi) (hlo : s < lo1) (ht : tg ≠ 999 → tg < s ∧ (F k).2.2 (8 * tg) = tk)
    (kn : r.1 ≠ 5 → r.2.2.1 11 - r.2.2.1 9 ≤ n ∧ r.2.2.1 9 ≤ r.2.2.1 11 ∧ r.2.2.1 10 = k + 1 ∧ Iv 0 0 0 0 0 r.2.2 ∧ (tg ≠ 999 → vK r.2.2 tk)) (sr : r.1 ≤ 5) (hv : r.1 = 4 → r.2.1 ≠ NN) (vr4 : r.1 = 4 → vK r.2.2 r.2.1 ∧ r.2.2.1 4 ≤ 400) :
    dEnd T nm N pl sh C x K h q F k s hi (fin T bk s tk r) := by
  have hw := xB_le T nm N mw _ _ _ _ _ _ w
  refine c0.bind (fun y iy => ?_)
  unfold fin
  rw [hT]
  dsimp only
  by_cases r5 : r.1 = 5
  · rw [if_pos r5]
    rcases iy.case sr with ⟨_, y5, yb⟩ | ⟨e, _⟩ | ⟨e, _⟩ | ⟨e, _⟩
    · exact dEnd.now (cIs.i5' r5 y5 yb)
    · omega
    · omega
    · omega
  rw [if_neg r5]
  obtain ⟨hn, hl, hd, hiv, htv⟩ := kn r5
  have kw := hk b tk (b2 r.2.2 11 s (r.2.2.2 11 s + 1)) hn hl
  have h12 : k < 12 := by have := hiv.1; omega
  have vz := hi0 mw tg lp dp b lo1 hi tk (b2 r.2.2 11 s (r.2.2.2 11 s + 1)) (xB.b _ _ _ _ _ _ _ w) hn (hiv.s2 (by omega)) (fun h9 => (htv h9).mono (Nat.le_refl _))
  have sw := hs b tk (b2 r.2.2 11 s (r.2.2.2 11 s + 1))
  have e10 : (b2 r.2.2 11 s (r.2.2.2 11 s + 1)).1 10 = r.2.2.1 10 := rfl
  obtain ⟨j1, j2, j3, j4⟩ := kw
  have key : ∀ (F3 : Nat → Cf) (v3 : Int32) (g : Nat), prs F F3 k s hi → (F3 k).1 = p1 + 4 → (F3 k).2.2 (8 * s + 3) = nI g → g < 2147483648 → ((F3 k).2.2 (8 * s + 1) = NN ↔ r.1 ≠ 4) →
      (∀ F4, prs F F4 k s hi → (F4 k).1 = g → (∀ i, 8 * s ≤ i → i < 8 * s + 8 → (F4 k).2.2 i = (F3 k).2.2 i) → (bk b tk (b2 r.2.2 11 s (r.2.2.2 11 s + 1))).1 = 0 → dEnd T nm N pl sh C (0, 0, F4, (bk b tk (b2 r.2.2 11 s (r.2.2.2 11 s + 1))).2.2) K h q F k s hi (r.1, r.2.1, (bk b tk (b2 r.2.2 11 s (r.2.2.2 11 s + 1))).2.2)) →
      dEnd T nm N pl sh C (0, v3, F3, r.2.2) K h q F k s hi (if (bk b tk (b2 r.2.2 11 s (r.2.2.2 11 s + 1))).1 = 5 then bk b tk (b2 r.2.2 11 s (r.2.2.2 11 s + 1)) else if (bk b tk (b2 r.2.2 11 s (r.2.2.2 11 s + 1))).1 = 0 then (r.1, r.2.1, (bk b tk (b2 r.2.2 11 s (r.2.2.2 11 s + 1))).2.2) else if r.1 = 4 then ((bk b tk (b2 r.2.2 11 s (r.2.2.2 11 s + 1))).1, (bk b tk (b2 r.2.2 11 s (r.2.2.2 11 s + 1))).2.1, b1 (bk b tk (b2 r.2.2 11 s (r.2.2.2 11 s + 1))).2.2 7 ((bk b tk (b2 r.2.2 11 s (r.2.2.2 11 s + 1))).2.2.1 7 + 1)) else bk b tk (b2 r.2.2 11 s (r.2.2.2 11 s + 1))) := by
    intro F3 v3 g g3 hp hg3 hgl how hgo
    refine ent_d (tk := tk) hsN hb c5 c6 w hlo (F1 := F3) (fun h9 => ⟨(ht h9).1, by rw [g3.2 _ (by have := (ht h9).1; omega)]; exact (ht h9).2⟩) htv hn hiv hd hp ?_
    generalize bk b tk (b2 r.2.2 11 s (r.2.2.2 11 s + 1)) = z at *
    intro y iy
    rcases iy.case sw with ⟨z5, y5, yb⟩ | ⟨z4, F4, rfl, g4, hh4⟩ | ⟨z0, v4, F4, rfl, g4, hp4⟩ | ⟨z13, v4, F4, rfl, g4, m4, n4, hn4, hw3, hw4, hL4⟩
    · rw [if_pos z5]
      exact dEnd.now (cIs.i5' z5 y5 yb)
    · rw [if_neg (by omega), if_neg (by omega)]
      have g5 := g3.pc.trans g4 (show s ≤ lo1 from by omega) (Nat.le_refl hi)
      have hd4 : z.2.2.1 10 = k + 1 := by have := j4 (by omega); omega
      have x1 : (F4 k).2.2 (8 * s + 1) = (F3 k).2.2 (8 * s + 1) := by rw [g4.2 _ (by omega), fpc_2]
      refine dEnd.take hd4 hh4 (vz.f z4) h12 ?_
      refine dEnd.op (p := p3 + 1) (F1 := fsl (fpc F4 k (p3 + 1)) k (8 * s + 7) z.2.1) (by rw [fsl_1, fpc_1]) hd4 c8 ⟨by omega, by show 8 * s + 1 < 8 * N; omega⟩ ?_
      show dEnd T nm N pl sh C (0, 0, fpc (fsl (fpc F4 k (p3 + 1)) k (8 * s + 7) z.2.1) k (p3 + 1 + 1), if (fpc (fsl (fpc F4 k (p3 + 1)) k (8 * s + 7) z.2.1) k (p3 + 1 + 1) k).2.2 (8 * s + 1) = NN then z.2.2 else b1 z.2.2 7 (z.2.2.1 7 + 1)) K h q F k s hi _
      rw [fpc_2, fsl_j (by omega), fpc_2, x1]
      by_cases r4 : r.1 = 4
      · rw [if_neg (fun e => how.mp e r4), if_pos r4]
        refine dEnd.op (p := p3 + 2) (F1 := fpc (fsl (fpc F4 k (p3 + 1)) k (8 * s + 7) z.2.1) k (p3 + 1 + 1)) fpc_1 hd4 c9 ⟨by first | omega | (show z.2.2.1 10 ≤ 12; omega), by show 8 * s + 7 < 8 * N; omega⟩ ?_
        show dEnd T nm N pl sh C (4, (fpc (fpc (fsl (fpc F4 k (p3 + 1)) k (8 * s + 7) z.2.1) k (p3 + 1 + 1)) k (p3 + 2 + 1) k).2.2 (8 * s + 7), fpc (fpc (fsl (fpc F4 k (p3 + 1)) k (8 * s + 7) z.2.1) k (p3 + 1 + 1)) k (p3 + 2 + 1), b1 z.2.2 7 (z.2.2.1 7 + 1)) K h q F k s hi (z.1, z.2.1, b1 z.2.2 7 (z.2.2.1 7 + 1))
        rw [fpc_2, fpc_2, fsl_i, z4]
        refine dEnd.now (cIs.i4 (g5.pc.sl (by omega) (by omega)).pc.pc ?_)
        rw [fpc_1]
        exact a9 _
      · rw [if_pos (how.mpr r4), if_neg r4]
        refine dEnd.op (p := p3 + 2) (F1 := fpc (fsl (fpc F4 k (p3 + 1)) k (8 * s + 7) z.2.1) k (p3 + 1 + 1)) fpc_1 hd4 c9 ⟨by first | omega | (show z.2.2.1 10 ≤ 12; omega), by show 8 * s + 7 < 8 * N; omega⟩ ?_
        show dEnd T nm N pl sh C (4, (fpc (fpc (fsl (fpc F4 k (p3 + 1)) k (8 * s + 7) z.2.1) k (p3 + 1 + 1)) k (p3 + 2 + 1) k).2.2 (8 * s + 7), fpc (fpc (fsl (fpc F4 k (p3 + 1)) k (8 * s + 7) z.2.1) k (p3 + 1 + 1)) k (p3 + 2 + 1), z.2.2) K h q F k s hi z
        rw [fpc_2, fpc_2, fsl_i]
        obtain ⟨z1, zv, zB⟩ := z
        dsimp only at z4
        subst z4
        refine dEnd.now (cIs.i4 (g5.pc.sl (by omega) (by omega)).pc.pc ?_)
        rw [fpc_1]
        exact a9 _
    · rw [if_neg (by omega), if_pos z0]
      have g5 := g3.pc.trans g4 (show s ≤ lo1 from by omega) (Nat.le_refl hi)
      have hd4 : z.2.2.1 10 = k + 1 := by have := j4 (by omega); omega
      refine dEnd.jmp hp4 hd4 c7 c7' h12 ?_
      refine dEnd.op (p := p3 + 3) fpc_1 hd4 c10 ⟨by omega, by show 8 * s + 3 < 8 * N; omega, g, by show (fpc (fpc F4 k (p3 + 1)) k (p3 + 3) k).2.2 (8 * s + 3) = nI g; rw [fpc_2, fpc_2, g4.2 (8 * s + 3) (by omega), fpc_2, hg3], hgl⟩ ?_
      show dEnd T nm N pl sh C (0, 0, fpc (fpc (fpc (fpc F4 k (p3 + 1)) k (p3 + 3)) k (p3 + 3 + 1)) k ((fpc (fpc (fpc F4 k (p3 + 1)) k (p3 + 3)) k (p3 + 3 + 1) k).2.2 (8 * s + 3)).toNatClampNeg, z.2.2) K h q F k s hi _
      rw [fpc_2, fpc_2, fpc_2, g4.2 (8 * s + 3) (by omega), fpc_2, hg3, nI_clamp (by omega)]
      refine hgo _ g5.pc.pc.pc.pc fpc_1 (fun i h1 h2 => ?_) z0
      rw [fpc_2, fpc_2, fpc_2, fpc_2, g4.2 _ (by omega), fpc_2]
    · rw [if_neg (by omega), if_neg (by omega)]
      have g5 := g3.pc.trans g4 (show s ≤ lo1 from by omega) (Nat.le_refl hi)
      have hd4 : z.2.2.1 10 = k + 1 := by have := j4 (by omega); omega
      have x1 : (F4 k).2.2 (8 * s + 1) = (F3 k).2.2 (8 * s + 1) := by rw [g4.2 _ (by omega), fpc_2]
      unfold okLv at hL4
      rw [if_neg (show ¬ (5 : Nat) = 0 from by decide), if_neg (show ¬ (5 : Nat) = 1 from by decide), if_neg (show ¬ (5 : Nat) = 2 from by decide), if_neg (show ¬ (5 : Nat) = 3 from by decide), if_neg (show ¬ (5 : Nat) = 4 from by decide)] at hL4
      obtain ⟨l1, l2⟩ := hL4
      refine dEnd.op rfl hd4 l1 ⟨by omega, by show 8 * s + 1 < 8 * N; omega⟩ ?_
      show dEnd T nm N pl sh C (0, 0, fpc F4 k ((F4 k).1 + 1), if (fpc F4 k ((F4 k).1 + 1) k).2.2 (8 * s + 1) = NN then z.2.2 else b1 z.2.2 7 (z.2.2.1 7 + 1)) K h q F k s hi _
      rw [fpc_2, x1]
      by_cases r4 : r.1 = 4
      · rw [if_neg (fun e => how.mp e r4), if_pos r4]
        refine dEnd.now (cIs.iw (m := m4) z13 g5.pc hn4 (fun e => ?_) hw4 ?_)
        · rw [fpc_2]; exact hw3 e
        · rw [fpc_1]; exact l2
      · rw [if_pos (how.mpr r4), if_neg r4]
        obtain ⟨z1, zv, zB⟩ := z
        refine dEnd.now (cIs.iw (m := m4) z13 g5.pc hn4 (fun e => ?_) hw4 ?_)
        · rw [fpc_2]; exact hw3 e
        · rw [fpc_1]; exact l2
  rcases iy.case sr with ⟨e5, _⟩ | ⟨r4, F2, rfl, g2, hh⟩ | ⟨r0, v2, F2, rfl, g2, hp2⟩ | ⟨r13, v2, F2, rfl, g2, m2, n2, hn2, hw1, hw2, hL⟩
  · exact absurd e5 r5
  · -- a failure is on its way
    refine dEnd.take hd hh (vr4 r4) h12 ?_
    have g3 : prs F (fsl (fpc F2 k (p1 + 3)) k (8 * s + 1) r.2.1) k s hi := g2.pc.sl (by omega) (by omega)
    have x1 : (fsl (fpc F2 k (p1 + 3)) k (8 * s + 1) r.2.1 k).2.2 (8 * s + 1) = r.2.1 := fsl_i
    have xp : (fsl (fpc F2 k (p1 + 3)) k (8 * s + 1) r.2.1 k).1 = p1 + 3 := by rw [fsl_1, fpc_1]
    generalize fsl (fpc F2 k (p1 + 3)) k (8 * s + 1) r.2.1 = F3 at *
    refine dEnd.op xp hd c4 ⟨by omega, by show 8 * s + 3 < 8 * N; omega⟩ ?_
    show dEnd T nm N pl sh C (0, 0, fsl (fpc F3 k (p1 + 3 + 1)) k (8 * s + 3) (nI (p3 + 4)), r.2.2) K h q F k s hi _
    refine key _ _ (p3 + 4) (g3.pc.sl (by omega) (by omega)) (by rw [fsl_1, fpc_1]) fsl_i (by omega) ?_ (fun F4 g4 hp4 hs4 z0 => ?_)
    · rw [fsl_j (by omega), fpc_2, x1]
      exact ⟨fun e => absurd e (hv r4), fun e => absurd r4 e⟩
    · refine dEnd.op hp4 (by have := j4 (by omega); omega) c11 ⟨by have := j4 (by omega); omega, by show 8 * s + 1 < 8 * N; omega⟩ ?_
      show dEnd T nm N pl sh C (4, (fpc F4 k (p3 + 4 + 1) k).2.2 (8 * s + 1), fpc F4 k (p3 + 4 + 1), _) K h q F k s hi _
      rw [fpc_2, hs4 _ (by omega) (by omega), fsl_j (by omega), fpc_2, x1, r4]
      refine dEnd.now (cIs.i4 g4.pc ?_)
      rw [fpc_1]
      exact a11 _
  · -- it just goes on
    refine dEnd.op hp2 hd c1 ⟨by omega, by show 8 * s + 1 < 8 * N; omega⟩ ?_
    show dEnd T nm N pl sh C (0, 0, fsl (fpc F2 k (p1 + 1)) k (8 * s + 1) NN, r.2.2) K h q F k s hi _
    have g3 : prs F (fsl (fpc F2 k (p1 + 1)) k (8 * s + 1) NN) k s hi := g2.pc.sl (by omega) (by omega)
    have x1 : (fsl (fpc F2 k (p1 + 1)) k (8 * s + 1) NN k).2.2 (8 * s + 1) = NN := fsl_i
    have xp : (fsl (fpc F2 k (p1 + 1)) k (8 * s + 1) NN k).1 = p1 + 1 := by rw [fsl_1, fpc_1]
    generalize fsl (fpc F2 k (p1 + 1)) k (8 * s + 1) NN = F3 at *
    refine dEnd.op xp hd c2 ⟨by omega, by show 8 * s + 3 < 8 * N; omega⟩ ?_
    show dEnd T nm N pl sh C (0, 0, fsl (fpc F3 k (p1 + 1 + 1)) k (8 * s + 3) (nI q), r.2.2) K h q F k s hi _
    refine dEnd.jmp (p := p1 + 2) (by rw [fsl_1, fpc_1]) hd c3 c3' h12 ?_
    refine key _ _ q ((g3.pc.sl (by omega) (by omega)).pc.pc) fpc_1 (by rw [fpc_2, fpc_2]; exact fsl_i) (by omega) ?_ (fun F4 g4 hp4 hs4 z0 => ?_)
    · rw [fpc_2, fpc_2, fsl_j (by omega), fpc_2, x1]
      exact ⟨fun _ => by omega, fun _ => rfl⟩
    · rw [r0]
      exact dEnd.now (cIs.i0 g4 hp4)
  · -- a way out
    unfold okLv at hL
    rw [if_neg (show ¬ (3 : Nat) = 0 from by decide), if_neg (show ¬ (3 : Nat) = 1 from by decide), if_neg (show ¬ (3 : Nat) = 2 from by decide), if_pos rfl, if_pos hsh] at hL
    obtain ⟨e1, he1, l1, l2, l3, l4, l4', e3, l5, l6⟩ := hL
    have key2 : ∀ (F3 : Nat → Cf) (v3 : Int32), prs F F3 k s hi → (F3 k).1 = e1 → (r.1 = 1 → (F3 k).2.2 (8 * s + 2) = r.2.1) → dEnd T nm N pl sh C (0, v3, F3, r.2.2) K h q F k s hi (if (bk b tk (b2 r.2.2 11 s (r.2.2.2 11 s + 1))).1 = 5 then bk b tk (b2 r.2.2 11 s (r.2.2.2 11 s + 1)) else if (bk b tk (b2 r.2.2 11 s (r.2.2.2 11 s + 1))).1 = 0 then (r.1, r.2.1, (bk b tk (b2 r.2.2 11 s (r.2.2.2 11 s + 1))).2.2) else if r.1 = 4 then ((bk b tk (b2 r.2.2 11 s (r.2.2.2 11 s + 1))).1, (bk b tk (b2 r.2.2 11 s (r.2.2.2 11 s + 1))).2.1, b1 (bk b tk (b2 r.2.2 11 s (r.2.2.2 11 s + 1))).2.2 7 ((bk b tk (b2 r.2.2 11 s (r.2.2.2 11 s + 1))).2.2.1 7 + 1)) else bk b tk (b2 r.2.2 11 s (r.2.2.2 11 s + 1))) := by
      intro F3 v3 g3 hp3' hkp
      refine dEnd.op hp3' hd l2 ⟨by omega, by show 8 * s + 1 < 8 * N; omega⟩ ?_
      show dEnd T nm N pl sh C (0, 0, fsl (fpc F3 k (e1 + 1)) k (8 * s + 1) NN, r.2.2) K h q F k s hi _
      refine dEnd.op (p := e1 + 1) (by rw [fsl_1, fpc_1]) hd l3 ⟨by omega, by show 8 * s + 3 < 8 * N; omega⟩ ?_
      show dEnd T nm N pl sh C (0, 0, fsl (fpc (fsl (fpc F3 k (e1 + 1)) k (8 * s + 1) NN) k (e1 + 1 + 1)) k (8 * s + 3) (nI (e1 + 3)), r.2.2) K h q F k s hi _
      refine dEnd.jmp (p := e1 + 2) (by rw [fsl_1, fpc_1]) hd l4 l4' h12 ?_
      refine key _ _ (e1 + 3) ((((g3.pc.sl (by omega) (by omega)).pc.sl (by omega) (by omega)).pc).pc) fpc_1 (by rw [fpc_2, fpc_2]; exact fsl_i) (by omega) ?_ (fun F4 g4 hp4 hs4 z0 => ?_)
      · rw [fpc_2, fpc_2, fsl_j (by omega), fpc_2, fsl_i]
        exact ⟨fun _ => by omega, fun _ => rfl⟩
      · have hd4 : (bk b tk (b2 r.2.2 11 s (r.2.2.2 11 s + 1))).2.2.1 10 = k + 1 := by have := j4 (by omega); omega
        by_cases w1 : r.1 = 1
        · rw [if_pos w1] at l5
          refine dEnd.op hp4 hd4 l5.1 ⟨by omega, by show 8 * s + 2 < 8 * N; omega⟩ ?_
          show dEnd T nm N pl sh C (0, 0, fre (fpc F4 k (e1 + 3 + 1)) k ((fpc F4 k (e1 + 3 + 1) k).2.2 (8 * s + 2)), _) K h q F k s hi (r.1, r.2.1, _)
          rw [fpc_2, hs4 _ (by omega) (by omega), fpc_2, fpc_2, fsl_j (by omega), fpc_2, fsl_j (by omega), fpc_2, hkp w1]
          refine dEnd.now (cIs.iw (m := m2) r13 g4.pc.re hn2 (fun e => ⟨fre_r, (hw1 e).2⟩) hw2 ?_)
          rw [fre_1, fpc_1, ← l5.2]
          exact l6
        · rw [if_neg w1] at l5
          refine dEnd.now (cIs.iw (m := m2) r13 g4 hn2 (fun e => absurd e w1) hw2 ?_)
          rw [hp4, ← l5]
          exact l6
    by_cases w1 : r.1 = 1
    · rw [if_pos w1] at l1
      refine dEnd.op rfl hd l1.1 ⟨by omega, by show 8 * s + 2 < 8 * N; omega⟩ ?_
      show dEnd T nm N pl sh C (0, 0, fsl (fpc F2 k ((F2 k).1 + 1)) k (8 * s + 2) (fpc F2 k ((F2 k).1 + 1) k).2.1, r.2.2) K h q F k s hi _
      refine key2 _ _ (g2.pc.sl (by omega) (by omega)) (by rw [fsl_1, fpc_1, l1.2]) (fun _ => ?_)
      rw [fsl_i, fpc_2]
      exact (hw1 w1).1
    · rw [if_neg w1] at l1
      exact key2 _ _ g2 l1.symm (fun e => absurd e w1)
/-- a guard -/
theorem grd_d (hb : dBk T nm N pl sh C bk n) (hk : kpB bk n) (hs : sgB bk) (hi0 : ivB T nm bk n) (hpl : vPl pl) {s : Nat} (hgd : gdS T s) (hsN : s < N) {m mw tg lp dp : Nat} {K : List Sc} {h : Hf} {p q x y e : Nat} {tk : Int32} {k : Nat} {F : Nat → Cf} {B : Bk} {v : Int32}
    (c : okGd T sh C (okBlk T sh C m) K h s p q) (w : xB T nm N mw tg lp dp (Tl T s) (s + 1) x) (w2 : wC (xB T nm N mw) s lp dp (Tc T s) x y) (wo : wO (xB T nm N mw) tg lp dp (To T s) y e) (hs9 : s ≠ 999) (w3 : Tk T s ≠ 16 → ∃ na, Ta T s = nI na ∧ 1 ≤ na ∧ na ≤ 3) (ht : tg ≠ 999 → tg < s ∧ (F k).2.2 (8 * tg) = tk) (htv : tg ≠ 999 → vK B tk)
    (hn : B.1 11 - B.1 9 ≤ n) (hiv : Iv 0 0 0 0 0 B) (hd : B.1 10 = k + 1) (hp : (F k).1 = p) (hat : B.2 (oAt B) 0 = nI s) :
    dEnd T nm N pl sh C (0, v, F, B) K h q F k s e (sGuard T pl bk s tk B) := by
  have hl := hiv.le
  have l1 := xB_le T nm N mw _ _ _ _ _ _ w
  have l2 := wC_le (xB_le T nm N mw) w2
  have l3 := wO_le (xB_le T nm N mw) wo
  have kc := @sCaught_kp T pl bk n s tk B hk hn hl
  have sc := @sCaught_sg T pl bk s tk B hs
  have ec : sCaught T pl bk s tk B = cau T bk s (sInner T pl bk s tk B) := rfl
  have ki := @sInner_kp T pl bk n s tk B hk hn hl
  have vi := cau_iv hi0 (wC_m (xB.b mw) w2) (sInner_iv hpl hi0 hk (s := s) (xB.b _ _ _ _ _ _ _ w) hn hiv htv) (fun _ => by have := ki.1; have := ki.2.1; omega)
  rw [ec] at kc sc
  rw [sGuard_e]
  unfold okGd at c
  cases hT : To T s with
  | none =>
    rw [hT] at c wo
    have : fin T bk s tk (cau T bk s (sInner T pl bk s tk B)) = cau T bk s (sInner T pl bk s tk B) := by unfold fin; rw [hT]
    rw [this]
    have wo : y = e := wo
    exact cau_d hb hk hs hi0 hpl hgd hsN c w w2 (by omega) hs9 w3 ht htv hn hiv hd hp hat
  | some b =>
    rw [hT] at c wo
    dsimp only at c
    have kn : (cau T bk s (sInner T pl bk s tk B)).1 ≠ 5 → (cau T bk s (sInner T pl bk s tk B)).2.2.1 11 - (cau T bk s (sInner T pl bk s tk B)).2.2.1 9 ≤ n ∧ (cau T bk s (sInner T pl bk s tk B)).2.2.1 9 ≤ (cau T bk s (sInner T pl bk s tk B)).2.2.1 11 ∧ (cau T bk s (sInner T pl bk s tk B)).2.2.1 10 = k + 1 ∧ Iv 0 0 0 0 0 (cau T bk s (sInner T pl bk s tk B)).2.2 ∧ (tg ≠ 999 → vK (cau T bk s (sInner T pl bk s tk B)).2.2 tk) := by
      intro h5
      obtain ⟨k1, k2, k3, k4⟩ := kc
      have := k4 h5
      exact ⟨by omega, k3, by omega, (vi h5).1, fun h9 => (htv h9).mono (vi h5).2.1⟩
    by_cases hsh : sh = true
    · rw [if_pos hsh] at c
      obtain ⟨p1, p3, c0, c1, c2, c3, c3', c4, c5, c6, c7, c7', c8, c9, a9, c10, c11, a11, hq, hp3⟩ := c
      refine fis_d hsN hi0 hb hk hs hsh hT (cau_d (hi := e) (v := v) hb hk hs hi0 hpl hgd hsN c0 w w2 l3 hs9 w3 ht htv hn hiv hd hp hat) c1 c2 c3 c3' c4 c5 c6 c7 c7' c8 c9 a9 c10 c11 a11 hq hp3 wo (by omega) ht kn sc (fun h4 => ?_) (fun h4 => vi.f h4)
      obtain ⟨f, e1, e2⟩ := (vi (by omega)).2.2 h4
      have := (vi (by omega)).1.1
      rw [e1, Ne, n_NN (by omega)]
      exact id
    · rw [if_neg hsh] at c
      obtain ⟨p1, p2, p3, c0, c1, c2, c3, c3', c4, c5, c6, c6', c7, c8, a8, c9, a9, hq⟩ := c
      exact fic_d hsN hi0 hb hk hs ((Bool.not_eq_true _).mp hsh) hT (cau_d (hi := e) (v := v) hb hk hs hi0 hpl hgd hsN c0 w w2 l3 hs9 w3 ht htv hn hiv hd hp hat) c1 c2 c3 c3' c4 c5 c6 c6' c7 c8 a8 c9 a9 wo (by omega) ht kn sc (fun h4 => vi.f h4)
end DRUN4
