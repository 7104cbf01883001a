set_option maxRecDepth 100000
section LOK3
variable {T : Pg} {nm : Nat} {sh : Bool} {bk : LB} {ok : Cd → OkB} {M m : Nat} {C : Cd}
theorem leX_ok (hb : ∀ ss, fE (bk ss)) (hk : bOK T nm sh bk ok M m) (w n hi : Nat) (hw : 1 ≤ w ∧ w ≤ 3) {X : LX} {ps : List Pp} {later : List Crw} (wx : wX X) (hM : M ≤ m + hi) (hK : KF T nm M hi X.2) (hn : (w = 1 ∧ n = 0) ∨ (w ≠ 1 ∧ 1 ≤ n ∧ n ≤ cntL X.2)) (ht : lTL sh (leX T sh bk w n X) = false) (hc : cnd T sh C (leX T sh bk w n X) ps later (Xn X)) : okLv T sh C (ok C) (Kps X.2 ps) w n (Xn X) :=
  lvX_ok (C := C) hb hk w hw X.2.length n hi (coX 1 40 X) ps later rfl wx hM hK hn ht hc
theorem stX_ok (hb : ∀ ss, fE (bk ss)) (hk : bOK T nm sh bk ok M m) {s mw tg lp dp e : Nat} {X : LX} {ps : List Pp} {later : List Crw} (w : wX X) (ws : wS T nm (wB T nm mw) tg lp dp s e) (hM : M ≤ m + (s + 1)) (hse : s < e) (hh : e < M) (hK : KF T nm M e X.2) (hl : lp ≤ cntL X.2) (ht : lTL sh (stX T sh bk s X) = false) (hc : cnd T sh C (stX T sh bk s X) ps later (Xn X)) : okSt T sh C (ok C) (Kps X.2 ps) (hfl ps) s (Xn X) (Xn (stX T sh bk s X)) := by
  obtain ⟨⟨w0, w1, w2, w3, w4, w5, w6, w7, w8, w9⟩, ws⟩ := ws
  unfold stX at hc ht ⊢
  unfold okSt
  dsimp only at hc ht ⊢
  by_cases k27 : Tk T s = 2 ∨ Tk T s = 7
  · rw [if_pos k27] at hc ht ⊢
    rw [if_pos k27]
    obtain ⟨a1, a2⟩ := hc.at w (Nat.le_refl _)
    exact ⟨a1, a2, rfl⟩
  rw [if_neg k27] at hc ht ⊢
  rw [if_neg k27]
  by_cases k8 : Tk T s = 8
  · rw [if_pos k8] at hc ht ⊢
    obtain ⟨v1, v2⟩ := leX_E (T := T) (sh := sh) (w := 1) (n := 0) hb _ (w.a (o := 3) (a := s) (b := 0))
    obtain ⟨l1, c1⟩ := hc.back v2 (Nat.zero_le _)
    obtain ⟨a1, a2⟩ := c1.at w (Nat.le_refl _)
    exact ⟨a1, a2, leX_ok hb hk 1 0 e (by omega) (X := aX 3 s 0 X) w.a (by omega) hK (Or.inl ⟨rfl, rfl⟩) ht (hc.sub (by show Xn X ≤ Xn X + 1; omega))⟩
  rw [if_neg k8] at hc ht ⊢
  rw [if_neg k8]
  by_cases k9 : Tk T s = 9
  · rw [if_pos k9] at hc ht ⊢
    rw [if_pos k9]
    rw [if_pos k9] at ws
    obtain ⟨d, x, -, wa, wb⟩ := ws
    have ha := wB_le T nm mw _ _ _ _ _ _ wa
    have hbx := wO_le (wB_le T nm mw) wb
    obtain ⟨b1, b2⟩ := hb (Tl T s) _ (w.a (o := 4) (a := s) (b := 0))
    have hk1 := fun later => hk (Tl T s) (aX 4 s 0 X) mw tg lp d (s + 1) x C ps later w.a wa hM (by omega) (hK.mono hbx) hl
    generalize bk (Tl T s) (aX 4 s 0 X) = X2 at *
    have n1 : Xn (aX 4 s 0 X) = Xn X + 1 := rfl
    have l2 := b2.1
    have w3 : wX (lnX (Xn X) (Xn X2 + 1) (aX 5 0 0 X2)) := b1.a.ln
    obtain ⟨d1, d2⟩ := hb ((To T s).getD []) _ w3
    have kx2 : kx (Xn X) X.2 X2.2 := kx.trans (Nat.le_succ (Xn X)) kx.refl b2.2.2.2
    have hk2 : lTL sh (bk ((To T s).getD []) (lnX (Xn X) (Xn X2 + 1) (aX 5 0 0 X2))) = false → ∀ later, cnd T sh C (bk ((To T s).getD []) (lnX (Xn X) (Xn X2 + 1) (aX 5 0 0 X2))) ps later (Xn (lnX (Xn X) (Xn X2 + 1) (aX 5 0 0 X2))) → ok C (Kps X2.2 ps) (hfl ps) ((To T s).getD []) (Xn X2 + 1) (Xn (bk ((To T s).getD []) (lnX (Xn X) (Xn X2 + 1) (aX 5 0 0 X2)))) := by
      intro h1 later h2
      cases hT : To T s with
      | none =>
        rw [hT] at wb h1 h2
        exact hk [] (lnX (Xn X) (Xn X2 + 1) (aX 5 0 0 X2)) 0 tg lp d x x C ps later w3 ⟨rfl, rfl⟩ (by omega) (by omega) ((hK.mono hbx).kx kx2) (by show lp ≤ cntL X2.2; rw [cntL_kx kx2]; exact hl) h1 h2
      | some b =>
        rw [hT] at wb h1 h2
        exact hk b (lnX (Xn X) (Xn X2 + 1) (aX 5 0 0 X2)) mw tg lp d x e C ps later w3 wb (by omega) (by omega) (hK.kx kx2) (by show lp ≤ cntL X2.2; rw [cntL_kx kx2]; exact hl) h1 h2
    have d4 := d2.1
    have n3 : Xn (lnX (Xn X) (Xn X2 + 1) (aX 5 0 0 X2)) = Xn X2 + 1 := rfl
    -- everything behind the first block
    have eA : Ex (Xn X + 1) X2 (lnX (Xn X2) (Xn (bk ((To T s).getD []) (lnX (Xn X) (Xn X2 + 1) (aX 5 0 0 X2)))) (bk ((To T s).getD []) (lnX (Xn X) (Xn X2 + 1) (aX 5 0 0 X2)))) := (((Ex.refl.a).ln (Or.inl (by omega))).trans d2 (Nat.zero_le _)).ln (Or.inr (Nat.le_refl _))
    have eB : Ex (Xn X2 + 1) (aX 5 0 0 X2) (lnX (Xn X2) (Xn (bk ((To T s).getD []) (lnX (Xn X) (Xn X2 + 1) (aX 5 0 0 X2)))) (bk ((To T s).getD []) (lnX (Xn X) (Xn X2 + 1) (aX 5 0 0 X2)))) := (((Ex.refl).ln (Or.inl (by omega))).trans d2 (Nat.zero_le _)).ln (Or.inl (by omega))
    have eR : Rx (Xn X) (aX 4 s 0 X) (lnX (Xn X2) (Xn (bk ((To T s).getD []) (lnX (Xn X) (Xn X2 + 1) (aX 5 0 0 X2)))) (bk ((To T s).getD []) (lnX (Xn X) (Xn X2 + 1) (aX 5 0 0 X2)))) := by
      have h1 : Rx 0 (aX 4 s 0 X) (lnX (Xn X) (Xn X2 + 1) (aX 5 0 0 X2)) := by
        obtain ⟨g1, -, g3, g4⟩ := b2
        exact ⟨Nat.le_succ_of_le g1, g3, g4⟩
      obtain ⟨q1, q2, q3⟩ := h1.trans d2.r (Nat.le_refl _)
      obtain ⟨r, t1, t2⟩ := q2
      exact ⟨q1, ⟨r, t1, fun x hx => by rcases t2 x hx with t | t <;> omega⟩, q3⟩
    have eD : Ex (Xn X2 + 1) (bk ((To T s).getD []) (lnX (Xn X) (Xn X2 + 1) (aX 5 0 0 X2))) (lnX (Xn X2) (Xn (bk ((To T s).getD []) (lnX (Xn X) (Xn X2 + 1) (aX 5 0 0 X2)))) (bk ((To T s).getD []) (lnX (Xn X) (Xn X2 + 1) (aX 5 0 0 X2)))) := Ex.refl.ln (Or.inl (by omega))
    have nE : Xn (lnX (Xn X2) (Xn (bk ((To T s).getD []) (lnX (Xn X) (Xn X2 + 1) (aX 5 0 0 X2)))) (bk ((To T s).getD []) (lnX (Xn X) (Xn X2 + 1) (aX 5 0 0 X2)))) = Xn (bk ((To T s).getD []) (lnX (Xn X) (Xn X2 + 1) (aX 5 0 0 X2))) := rfl
    obtain ⟨lA, cA⟩ := (hc.sub (show Xn X ≤ Xn X + 1 by omega)).back eA (Nat.le_refl _)
    have hth := hk1 lA (lTL_le ht (by omega)) cA
    obtain ⟨lD, cD⟩ := (hc.sub (show Xn X ≤ Xn X2 + 1 by omega)).back eD (Nat.le_refl _)
    have hel := hk2 (lTL_le ht (Nat.le_refl _)) lD cD
    rw [Kps_kx kx2] at hel
    have hj := hc.op (X := X2) b1 eB.2.2.2 (by omega) (by omega)
    have ht2 := hc.op (X := X) w eR.2.2 (Nat.le_refl _) (by omega)
    have hat := cnd.hat hc w eR (Nat.le_refl _)
    have o1 : ∀ i, i < Xn X2 + 1 → Xo (lnX (Xn X2) (Xn (bk ((To T s).getD []) (lnX (Xn X) (Xn X2 + 1) (aX 5 0 0 X2)))) (bk ((To T s).getD []) (lnX (Xn X) (Xn X2 + 1) (aX 5 0 0 X2)))) i = if i = Xn X2 then ((if i = Xn X then ((if i = Xn X2 then ((5, 0, 0) : Ci) else Xo X2 i).1, (if i = Xn X2 then ((5, 0, 0) : Ci) else Xo X2 i).2.1, Xn X2 + 1) else if i = Xn X2 then ((5, 0, 0) : Ci) else Xo X2 i).1, (if i = Xn X then ((if i = Xn X2 then ((5, 0, 0) : Ci) else Xo X2 i).1, (if i = Xn X2 then ((5, 0, 0) : Ci) else Xo X2 i).2.1, Xn X2 + 1) else if i = Xn X2 then ((5, 0, 0) : Ci) else Xo X2 i).2.1, Xn (bk ((To T s).getD []) (lnX (Xn X) (Xn X2 + 1) (aX 5 0 0 X2)))) else (if i = Xn X then ((if i = Xn X2 then ((5, 0, 0) : Ci) else Xo X2 i).1, (if i = Xn X2 then ((5, 0, 0) : Ci) else Xo X2 i).2.1, Xn X2 + 1) else if i = Xn X2 then ((5, 0, 0) : Ci) else Xo X2 i) := by
      intro i hi
      have := d2.2.1 i (Nat.zero_le _) (by omega)
      show (if i = Xn X2 then ((Xo (bk ((To T s).getD []) (lnX (Xn X) (Xn X2 + 1) (aX 5 0 0 X2))) i).1, (Xo (bk ((To T s).getD []) (lnX (Xn X) (Xn X2 + 1) (aX 5 0 0 X2))) i).2.1, _) else Xo (bk ((To T s).getD []) (lnX (Xn X) (Xn X2 + 1) (aX 5 0 0 X2))) i) = _
      rw [this]
      rfl
    rw [o1 _ (by omega), if_neg (by omega), if_pos rfl, if_neg (by omega), b2.2.1 _ (Nat.zero_le _) (by omega)] at ht2
    rw [o1 _ (by omega), if_pos rfl, if_neg (by omega), if_pos rfl] at hj
    refine ⟨Xn X2, ?_, hat, hth, by rw [hj], by rw [hj, nE], hel⟩
    rw [ht2]
    show ((if Xn X = Xn X then ((4, s, 0) : Ci) else Xo X (Xn X)).1, (if Xn X = Xn X then ((4, s, 0) : Ci) else Xo X (Xn X)).2.1, Xn X2 + 1) = _
    rw [if_pos rfl]
  rw [if_neg k9] at hc ht ⊢
  rw [if_neg k9]
  rw [if_neg k9] at ws
  by_cases k10 : Tk T s = 10
  · rw [if_pos k10] at hc ht ⊢
    rw [if_pos k10]
    rw [if_pos k10] at ws
    obtain ⟨d, -, wa⟩ := ws
    obtain ⟨c, K2, e1, e2, d1, -, -, s1, j1, v1, v2, v3⟩ := scp (hb (Tl T s)) (so := 0) (s := s) (g := Xn X + 1) ((w.a (o := 6) (a := s) (b := 8 * s)).a (o := 7) (a := s) (b := 0))
    have hk1 := fun ps later => hk (Tl T s) (puX 0 s (Xn X + 1) (aX 7 s 0 (aX 6 s (8 * s) X))) mw tg (lp + 1) d (s + 1) e C ps later (w.a.a.pu) wa hM (by omega) (puX_K hK (by omega) (by omega)) (by show lp + 1 ≤ 1 + cntL X.2; omega)
    generalize bk (Tl T s) (puX 0 s (Xn X + 1) (aX 7 s 0 (aX 6 s (8 * s) X))) = X2 at *
    rw [e2] at hc ht ⊢
    have n1 : Xn (aX 7 s 0 (aX 6 s (8 * s) X)) = Xn X + 2 := rfl
    have n2 := srt_le s1
    have eK : (poX X2).2 = K2 := by show X2.2.tail = K2; rw [e1]; rfl
    obtain ⟨q1, q2, q3⟩ := @lnsX_n (Xn X2 + 1) (cJs c) (lnX (Xn X + 1) (Xn X2 + 1) (aX 5 0 (Xn X + 1) (poX X2)))
    have q4 : ∀ i, _ := fun i => @lnsX_o (Xn X2 + 1) i (cJs c) (lnX (Xn X + 1) (Xn X2 + 1) (aX 5 0 (Xn X + 1) (poX X2)))
    have eA : Ex 0 (aX 6 s (8 * s) X) (lnsX (cJs c) (Xn X2 + 1) (lnX (Xn X + 1) (Xn X2 + 1) (aX 5 0 (Xn X + 1) (poX X2)))) := (((((Ex.refl.a (a := 0)).trans v2 (Nat.le_refl _)).a).ln (Or.inr (by show Xn X + 1 ≤ Xn X + 1; omega))).lns (fun j hj => Or.inr (by have := (j1 j hj).1; show Xn X + 1 ≤ j; omega)))
    generalize lnsX (cJs c) (Xn X2 + 1) (lnX (Xn X + 1) (Xn X2 + 1) (aX 5 0 (Xn X + 1) (poX X2))) = X' at *
    have q1 : Xn X' = Xn X2 + 1 := q1
    have q2 : Xr X' = Xr X2 := q2
    have q3 : X'.2 = K2 := q3.trans eK
    have oL : ∀ i, Xo (lnX (Xn X + 1) (Xn X2 + 1) (aX 5 0 (Xn X + 1) (poX X2))) i = if i = Xn X + 1 then ((if i = Xn X2 then ((5, 0, Xn X + 1) : Ci) else Xo X2 i).1, (if i = Xn X2 then ((5, 0, Xn X + 1) : Ci) else Xo X2 i).2.1, Xn X2 + 1) else if i = Xn X2 then ((5, 0, Xn X + 1) : Ci) else Xo X2 i := fun _ => rfl
    obtain ⟨lA, cA⟩ := hc.back eA (Nat.zero_le _)
    obtain ⟨a1, a2⟩ := cA.at w (Nat.le_refl _)
    have kx2 : kx (Xn X) X.2 K2 := by
      have := v2.2.2.2
      rw [eK] at this
      exact kx.trans (show Xn X ≤ Xn (aX 7 s 0 (aX 6 s (8 * s) X)) by omega) kx.refl this
    have hC : ∀ i, Xn X ≤ i → i ≤ Xn X2 → (i < Xn X + 2 ∨ i = Xn X2) → C.1 i = Xo X' i := fun i g1 g2 g3 => by
      refine agI_no (K := K2) (fun c' hc' hj => ?_) (by have := hc.2.2.1 i g1 (by omega); rw [q3] at this; exact this)
      have hlt : i < Xn X2 := (v1.2.1 c' (by rw [eK]; exact hc')).2 i hj
      have hcj := cJ_kx (show i < Xn X + 2 by omega) (by have := v2.2.2.2; rw [eK] at this; exact this)
      have h0 := w.fresh (i := i) g1
      have hcj : cJ i K2 = cJ i X.2 := hcj
      rw [h0] at hcj
      have h9 : ∀ {K : List Lc}, c' ∈ K → 0 < cJ i K := by
        intro K
        induction K with
        | nil => intro h; cases h
        | cons d K ih =>
          intro h
          unfold cJ
          rcases List.mem_cons.mp h with rfl | h
          · have := List.count_pos_iff.mpr hj
            omega
          · have := ih h
            omega
      have := h9 hc'
      omega
    have nj1 : ∀ i, i < Xn X + 2 ∨ Xn X2 ≤ i → i ∉ cJs c := fun i g1 g2 => by have := j1 i g2; omega
    have z1 := hC (Xn X + 1) (by omega) (by omega) (Or.inl (by omega))
    have z2 := hC (Xn X2) (by omega) (Nat.le_refl _) (Or.inr rfl)
    rw [(q4 (Xn X + 1)).2.2.1 (nj1 _ (Or.inl (by omega))), oL, if_pos rfl, if_neg (by omega)] at z1
    rw [(q4 (Xn X2)).2.2.1 (nj1 _ (Or.inr (Nat.le_refl _))), oL, if_neg (by omega), if_pos rfl] at z2
    have o2 : Xo X2 (Xn X + 1) = (7, s, 0) := by
      have := v2.2.1 (Xn X + 1) (Nat.zero_le _) (by omega)
      have this : Xo X2 (Xn X + 1) = _ := this
      rw [this]
      show (if Xn X + 1 = Xn X + 1 then ((7, s, 0) : Ci) else _) = _
      rw [if_pos rfl]
    rw [o2] at z1
    have cs := cnd.scope (X1 := aX 7 s 0 (aX 6 s (8 * s) X)) (X2 := X2) (c := c) (K2 := K2) (x := Xn X2 + 1) (hk := fun _ => none) (r := []) hc (by show Xn X ≤ Xn X + 2; omega) v3 e1 (by omega) (by rw [q3]; exact kx.refl) (q2.trans (List.append_nil _).symm) (fun i g1 g2 g3 _ => by
      obtain ⟨y1, y2, -, -⟩ := q4 i
      refine ⟨y1.trans ?_, y2 g3⟩
      rw [oL, if_neg (by omega), if_neg (by omega)]) (fun i g1 g2 g3 => by
      obtain ⟨-, -, y3, -⟩ := q4 i
      rw [y3 g3, oL, if_neg (by omega), if_neg (by omega)]) (fun pc kd _ _ => by
      show hlr T later pc kd = if gIn (cGs c) pc = true then hlr T later pc kd else hlr T later pc kd
      split <;> rfl)
    have hbd := hk1 ((Xn X2 + 1, fun _ => none) :: ps) _ (lTL_le ht (by omega)) cs
    rw [hfl_n] at hbd
    refine ⟨Xn X2, a1, a2, by rw [z1, q1], ?_, by rw [z2], by rw [z2], q1⟩
    rw [q1]
    exact hbd
  rw [if_neg k10] at hc ht ⊢
  rw [if_neg k10]
  rw [if_neg k10] at ws
  by_cases k11 : Tk T s = 11
  · rw [if_pos k11] at hc ht ⊢
    rw [if_neg (by omega)] at ws
    obtain ⟨j, ej, j1, j2, j3⟩ := ws.2.1 (Or.inl k11)
    exact leX_ok hb hk 2 _ e (by omega) w (by omega) hK (Or.inr ⟨by omega, by rw [ej, nI_clamp (by omega)]; omega, by rw [ej, nI_clamp (by omega)]; omega⟩) ht hc
  rw [if_neg k11] at hc ht ⊢
  rw [if_neg k11]
  by_cases k12 : Tk T s = 12
  · rw [if_pos k12] at hc ht ⊢
    rw [if_neg (by omega)] at ws
    obtain ⟨j, ej, j1, j2, j3⟩ := ws.2.1 (Or.inr k12)
    exact leX_ok hb hk 3 _ e (by omega) w (by omega) hK (Or.inr ⟨by omega, by rw [ej, nI_clamp (by omega)]; omega, by rw [ej, nI_clamp (by omega)]; omega⟩) ht hc
  rw [if_neg k12] at hc ht ⊢
  rw [if_neg k12]
  by_cases k145 : Tk T s = 14 ∨ Tk T s = 15
  · rw [if_pos k145] at hc ht ⊢
    rw [if_pos k145]
    obtain ⟨a1, a2⟩ := hc.at w (Nat.le_refl _)
    exact ⟨a1, a2, rfl⟩
  rw [if_neg k145] at hc ht ⊢
  rw [if_neg k145]
  by_cases k16 : Tk T s = 16 ∨ Tk T s = 17
  · rw [if_pos k16] at hc ht ⊢
    rw [if_pos k16]
    rw [if_pos k16] at ws
    obtain ⟨d, x, y, -, wa, wb, wc, -⟩ := ws
    refine gdX_ok hb hk w wa wb wc hM hh hK hl (fun c hc' => ?_) ht hc
    obtain ⟨j, ej, hj⟩ := w9 c hc'
    rw [ej]
    intro q
    have := n_NN (a := j) (by omega)
    rw [this] at q
    exact q
  rw [if_neg k16] at hc ht ⊢
  rw [if_neg k16]
  obtain ⟨a1, a2⟩ := hc.at w (Nat.le_refl _)
  exact ⟨a1, a2, rfl⟩
/-- THE LOWERED CODE OF A BLOCK IS AS IT SHOULD BE -/
theorem blX_ok (T : Pg) (nm : Nat) (sh : Bool) (M : Nat) : ∀ m, bOK T nm sh (blX T sh m) (fun C => okBlk T sh C m) M m := by
  intro m
  induction m with
  | zero =>
    intro ss X mw tg lp dp lo hi C ps later w wb hM hh hK hl ht hc
    have h1 := wB_le T nm mw _ _ _ _ _ _ wb
    omega
  | succ m ih =>
    intro ss X mw tg lp dp lo hi C ps later w wb hM hh hK hl ht hc
    match ss with
    | [] => exact rfl
    | s :: r =>
      cases mw with
      | zero => exact absurd wb.1 (by intro h; cases h)
      | succ mw =>
        obtain ⟨rfl, e, he, ws, wr⟩ := wb
        have hle := wB_le T nm mw _ _ _ _ _ _ wr
        have hb : ∀ ss, fE (blX T sh m ss) := blX_E m
        have hEx := (blX_E (T := T) (sh := sh) (m + 1) (s :: r) X w).2.1
        have hnt : lTL sh X = false := lTL_le ht hEx
        have ebl : blX T sh (m + 1) (s :: r) X = blX T sh m r (stX T sh (blX T sh m) s (aX 0 s 0 X)) := by
          show (if lTL sh X = true then X else blX T sh m r (stX T sh (blX T sh m) s (aX 0 s 0 X))) = _
          rw [if_neg (by rw [hnt]; decide)]
        rw [ebl] at hc ht ⊢
        obtain ⟨a1, a2⟩ := stX_E (T := T) (sh := sh) hb (s := s) _ (w.a (o := 0) (a := s) (b := 0))
        obtain ⟨b1, b2⟩ := hb r _ a1
        obtain ⟨l1, c1⟩ := hc.back b2 (Nat.zero_le _)
        obtain ⟨l0, c0⟩ := c1.back a2 (Nat.zero_le _)
        obtain ⟨z1, -⟩ := c0.at w (Nat.le_refl _)
        have n1 : Xn (aX 0 s 0 X) = Xn X + 1 := rfl
        have n2 := a2.1
        have n3 := b2.1
        have kx1 : kx (Xn X) X.2 (stX T sh (blX T sh m) s (aX 0 s 0 X)).2 := kx.trans (Nat.le_succ (Xn X)) kx.refl a2.2.2.2
        have hst := stX_ok (C := C) hb ih (X := aX 0 s 0 X) (ps := ps) (later := l1) w.a ws (by omega) he (by omega) (hK.mono hle) hl (lTL_le ht n3) (c1.sub (by omega))
        have hr := ih r (stX T sh (blX T sh m) s (aX 0 s 0 X)) mw tg lp dp e hi C ps later a1 wr (by omega) hh (hK.kx kx1) (by rw [cntL_kx kx1]; exact hl) ht (hc.sub (by omega))
        have hr : okBlk T sh C m (Kps (stX T sh (blX T sh m) s (aX 0 s 0 X)).2 ps) (hfl ps) r _ _ := hr
        rw [Kps_kx kx1] at hr
        exact ⟨_, z1, hst, hr⟩
end LOK3
