set_option maxRecDepth 100000
section LOK2
variable {T : Pg} {nm : Nat} {sh : Bool} {bk : LB} {ok : Cd → OkB} {M m : Nat} {C : Cd}
/-- a finishing block, with something on its way -/
theorem pdX_ok (hb : ∀ ss, fE (bk ss)) (hk : bOK T nm sh bk ok M m) {s so mw tg lp dp lo hi : Nat} {b : List Nat} {X : LX} {ps : List Pp} {later : List Crw} (hso : so = 4 ∨ so = 5) (w : wX X) (wb : wB T nm mw tg lp dp b lo hi) (hM : M ≤ m + lo) (hh : hi < M) (hK : KF T nm M hi X.2) (hl : lp ≤ cntL X.2) (ht : lTL sh (pdX bk s so b X) = false) (hc : cnd T sh C (pdX bk s so b X) ps later (Xn X)) :
    ∃ p3, Xn X ≤ p3 ∧ Xn (pdX bk s so b X) = p3 + 3 ∧ ok C ((so, s, 0, 0, hfl ps) :: Kps X.2 ps) (fun _ => some (p3 + 1, 8 * s + 7)) b (Xn X) p3 ∧ (C.1 p3).1 = 5 ∧ (C.1 p3).2.2 = p3 + 3 ∧ C.1 (p3 + 1) = (if so = 4 then 16 else 17, 0, 8 * s + 1) ∧ C.1 (p3 + 2) = (15, 0, 8 * s + 7) ∧ hAt T C (hfl ps) (p3 + 2) := by
  unfold pdX at hc ht ⊢
  dsimp only at hc ht ⊢
  obtain ⟨c, K2, e1, e2, d1, -, -, s1, -, v1, v2, v3⟩ := scp (hb b) (so := so) (s := s) (g := 0) w
  have hbk := hk b (puX so s 0 X) mw tg lp dp lo hi C
  generalize bk b (puX so s 0 X) = X2 at *
  rw [e2] at hc ht ⊢
  have n2 := srt_le s1
  obtain ⟨r1, r2, r3, r4⟩ := @rwX_n (Xn X2) (Xn X2 + 1) (8 * s + 7) NN (cGs c) (Xn X) (aX 5 0 0 (poX X2))
  have w3 : wX (rwX (cGs c) (Xn X) (Xn X2) (Xn X2 + 1) NN (8 * s + 7) (aX 5 0 0 (poX X2))) := wX.rw v1.a s1 (Nat.le_succ _)
  generalize rwX (cGs c) (Xn X) (Xn X2) (Xn X2 + 1) NN (8 * s + 7) (aX 5 0 0 (poX X2)) = X3 at *
  have r1 : Xn X3 = Xn X2 + 1 := r1
  have r3 : X3.2 = X2.2.tail := r3
  generalize hq : (if so = 4 then 16 else 17) = qo at *
  have nE : Xn (lnX (Xn X2) (Xn X2 + 3) (aX 15 0 (8 * s + 7) (aX qo 0 (8 * s + 1) X3))) = Xn X2 + 3 := by show Xn X3 + 1 + 1 = _; omega
  have hop : ∀ i, Xo (lnX (Xn X2) (Xn X2 + 3) (aX 15 0 (8 * s + 7) (aX qo 0 (8 * s + 1) X3))) i = if i = Xn X2 then ((if i = Xn X3 + 1 then ((15, 0, 8 * s + 7) : Ci) else if i = Xn X3 then (qo, 0, 8 * s + 1) else Xo X3 i).1, (if i = Xn X3 + 1 then ((15, 0, 8 * s + 7) : Ci) else if i = Xn X3 then (qo, 0, 8 * s + 1) else Xo X3 i).2.1, Xn X2 + 3) else if i = Xn X3 + 1 then ((15, 0, 8 * s + 7) : Ci) else if i = Xn X3 then (qo, 0, 8 * s + 1) else Xo X3 i := fun _ => rfl
  have hop2 : ∀ i, Xo X3 i = if i = Xn X2 then ((5, 0, 0) : Ci) else Xo X2 i := fun i => by rw [r2]; rfl
  have eB : Ex (Xn X2 + 1) (aX qo 0 (8 * s + 1) X3) (lnX (Xn X2) (Xn X2 + 3) (aX 15 0 (8 * s + 7) (aX qo 0 (8 * s + 1) X3))) := (Ex.refl.a).ln (Or.inl (by omega))
  have eC : Ex (Xn X2 + 1) (aX 15 0 (8 * s + 7) (aX qo 0 (8 * s + 1) X3)) (lnX (Xn X2) (Xn X2 + 3) (aX 15 0 (8 * s + 7) (aX qo 0 (8 * s + 1) X3))) := Ex.refl.ln (Or.inl (by omega))
  obtain ⟨lB, cB⟩ := (hc.sub (show Xn X ≤ Xn X2 + 1 by omega)).back eB (Nat.le_refl _)
  obtain ⟨b1, b2⟩ := cB.at w3 (by omega)
  obtain ⟨lC, cC⟩ := (hc.sub (show Xn X ≤ Xn X2 + 1 by omega)).back eC (Nat.le_refl _)
  obtain ⟨c1, c2⟩ := cC.at w3.a (by show Xn X2 + 1 ≤ Xn X3 + 1; omega)
  have hj := hc.op (X := poX X2) v1 (by show kx (Xn X2 + 1) X2.2.tail X3.2; rw [r3]; exact kx.refl) (by show Xn X ≤ Xn X2; omega) (by rw [nE]; show Xn X2 < _; omega)
  have hj : C.1 (Xn X2) = _ := hj.trans (hop (Xn X2))
  rw [if_pos rfl, hop2, if_pos rfl, if_neg (by omega), if_neg (by omega)] at hj
  refine ⟨Xn X2, n2, nE, ?_, by rw [hj], by rw [hj], by rw [← r1]; exact b1, by rw [show Xn X2 + 2 = Xn X3 + 1 from by omega]; exact c1, by rw [show Xn X2 + 2 = Xn X3 + 1 from by omega]; exact c2⟩
  have cs := cnd.scope (X1 := X) (X2 := X2) (c := c) (K2 := K2) (x := 0) (hk := fun _ => some (Xn X2 + 1, 8 * s + 7)) (r := rwL (cGs c) (Xn X) (Xn X2) (Xn X2 + 1) NN (8 * s + 7)) hc (Nat.le_refl _) v3 e1 (by omega) (by show kx _ K2 X3.2; rw [r3, e1]; exact kx.refl) r4 (fun i _ _ _ h => by rw [d1] at h; omega) (fun i _ h2 _ => by rw [hop, if_neg (by omega), if_neg (by omega), if_neg (by omega), hop2, if_neg (by omega)]) (fun pc kd p1 p2 => by rw [hlr_rw s1 p1 p2, if_pos (Or.inl rfl : NN = NN ∨ _)])
  have := hbk ((0, fun _ => some (Xn X2 + 1, 8 * s + 7)) :: ps) _ w.pu wb hM hh (puX_K hK (by omega) (by omega)) (by show lp ≤ (if so = 0 then 1 else 0) + cntL X.2; omega) (lTL_le ht (by rw [nE]; omega)) cs
  rw [hfl_s] at this
  exact this
theorem gdX_ok (hb : ∀ ss, fE (bk ss)) (hk : bOK T nm sh bk ok M m) {s mw tg lp dp hi1 hi2 e : Nat} {X : LX} {ps : List Pp} {later : List Crw} (w : wX X) (wb : wB T nm mw tg lp dp (Tl T s) (s + 1) hi1) (wc : wC (wB T nm mw) s lp dp (Tc T s) hi1 hi2) (wo : wO (wB T nm mw) tg lp dp (To T s) hi2 e) (hM : M ≤ m + (s + 1)) (hh : e < M) (hK : KF T nm M e X.2) (hl : lp ≤ cntL X.2) (hn : ∀ c, c ∈ Tc T s → c.1 ≠ NN) (ht : lTL sh (gdX T sh bk s X) = false) (hc : cnd T sh C (gdX T sh bk s X) ps later (Xn X)) : okGd T sh C (ok C) (Kps X.2 ps) (hfl ps) s (Xn X) (Xn (gdX T sh bk s X)) := by
  have h1 := wB_le T nm mw _ _ _ _ _ _ wb
  have h2 := wC_le (wB_le T nm mw) wc
  have h3 := wO_le (wB_le T nm mw) wo
  unfold gdX at hc ht ⊢
  unfold okGd
  cases hT : To T s with
  | none =>
    rw [hT] at hc ht wo
    exact caX_ok hb hk w wb wc hM (by omega) (hK.mono h3) hl hn ht hc
  | some b =>
    rw [hT] at hc ht wo
    dsimp only at hc ht ⊢
    have wo : wB T nm mw tg lp dp b hi2 e := wo
    have hfb : finB T s = b := by unfold finB; rw [hT]; rfl
    obtain ⟨c, K2, e1, e2, d1, -, -, s1, j1, v1, v2, v3⟩ := scp (caX_E (T := T) hb (s := s)) (so := 3) (s := s) (g := 0) w
    have hKs : KF T nm M hi2 (puX 3 s 0 X).2 := ⟨by show 3 ≤ 5; omega, fun _ => ⟨mw, tg, lp, dp, hi2, e, by show wB T nm mw tg lp dp (finB T s) hi2 e; rw [hfb]; exact wo, Nat.le_refl _, hh, hl, hK⟩, hK.mono h3⟩
    have hca := fun ps later => caX_ok (C := C) (ps := ps) (later := later) (X := puX 3 s 0 X) hb hk w.pu wb wc hM (by omega) hKs (by show lp ≤ 0 + cntL X.2; omega) hn
    generalize caX T bk s (puX 3 s 0 X) = X2 at *
    rw [e2] at hc ht ⊢
    have n2 := srt_le s1
    have k1 : kx (Xn X) X.2 (poX X2).2 := v2.2.2.2
    have eK : (poX X2).2 = K2 := by show X2.2.tail = K2; rw [e1]; rfl
    by_cases hsh : sh = true
    · rw [if_pos hsh] at hc ht ⊢
      rw [if_pos hsh]
      generalize hX3 : aX 5 0 0 (aX 19 (8 * s + 3) 0 (aX 18 0 (8 * s + 1) (poX X2))) = X3 at *
      have w3 : wX X3 := by rw [← hX3]; exact v1.a.a.a
      have n3 : Xn X3 = Xn X2 + 3 := by rw [← hX3]; rfl
      have o3 : ∀ i, Xo X3 i = if i = Xn X2 + 2 then ((5, 0, 0) : Ci) else if i = Xn X2 + 1 then (19, 8 * s + 3, 0) else if i = Xn X2 then (18, 0, 8 * s + 1) else Xo X2 i := fun i => by rw [← hX3]; rfl
      have K3 : X3.2 = K2 := by rw [← hX3]; exact eK
      have R3 : Xr X3 = Xr X2 := by rw [← hX3]; rfl
      obtain ⟨r1, r2, r3, r4⟩ := @rwX_n (Xn X2) (Xn X2 + 3) (8 * s + 1) NN (cGs c) (Xn X) X3
      have wr : wX (rwX (cGs c) (Xn X) (Xn X2) (Xn X2 + 3) NN (8 * s + 1) X3) := wX.rw w3 s1 (by omega)
      generalize rwX (cGs c) (Xn X) (Xn X2) (Xn X2 + 3) NN (8 * s + 1) X3 = Xq at *
      generalize hX4 : aX 19 (8 * s + 3) 0 Xq = X4 at *
      have w4 : wX X4 := by rw [← hX4]; exact wr.a
      have n4 : Xn X4 = Xn X2 + 4 := by rw [← hX4]; show Xn Xq + 1 = _; omega
      have o4 : ∀ i, Xo X4 i = if i = Xn X2 + 3 then ((19, 8 * s + 3, 0) : Ci) else Xo X3 i := fun i => by
        rw [← hX4]
        show (if i = Xn Xq then _ else Xo Xq i) = _
        rw [r1, r2, n3]
      have K4 : X4.2 = K2 := by rw [← hX4]; exact r3.trans K3
      have R4 : Xr X4 = Xr X2 ++ rwL (cGs c) (Xn X) (Xn X2) (Xn X2 + 3) NN (8 * s + 1) := by rw [← hX4]; show Xr Xq = _; rw [r4, R3]
      have w5' : wX (lnsX (cJs c) (Xn X2 + 4) (lnX (Xn X2 + 2) (Xn X2 + 4) X4)) := w4.ln.lns
      obtain ⟨q1, q2, q3⟩ := @lnsX_n (Xn X2 + 4) (cJs c) (lnX (Xn X2 + 2) (Xn X2 + 4) X4)
      have q4 : ∀ i, _ := fun i => @lnsX_o (Xn X2 + 4) i (cJs c) (lnX (Xn X2 + 2) (Xn X2 + 4) X4)
      generalize lnsX (cJs c) (Xn X2 + 4) (lnX (Xn X2 + 2) (Xn X2 + 4) X4) = X5' at *
      have q1 : Xn X5' = Xn X2 + 4 := q1.trans n4
      have q2 : Xr X5' = _ := q2.trans R4
      have q3 : X5'.2 = K2 := q3.trans K4
      generalize hX5 : aX 12 s 0 X5' = X5 at *
      have w5 : wX X5 := by rw [← hX5]; exact w5'.a
      have n5 : Xn X5 = Xn X2 + 5 := by rw [← hX5]; show Xn X5' + 1 = _; omega
      have K5 : X5.2 = K2 := by rw [← hX5]; exact q3
      have R5 : Xr X5 = Xr X2 ++ rwL (cGs c) (Xn X) (Xn X2) (Xn X2 + 3) NN (8 * s + 1) := by rw [← hX5]; exact q2
      have o5 : ∀ i, Xo X5 i = if i = Xn X2 + 4 then ((12, s, 0) : Ci) else Xo X5' i := fun i => by
        rw [← hX5]
        show (if i = Xn X5' then _ else Xo X5' i) = _
        rw [q1]
      obtain ⟨p1, p2⟩ := pdX_E hb (s := s) (so := 5) (b := b) X5 w5
      have hpd := fun later => pdX_ok (C := C) (s := s) (ps := ps) (later := later) (X := X5) hb hk (Or.inr rfl) w5 wo (by omega) hh (by rw [K5, ← eK]; exact hK.kx k1) (by rw [K5, ← eK, cntL_kx k1]; exact hl)
      generalize pdX bk s 5 b X5 = X6p at *
      have n6 : Xn (aX 20 0 (8 * s + 3) X6p) = Xn X6p + 1 := rfl
      generalize hX6 : aX 20 0 (8 * s + 3) X6p = X6 at *
      have e6 : Ex 0 X5 X6p := p2
      have eF : ∀ a, Xn X2 + 4 ≤ a → ∀ Y, Ex a Y X6p → Ex a Y (lnX (Xn X2 + 1) (Xn (aX 15 0 (8 * s + 1) (lnX (Xn X2 + 3) (Xn X6) X6))) (aX 15 0 (8 * s + 1) (lnX (Xn X2 + 3) (Xn X6) X6))) := by
        intro a ha Y h
        rw [← hX6]
        exact (((h.a).ln (Or.inl (by omega))).a).ln (Or.inl (by omega))
      have nE : Xn (lnX (Xn X2 + 1) (Xn (aX 15 0 (8 * s + 1) (lnX (Xn X2 + 3) (Xn X6) X6))) (aX 15 0 (8 * s + 1) (lnX (Xn X2 + 3) (Xn X6) X6))) = Xn X6 + 1 := rfl
      have hop : ∀ i, Xo (lnX (Xn X2 + 1) (Xn (aX 15 0 (8 * s + 1) (lnX (Xn X2 + 3) (Xn X6) X6))) (aX 15 0 (8 * s + 1) (lnX (Xn X2 + 3) (Xn X6) X6))) i = if i = Xn X2 + 1 then ((if i = Xn X6 then ((15, 0, 8 * s + 1) : Ci) else if i = Xn X2 + 3 then ((Xo X6 i).1, (Xo X6 i).2.1, Xn X6) else Xo X6 i).1, (if i = Xn X6 then ((15, 0, 8 * s + 1) : Ci) else if i = Xn X2 + 3 then ((Xo X6 i).1, (Xo X6 i).2.1, Xn X6) else Xo X6 i).2.1, Xn X6 + 1) else (if i = Xn X6 then ((15, 0, 8 * s + 1) : Ci) else if i = Xn X2 + 3 then ((Xo X6 i).1, (Xo X6 i).2.1, Xn X6) else Xo X6 i) := fun _ => rfl
      have o6 : ∀ i, i < Xn X5 → Xo X6 i = Xo X5 i := fun i hi => by
        rw [← hX6]
        show (if i = Xn X6p then _ else Xo X6p i) = _
        rw [if_neg (by have := e6.1; omega)]
        exact e6.2.1 i (Nat.zero_le _) hi
      have l6 : Xn X5 ≤ Xn X6p := e6.1
      have n6' : Xn X6 = Xn X6p + 1 := n6
      have eK' : kx (Xn X5) K2 (lnX (Xn X2 + 1) (Xn (aX 15 0 (8 * s + 1) (lnX (Xn X2 + 3) (Xn X6) X6))) (aX 15 0 (8 * s + 1) (lnX (Xn X2 + 3) (Xn X6) X6))).2 := by
        have := e6.2.2.2
        rw [K5] at this
        show kx (Xn X5) K2 X6.2
        rw [← hX6]
        exact this
      have eR' : ∃ r6, Xr (lnX (Xn X2 + 1) (Xn (aX 15 0 (8 * s + 1) (lnX (Xn X2 + 3) (Xn X6) X6))) (aX 15 0 (8 * s + 1) (lnX (Xn X2 + 3) (Xn X6) X6))) = Xr X2 ++ (rwL (cGs c) (Xn X) (Xn X2) (Xn X2 + 3) NN (8 * s + 1) ++ r6) ∧ ∀ x, x ∈ r6 → Xn X5 ≤ x.1 ∨ x.2.1 ≤ 0 := by
        obtain ⟨r6, g1, g2⟩ := e6.2.2.1
        refine ⟨r6, ?_, fun x hx => (g2 x hx).symm⟩
        show Xr X6 = _
        rw [← hX6]
        show Xr X6p = _
        rw [g1, R5, List.append_assoc]
      obtain ⟨r6, eR1, eR2⟩ := eR'
      have eP : ∀ a, Xn X2 + 4 ≤ a → Ex a X6p (lnX (Xn X2 + 1) (Xn (aX 15 0 (8 * s + 1) (lnX (Xn X2 + 3) (Xn X6) X6))) (aX 15 0 (8 * s + 1) (lnX (Xn X2 + 3) (Xn X6) X6))) := fun a ha => eF a ha X6p Ex.refl
      have eQ : Ex (Xn X2 + 4) X6 (lnX (Xn X2 + 1) (Xn (aX 15 0 (8 * s + 1) (lnX (Xn X2 + 3) (Xn X6) X6))) (aX 15 0 (8 * s + 1) (lnX (Xn X2 + 3) (Xn X6) X6))) := ((Ex.refl.ln (Or.inl (by omega))).a).ln (Or.inl (by omega))
      have eS : Ex (Xn X2 + 4) (aX 15 0 (8 * s + 1) (lnX (Xn X2 + 3) (Xn X6) X6)) (lnX (Xn X2 + 1) (Xn (aX 15 0 (8 * s + 1) (lnX (Xn X2 + 3) (Xn X6) X6))) (aX 15 0 (8 * s + 1) (lnX (Xn X2 + 3) (Xn X6) X6))) := Ex.refl.ln (Or.inl (by omega))
      have hC : ∀ i, Xn X2 ≤ i → i < Xn X5 → C.1 i = Xo (lnX (Xn X2 + 1) (Xn (aX 15 0 (8 * s + 1) (lnX (Xn X2 + 3) (Xn X6) X6))) (aX 15 0 (8 * s + 1) (lnX (Xn X2 + 3) (Xn X6) X6))) i := fun i g1 g2 => agI_no (fun c' hc' hj => by
        have := (v1.2.1 c' (by rw [eK]; exact hc')).2 i hj
        have : i < Xn X2 := this
        omega) (agI_kx g2 eK' (hc.2.2.1 i (by omega) (by rw [nE]; omega)))
      generalize lnX (Xn X2 + 1) (Xn (aX 15 0 (8 * s + 1) (lnX (Xn X2 + 3) (Xn X6) X6))) (aX 15 0 (8 * s + 1) (lnX (Xn X2 + 3) (Xn X6) X6)) = X' at *
      have oX : ∀ i, i < Xn X2 → Xo X' i = Xo X5' i := fun i hi => by
        rw [hop, if_neg (by omega), if_neg (by omega), if_neg (by omega), o6 i (by omega), o5, if_neg (by omega)]
      have oX4 : ∀ i, i < Xn X2 → Xo (lnX (Xn X2 + 2) (Xn X2 + 4) X4) i = Xo X2 i := fun i hi => by
        show (if i = Xn X2 + 2 then _ else Xo X4 i) = _
        rw [if_neg (by omega), o4, if_neg (by omega), o3, if_neg (by omega), if_neg (by omega), if_neg (by omega)]
      have cs := cnd.scope (X1 := X) (X2 := X2) (c := c) (K2 := K2) (x := Xn X2 + 4) (hk := fun _ => some (Xn X2 + 3, 8 * s + 1)) (r := rwL (cGs c) (Xn X) (Xn X2) (Xn X2 + 3) NN (8 * s + 1) ++ r6) hc (Nat.le_refl _) v3 e1 (by omega) (kx.trans (show Xn X2 ≤ Xn X5 by omega) kx.refl eK') eR1 (fun i _ g2 g3 _ => by
        obtain ⟨z1, z2, -, -⟩ := q4 i
        rw [oX i g2]
        exact ⟨z1.trans (congrArg Prod.fst (oX4 i g2)), z2 g3⟩) (fun i _ g2 g3 => by
        obtain ⟨-, -, z3, -⟩ := q4 i
        rw [oX i g2, z3 g3, oX4 i g2]) (fun pc kd g1 g2 => by
        rw [List.append_assoc, hlr_rw s1 g1 g2, if_pos (Or.inl rfl : NN = NN ∨ _), hlr_out (fun x hx => by rcases eR2 x hx with q | q <;> omega)])
      have hin := hca ((Xn X2 + 4, fun _ => some (Xn X2 + 3, 8 * s + 1)) :: ps) _ (lTL_le ht (by omega)) cs
      rw [hfl_s] at hin
      obtain ⟨lP, cP⟩ := (hc.sub (show Xn X ≤ Xn X5 by omega)).back (eP (Xn X5) (by omega)) (Nat.le_refl _)
      obtain ⟨p3, y1, y2, y3, y4, y5, y6, y7, y8⟩ := hpd lP (lTL_le ht (by omega)) cP
      rw [K5, ← eK, Kps_kx k1, n5] at y3
      obtain ⟨lQ, cQ⟩ := (hc.sub (show Xn X ≤ Xn X2 + 4 by omega)).back eQ (Nat.le_refl _)
      rw [← hX6] at cQ
      obtain ⟨t1, t2⟩ := cQ.at p1 (by omega)
      obtain ⟨lS, cS⟩ := (hc.sub (show Xn X ≤ Xn X2 + 4 by omega)).back eS (Nat.le_refl _)
      obtain ⟨u1, u2⟩ := cnd.at (X := lnX (Xn X2 + 3) (Xn X6) X6) cS (by rw [← hX6]; exact p1.a.ln) (by show Xn X2 + 4 ≤ Xn X6; omega)
      have u1 : C.1 (Xn X6) = (15, 0, 8 * s + 1) := u1
      have u2 : hAt T C (hfl ps) (Xn X6) := u2
      have z0 := hC (Xn X2) (Nat.le_refl _) (by omega)
      have z1 := hC (Xn X2 + 1) (by omega) (by omega)
      have z2 := hC (Xn X2 + 2) (by omega) (by omega)
      have z3 := hC (Xn X2 + 3) (by omega) (by omega)
      have z4 := hC (Xn X2 + 4) (by omega) (by omega)
      have nj : ∀ i, Xn X2 ≤ i → i ∉ cJs c := fun i g1 g2 => by have := (j1 i g2).2; omega
      have x5 : ∀ i, Xn X2 ≤ i → Xo X5' i = if i = Xn X2 + 2 then ((Xo X4 i).1, (Xo X4 i).2.1, Xn X2 + 4) else Xo X4 i := fun i g1 => by
        obtain ⟨-, -, z3, -⟩ := q4 i
        exact z3 (nj i g1)
      rw [hop, if_neg (by omega), if_neg (by omega), if_neg (by omega), o6 _ (by omega), o5, if_neg (by omega), x5 _ (by omega), if_neg (by omega), o4, if_neg (by omega), o3, if_neg (by omega), if_neg (by omega), if_pos rfl] at z0
      rw [hop, if_pos rfl, if_neg (by omega), if_neg (by omega), o6 _ (by omega), o5, if_neg (by omega), x5 _ (by omega), if_neg (by omega), o4, if_neg (by omega), o3, if_neg (by omega), if_pos rfl] at z1
      rw [hop, if_neg (by omega), if_neg (by omega), if_neg (by omega), o6 _ (by omega), o5, if_neg (by omega), x5 _ (by omega), if_pos rfl, o4, if_neg (by omega), o3, if_pos rfl] at z2
      rw [hop, if_neg (by omega), if_neg (by omega), if_pos rfl, o6 _ (by omega), o5, if_neg (by omega), x5 _ (by omega), if_neg (by omega), o4, if_pos rfl] at z3
      rw [hop, if_neg (by omega), if_neg (by omega), if_neg (by omega), o6 _ (by omega), o5, if_pos rfl] at z4
      have h9 := hc.2.2.2.2
      refine ⟨Xn X2, p3, hin, z0, by rw [z1, nE], by rw [z2], by rw [z2], by rw [z3, show Xn X6 = p3 + 4 from by omega], z4, y3, y4, y5, y6, y7, y8, by rw [show p3 + 3 = Xn X6p from by omega]; exact t1, by rw [show p3 + 4 = Xn X6 from by omega]; exact u1, by rw [show p3 + 4 = Xn X6 from by omega]; exact u2, by rw [nE]; omega, by omega⟩
    · rw [if_neg hsh] at hc ht ⊢
      rw [if_neg hsh]
      obtain ⟨b1, b2⟩ := hb b _ (v1.a (o := 12) (a := s) (b := 0))
      have hbb := fun later => hk b (aX 12 s 0 (poX X2)) mw tg lp dp hi2 e C ps later v1.a wo (by omega) hh (hK.kx k1) (by show lp ≤ cntL (poX X2).2; rw [cntL_kx k1]; exact hl)
      generalize bk b (aX 12 s 0 (poX X2)) = X3 at *
      have n12 : Xn (aX 12 s 0 (poX X2)) = Xn X2 + 1 := rfl
      have l3 : Xn X2 + 1 ≤ Xn X3 := b2.1
      have kx3 : kx (Xn X2 + 1) K2 X3.2 := by have := b2.2.2.2; rw [← eK]; exact this
      obtain ⟨rb, rb1, rb2⟩ := b2.2.2.1
      have rb1 : Xr X3 = Xr X2 ++ rb := rb1
      have n4 : Xn (aX 5 0 0 X3) = Xn X3 + 1 := rfl
      obtain ⟨r1, r2, r3, r4⟩ := @rwX_n (Xn X2) (Xn (aX 5 0 0 X3)) (8 * s + 1) NN (cGs c) (Xn X) (aX 5 0 0 X3)
      have wq : wX (rwX (cGs c) (Xn X) (Xn X2) (Xn (aX 5 0 0 X3)) NN (8 * s + 1) (aX 5 0 0 X3)) := wX.rw b1.a s1 (by omega)
      have eq4 : Ex (Xn X2) (aX 5 0 0 X3) (rwX (cGs c) (Xn X) (Xn X2) (Xn (aX 5 0 0 X3)) NN (8 * s + 1) (aX 5 0 0 X3)) := Ex.refl.rw s1 (Or.inl (Nat.le_refl _))
      generalize rwX (cGs c) (Xn X) (Xn X2) (Xn (aX 5 0 0 X3)) NN (8 * s + 1) (aX 5 0 0 X3) = Xq at *
      have w5 : wX (aX 12 s 0 Xq) := wq.a
      obtain ⟨p1, p2⟩ := pdX_E hb (s := s) (so := 4) (b := b) (aX 12 s 0 Xq) w5
      have kq : kx (Xn X) X.2 Xq.2 := by rw [r3]; exact kx.trans (m := Xn X2 + 1) (show Xn X ≤ Xn X2 + 1 by omega) k1 (by have := kx3; rw [← eK] at this; exact this)
      have hpd := fun later => pdX_ok (C := C) (s := s) (ps := ps) (later := later) (X := aX 12 s 0 Xq) hb hk (Or.inl rfl) w5 wo (by omega) hh (hK.kx kq) (by show lp ≤ cntL Xq.2; rw [cntL_kx kq]; exact hl)
      generalize pdX bk s 4 b (aX 12 s 0 Xq) = X6p at *
      have n5 : Xn (aX 12 s 0 Xq) = Xn X3 + 2 := by show Xn Xq + 1 = _; omega
      have l6 : Xn X3 + 2 ≤ Xn X6p := by have := p2.1; omega
      have nE : Xn (lnX (Xn X3) (Xn (aX 15 0 (8 * s + 1) X6p)) (aX 15 0 (8 * s + 1) X6p)) = Xn X6p + 1 := rfl
      have eF : ∀ a Y, Ex a Y X6p → (Xn X3 < a ∨ Xn Y ≤ Xn X3) → Ex a Y (lnX (Xn X3) (Xn (aX 15 0 (8 * s + 1) X6p)) (aX 15 0 (8 * s + 1) X6p)) := fun a Y h g => (h.a).ln g
      have e5 : ∀ a Y, Ex a Y (aX 12 s 0 Xq) → Ex a Y X6p := fun a Y h => h.trans p2 (Nat.zero_le _)
      have eA := eF (Xn X2) (aX 12 s 0 (poX X2)) (e5 _ _ (Ex.a (Ex.trans (Ex.a ((Ex.refl (a := Xn X2)).trans b2 (Nat.zero_le _))) eq4 (Nat.le_refl _)))) (Or.inr (by omega))
      have eB := eF (Xn X2) X3 (e5 _ _ (Ex.a (Ex.trans Ex.refl.a eq4 (Nat.le_refl _)))) (Or.inr (Nat.le_refl _))
      have eC := eF (Xn X3 + 1) (aX 5 0 0 X3) (e5 _ _ (Ex.a (Ex.trans Ex.refl eq4 (by omega)))) (Or.inl (by omega))
      have eD := eF (Xn X3 + 1) (aX 12 s 0 Xq) (e5 _ _ Ex.refl) (Or.inl (by omega))
      have eG := eF (Xn X3 + 1) X6p Ex.refl (Or.inl (by omega))
      have eH : Ex (Xn X3 + 1) (aX 15 0 (8 * s + 1) X6p) (lnX (Xn X3) (Xn (aX 15 0 (8 * s + 1) X6p)) (aX 15 0 (8 * s + 1) X6p)) := Ex.refl.ln (Or.inl (by omega))
      have hop : ∀ i, Xo (lnX (Xn X3) (Xn (aX 15 0 (8 * s + 1) X6p)) (aX 15 0 (8 * s + 1) X6p)) i = if i = Xn X3 then ((if i = Xn X6p then ((15, 0, 8 * s + 1) : Ci) else Xo X6p i).1, (if i = Xn X6p then ((15, 0, 8 * s + 1) : Ci) else Xo X6p i).2.1, Xn X6p + 1) else (if i = Xn X6p then ((15, 0, 8 * s + 1) : Ci) else Xo X6p i) := fun _ => rfl
      have o6 : ∀ i, i < Xn X3 + 2 → Xo X6p i = if i = Xn X3 + 1 then ((12, s, 0) : Ci) else if i = Xn X3 then (5, 0, 0) else Xo X3 i := fun i hi => by
        rw [p2.2.1 i (Nat.zero_le _) (by omega)]
        show (if i = Xn Xq then _ else Xo Xq i) = _
        rw [r1, r2]
        rfl
      obtain ⟨r6, g1, g2⟩ := p2.2.2.1
      have R' : Xr (lnX (Xn X3) (Xn (aX 15 0 (8 * s + 1) X6p)) (aX 15 0 (8 * s + 1) X6p)) = Xr X2 ++ (rb ++ (rwL (cGs c) (Xn X) (Xn X2) (Xn (aX 5 0 0 X3)) NN (8 * s + 1) ++ r6)) := by
        show Xr X6p = _
        rw [g1]
        show Xr Xq ++ r6 = _
        rw [r4]
        show (Xr X3 ++ _) ++ r6 = _
        rw [rb1, List.append_assoc, List.append_assoc]
      have k' : kx (Xn X2) K2 (lnX (Xn X3) (Xn (aX 15 0 (8 * s + 1) X6p)) (aX 15 0 (8 * s + 1) X6p)).2 := by
        have h6 : kx (Xn X3 + 2) Xq.2 X6p.2 := by have := p2.2.2.2; rw [n5] at this; exact this
        rw [r3] at h6
        exact kx.trans (Nat.le_succ (Xn X2)) kx.refl (kx.trans (show Xn X2 + 1 ≤ Xn X3 + 2 by omega) kx3 h6)
      generalize lnX (Xn X3) (Xn (aX 15 0 (8 * s + 1) X6p)) (aX 15 0 (8 * s + 1) X6p) = X' at *
      have cs := cnd.scope (X1 := X) (X2 := X2) (c := c) (K2 := K2) (x := 0) (hk := fun _ => some (Xn X3 + 1, 8 * s + 1)) (r := rb ++ (rwL (cGs c) (Xn X) (Xn X2) (Xn (aX 5 0 0 X3)) NN (8 * s + 1) ++ r6)) hc (Nat.le_refl _) v3 e1 (by omega) k' R' (fun i _ _ _ h => by rcases h with h | h; rw [d1] at h; omega; exact absurd h.2 hsh) (fun i _ h2 _ => by
        rw [hop, if_neg (by omega), if_neg (by omega), o6 i (by omega), if_neg (by omega), if_neg (by omega), b2.2.1 i (Nat.zero_le _) (by omega)]
        show (if i = Xn X2 then _ else Xo X2 i) = _
        rw [if_neg (by omega)]) (fun pc kd g3 g4 => by
        rw [List.append_assoc, hlr_out (fun x hx => by rcases rb2 x hx with q | q <;> omega), List.append_assoc, hlr_rw s1 g3 g4, if_pos (Or.inl rfl : NN = NN ∨ _), hlr_out (fun x hx => by rcases g2 x hx with q | q <;> omega), n4])
      have hin := hca ((0, fun _ => some (Xn X3 + 1, 8 * s + 1)) :: ps) _ (lTL_le ht (by omega)) cs
      rw [hfl_s] at hin
      obtain ⟨lA, cA⟩ := (hc.sub (show Xn X ≤ Xn X2 by omega)).back eA (Nat.le_refl _)
      obtain ⟨a1, -⟩ := cA.at v1 (Nat.le_refl _)
      obtain ⟨lB, cB⟩ := (hc.sub (show Xn X ≤ Xn X2 by omega)).back eB (Nat.le_refl _)
      have hfn := hbb lB (lTL_le ht (by omega)) (cB.sub (by omega))
      have hj := hc.op (X := X3) b1 eC.2.2.2 (by omega) (by omega)
      rw [hop, if_pos rfl, if_neg (by omega), o6 _ (by omega), if_neg (by omega), if_pos rfl] at hj
      obtain ⟨lD, cD⟩ := (hc.sub (show Xn X ≤ Xn X3 + 1 by omega)).back eD (Nat.le_refl _)
      obtain ⟨d2, -⟩ := cD.at wq (by omega)
      obtain ⟨lG, cG⟩ := (hc.sub (show Xn X ≤ Xn X3 + 1 by omega)).back eG (Nat.le_refl _)
      obtain ⟨p3, y1, y2, y3, y4, y5, y6, y7, y8⟩ := hpd lG (lTL_le ht (by omega)) (cG.sub (by omega))
      have y3 : ok C ((4, s, 0, 0, hfl ps) :: Kps Xq.2 ps) _ b (Xn (aX 12 s 0 Xq)) p3 := y3
      rw [Kps_kx kq, n5] at y3
      obtain ⟨lH, cH⟩ := (hc.sub (show Xn X ≤ Xn X3 + 1 by omega)).back eH (Nat.le_refl _)
      obtain ⟨t1, t2⟩ := cH.at p1 (by omega)
      have hfn : ok C (Kps (poX X2).2 ps) (hfl ps) b (Xn X2 + 1) (Xn X3) := hfn
      rw [Kps_kx k1] at hfn
      refine ⟨Xn X2, Xn X3, p3, hin, a1, hfn, by rw [hj], by rw [hj, nE], by rw [show Xn X3 + 1 = Xn Xq from by omega]; exact d2, y3, y4, y5, by rw [y6]; rfl, y7, y8, by rw [show p3 + 3 = Xn X6p from by omega]; exact t1, by rw [show p3 + 3 = Xn X6p from by omega]; exact t2, by rw [nE]; omega⟩
end LOK2
