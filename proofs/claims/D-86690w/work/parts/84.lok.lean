set_option maxRecDepth 100000
theorem lnsX_n {t : Nat} : ∀ {js : List Nat} {X : LX}, Xn (lnsX js t X) = Xn X ∧ Xr (lnsX js t X) = Xr X ∧ (lnsX js t X).2 = X.2 := by
  intro js
  induction js with
  | nil => intro X; exact ⟨rfl, rfl, rfl⟩
  | cons j r ih => intro X; exact @ih (lnX j t X)
theorem lnsX_o {t i : Nat} : ∀ {js : List Nat} {X : LX}, (Xo (lnsX js t X) i).1 = (Xo X i).1 ∧ (i ∈ js → (Xo (lnsX js t X) i).2.2 = t) ∧ (i ∉ js → Xo (lnsX js t X) i = Xo X i) ∧ ((Xo X i).2.2 = t → (Xo (lnsX js t X) i).2.2 = t) := by
  intro js
  induction js with
  | nil => intro X; exact ⟨rfl, fun h => (nomatch h), fun _ => rfl, fun h => h⟩
  | cons j r ih =>
    intro X
    obtain ⟨i1, i2, i3, i4⟩ := @ih (lnX j t X)
    have e : Xo (lnX j t X) i = if i = j then ((Xo X i).1, (Xo X i).2.1, t) else Xo X i := rfl
    have e1 : (Xo (lnX j t X) i).1 = (Xo X i).1 := by rw [e]; split <;> rfl
    refine ⟨i1.trans e1, fun h => ?_, fun h => ?_, fun h => i4 ?_⟩
    · rcases List.mem_cons.mp h with h | h
      · exact i4 (by rw [e, if_pos h])
      · exact i2 h
    · have h1 : i ≠ j := fun q => h (by rw [q]; exact List.mem_cons_self)
      have h2 : i ∉ r := fun q => h (List.mem_cons_of_mem _ q)
      exact (i3 h2).trans (by rw [e, if_neg h1])
    · rw [e]
      split
      · rfl
      · exact h
/-- which catch takes a kind -/
def hkC (T : Pg) (s : Nat) (l : List (Int32 × List Nat)) (as : List Nat) (kd : Int32) : Option (Nat × Nat) := match l, as with
  | c :: r, a :: as => if und T 16 kd.toNatClampNeg c.1.toNatClampNeg = true then some (a, 8 * s) else hkC T s r as kd
  | _, _ => none
theorem hCs_e {T : Pg} {h : Hf} {s : Nat} : ∀ {l : List (Int32 × List Nat)} {as : List Nat}, hCs T h s l as = fun kd => match hkC T s l as kd with
    | some q => some q
    | none => h kd := by
  intro l
  induction l with
  | nil => intro as; cases as <;> rfl
  | cons c r ih =>
    intro as
    cases as with
    | nil => rfl
    | cons a as =>
      funext kd
      show (if und T 16 kd.toNatClampNeg c.1.toNatClampNeg = true then some (a, 8 * s) else hCs T h s r as kd) = match (if und T 16 kd.toNatClampNeg c.1.toNatClampNeg = true then some (a, 8 * s) else hkC T s r as kd) with
        | some q => some q
        | none => h kd
      split
      · rfl
      · rw [ih]
section LOK
variable {T : Pg} {nm : Nat} {sh : Bool} {bk : LB} {ok : Cd → OkB} {M m : Nat} {C : Cd}
theorem puX_K {so s g hi : Nat} {X : LX} (h : KF T nm M hi X.2) (h5 : so ≤ 5) (h3 : so ≠ 3) : KF T nm M hi (puX so s g X).2 := ⟨h5, fun e => absurd e h3, h⟩
theorem inX_ok (hb : ∀ ss, fE (bk ss)) (hk : bOK T nm sh bk ok M m) {s mw tg lp dp hi : Nat} {X : LX} {ps : List Pp} {later : List Crw} (w : wX X) (wb : wB T nm mw tg lp dp (Tl T s) (s + 1) hi) (hM : M ≤ m + (s + 1)) (hh : hi < M) (hK : KF T nm M hi X.2) (hl : lp ≤ cntL X.2) (ht : lTL sh (inX T bk s X) = false) (hc : cnd T sh C (inX T bk s X) ps later (Xn X)) : okIn T C (ok C) (Kps X.2 ps) (hfl ps) s (Xn X) (Xn (inX T bk s X)) := by
  unfold inX at hc ht ⊢
  unfold okIn
  by_cases k16 : Tk T s = 16
  · rw [if_pos k16] at hc ht ⊢
    rw [if_pos k16]
    exact hk (Tl T s) X mw tg lp dp (s + 1) hi C ps later w wb hM hh hK hl ht hc
  rw [if_neg k16] at hc ht ⊢
  rw [if_neg k16]
  dsimp only at hc ht ⊢
  obtain ⟨c, K2, e1, e2, d1, -, -, s1, -, v1, v2, v3⟩ := scp (hb (Tl T s)) (so := 1) (s := s) (g := 0) (w.a (o := 9) (a := s) (b := 0))
  have hbk := hk (Tl T s) (puX 1 s 0 (aX 9 s 0 X)) mw tg lp dp (s + 1) hi C
  generalize bk (Tl T s) (puX 1 s 0 (aX 9 s 0 X)) = X2 at *
  rw [e2] at hc ht ⊢
  have n1 : Xn (aX 9 s 0 X) = Xn X + 1 := rfl
  have n2 := srt_le s1
  obtain ⟨r1, r2, r3, r4⟩ := @rwX_n (Xn X2) (Xn X2 + 2) (8 * s + 7) NN (cGs c) (Xn (aX 9 s 0 X)) (aX 5 0 0 (aX 10 s 0 (poX X2)))
  have w4 : wX (rwX (cGs c) (Xn (aX 9 s 0 X)) (Xn X2) (Xn X2 + 2) NN (8 * s + 7) (aX 5 0 0 (aX 10 s 0 (poX X2)))) := wX.rw v1.a.a s1 (by show Xn X2 ≤ Xn X2 + 1 + 1; omega)
  have eA : Ex 0 (aX 9 s 0 X) (lnX (Xn X2 + 1) (Xn X2 + 3) (aX 11 s (8 * s + 7) (rwX (cGs c) (Xn (aX 9 s 0 X)) (Xn X2) (Xn X2 + 2) NN (8 * s + 7) (aX 5 0 0 (aX 10 s 0 (poX X2)))))) := (((v2.a.a).rw s1 (Or.inr (Nat.le_refl _))).a).ln (Or.inr (by omega))
  have eB : Ex (Xn X2) (aX 10 s 0 (poX X2)) (lnX (Xn X2 + 1) (Xn X2 + 3) (aX 11 s (8 * s + 7) (rwX (cGs c) (Xn (aX 9 s 0 X)) (Xn X2) (Xn X2 + 2) NN (8 * s + 7) (aX 5 0 0 (aX 10 s 0 (poX X2)))))) := (((Ex.refl.a).rw s1 (Or.inl (Nat.le_refl _))).a).ln (Or.inr (by show Xn X2 + 1 ≤ Xn X2 + 1; omega))
  have eC : Ex (Xn X2 + 2) (aX 11 s (8 * s + 7) (rwX (cGs c) (Xn (aX 9 s 0 X)) (Xn X2) (Xn X2 + 2) NN (8 * s + 7) (aX 5 0 0 (aX 10 s 0 (poX X2))))) (lnX (Xn X2 + 1) (Xn X2 + 3) (aX 11 s (8 * s + 7) (rwX (cGs c) (Xn (aX 9 s 0 X)) (Xn X2) (Xn X2 + 2) NN (8 * s + 7) (aX 5 0 0 (aX 10 s 0 (poX X2)))))) := Ex.refl.ln (Or.inl (by omega))
  generalize hX4 : rwX (cGs c) (Xn (aX 9 s 0 X)) (Xn X2) (Xn X2 + 2) NN (8 * s + 7) (aX 5 0 0 (aX 10 s 0 (poX X2))) = X4 at *
  have r1 : Xn X4 = Xn X2 + 2 := r1
  have r3 : X4.2 = X2.2.tail := r3
  have nE : Xn (lnX (Xn X2 + 1) (Xn X2 + 3) (aX 11 s (8 * s + 7) X4)) = Xn X2 + 3 := by show Xn X4 + 1 = _; omega
  have hop : ∀ i, Xo (lnX (Xn X2 + 1) (Xn X2 + 3) (aX 11 s (8 * s + 7) X4)) i = if i = Xn X2 + 1 then ((if i = Xn X4 then ((11, s, 8 * s + 7) : Ci) else Xo X4 i).1, (if i = Xn X4 then ((11, s, 8 * s + 7) : Ci) else Xo X4 i).2.1, Xn X2 + 3) else if i = Xn X4 then ((11, s, 8 * s + 7) : Ci) else Xo X4 i := fun _ => rfl
  have hop2 : ∀ i, Xo X4 i = if i = Xn X2 + 1 then ((5, 0, 0) : Ci) else if i = Xn X2 then (10, s, 0) else Xo X2 i := fun i => by rw [r2]; rfl
  obtain ⟨lA, cA⟩ := hc.back eA (Nat.zero_le _)
  obtain ⟨a1, a2⟩ := cA.at w (Nat.le_refl _)
  obtain ⟨lB, cB⟩ := (hc.sub (show Xn X ≤ Xn X2 by omega)).back eB (Nat.le_refl _)
  obtain ⟨b1, b2⟩ := cB.at v1 (Nat.le_refl _)
  obtain ⟨lC, cC⟩ := (hc.sub (show Xn X ≤ Xn X2 + 2 by omega)).back eC (Nat.le_refl _)
  obtain ⟨c1, c2⟩ := cC.at w4 (by omega)
  have hj := hc.op (X := aX 10 s 0 (poX X2)) v1.a (by show kx (Xn X2 + 1 + 1) X2.2.tail X4.2; rw [r3]; exact kx.refl) (by show Xn X ≤ Xn X2 + 1; omega) (by rw [nE]; show Xn X2 + 1 < _; omega)
  have hj : C.1 (Xn X2 + 1) = _ := hj.trans (hop (Xn X2 + 1))
  rw [if_pos rfl, hop2, if_pos rfl, if_neg (by omega)] at hj
  refine ⟨Xn X2, a1, a2, ?_, b1, b2, by rw [hj], by rw [hj], by rw [← r1]; exact c1, by rw [← r1]; exact c2, nE⟩
  have cs := cnd.scope (X1 := aX 9 s 0 X) (X2 := X2) (c := c) (K2 := K2) (x := 0) (hk := fun _ => some (Xn X2 + 2, 8 * s + 7)) (r := rwL (cGs c) (Xn (aX 9 s 0 X)) (Xn X2) (Xn X2 + 2) NN (8 * s + 7)) hc (by show Xn X ≤ Xn X + 1; omega) v3 e1 (by omega) (by show kx _ K2 X4.2; rw [r3, e1]; exact kx.refl) r4 (fun i _ _ _ h => by rw [d1] at h; omega) (fun i _ h2 _ => by rw [hop, if_neg (by omega), if_neg (by omega), hop2, if_neg (by omega), if_neg (by omega)]) (fun pc kd p1 p2 => by rw [hlr_rw s1 p1 p2, if_pos (Or.inl rfl : NN = NN ∨ _)])
  have := hbk ((0, fun _ => some (Xn X2 + 2, 8 * s + 7)) :: ps) _ (w.a.pu) wb hM hh (puX_K hK (by omega) (by omega)) (by show lp ≤ 0 + cntL X.2; omega) (lTL_le ht (by rw [nE]; omega)) cs
  rw [hfl_s] at this
  exact this
/-- catches -/
theorem csX_ok (hb : ∀ ss, fE (bk ss)) (hk : bOK T nm sh bk ok M m) {s mw lp dp f t : Nat} {gs : List (Nat × Nat)} (hs : srt f gs t) {ps : List Pp} {later : List Crw} {hi2 : Nat} (hh : hi2 < M) : ∀ (l : List (Int32 × List Nat)) (js : List Nat) (X : LX) (lo : Nat), wX X → t ≤ Xn X → (∀ j, j ∈ js → j < Xn X) → wC (wB T nm mw) s lp dp l lo hi2 → M ≤ m + lo → KF T nm M hi2 X.2 → lp ≤ cntL X.2 → (∀ c, c ∈ l → c.1 ≠ NN) → lTL sh (csX bk s gs f t l js X) = false → cnd T sh C (csX bk s gs f t l js X) ps later (Xn X) →
    (∀ j, j ∈ js → (Xo (csX bk s gs f t l js X) j).1 = (Xo X j).1 ∧ (Xo (csX bk s gs f t l js X) j).2.2 = Xn (csX bk s gs f t l js X)) ∧ ∃ as r, okCs C (ok C) (Kps X.2 ps) (hfl ps) (Xn (csX bk s gs f t l js X)) l as (Xn X) ∧ Xr (csX bk s gs f t l js X) = Xr X ++ r ∧ ∀ pc kd, f ≤ pc → pc < t → hlr T (r ++ later) pc kd = if gIn gs pc = true then hlr T later pc kd else match hkC T s l as kd with
      | some q => some q
      | none => hlr T later pc kd := by
  intro l
  induction l with
  | nil =>
    intro js X lo w ht hj wc hM hK hl hn hL hc
    refine ⟨fun j hj' => ⟨lnsX_o.1, (lnsX_o.2.1 hj').trans lnsX_n.1.symm⟩, [], [], lnsX_n.1.symm, lnsX_n.2.1.trans (List.append_nil _).symm, fun pc kd _ _ => ?_⟩
    show hlr T later pc kd = if gIn gs pc = true then hlr T later pc kd else hlr T later pc kd
    split <;> rfl
  | cons c r ih =>
    intro js X lo w ht hj wc hM hK hl hn hL hc
    obtain ⟨z, wc1, wc2⟩ := wc
    have hz1 := wB_le T nm mw _ _ _ _ _ _ wc1
    have hz2 := wC_le (wB_le T nm mw) wc2
    unfold csX at hL hc ⊢
    dsimp only at hL hc ⊢
    have w1 : wX (rwX gs f t (Xn X) c.1 (8 * s) X) := w.rw hs ht
    obtain ⟨r1, r2, r3, r4⟩ := @rwX_n t (Xn X) (8 * s) c.1 gs f X
    obtain ⟨v1, v2⟩ := hb c.2 _ w1
    have hbk := hk c.2 (rwX gs f t (Xn X) c.1 (8 * s) X) mw s lp dp lo z C
    generalize rwX gs f t (Xn X) c.1 (8 * s) X = X1 at *
    generalize bk c.2 X1 = X2 at *
    have n1 := v2.1
    have n2 : Xn (aX 5 0 0 X2) = Xn X2 + 1 := rfl
    have k1 : kx (Xn X) X.2 X2.2 := by have := v2.2.2.2; rw [r1, r3] at this; exact this
    have hjs : ∀ j, j ∈ js ++ [Xn X2] → j < Xn (aX 5 0 0 X2) := fun j hj' => by
      rcases List.mem_append.mp hj' with h | h
      · have := hj j h; omega
      · rcases List.mem_singleton.mp h with rfl; omega
    obtain ⟨E1, E2, E3⟩ := csX_E hb hs (s := s) r (js ++ [Xn X2]) (aX 5 0 0 X2) v1.a (by omega)
    have eX : Ex (Xn X) X2 (csX bk s gs f t r (js ++ [Xn X2]) (aX 5 0 0 X2)) := E3 (Xn X) X2 Ex.refl.a (Or.inl ht) (fun j hj' => by
      rcases List.mem_append.mp hj' with h | h
      · exact Or.inl (hj j h)
      · rcases List.mem_singleton.mp h with rfl; exact Or.inr (Nat.le_refl _))
    have eY := E3 (Xn X2 + 1) (aX 5 0 0 X2) Ex.refl (Or.inl (by omega)) (fun j hj' => Or.inl (hjs j hj'))
    obtain ⟨i1, as, r', i2, i3, i4⟩ := ih (js ++ [Xn X2]) (aX 5 0 0 X2) z v1.a (by omega) hjs wc2 (by omega) (hK.kx k1) (by show lp ≤ cntL X2.2; rw [cntL_kx k1]; exact hl) (fun c' hc' => hn c' (List.mem_cons_of_mem _ hc')) hL (hc.sub (by omega))
    have i2 : okCs C (ok C) (Kps X2.2 ps) (hfl ps) _ r as (Xn X2 + 1) := i2
    rw [Kps_kx k1] at i2
    obtain ⟨ob, nb, ⟨rb, rb1, rb2⟩, kb⟩ := v2
    have hXr : Xr (csX bk s gs f t r (js ++ [Xn X2]) (aX 5 0 0 X2)) = Xr X ++ (rwL gs f t (Xn X) c.1 (8 * s) ++ (rb ++ r')) := by
      rw [i3]
      show Xr X2 ++ r' = _
      rw [rb1, r4, List.append_assoc, List.append_assoc]
    refine ⟨fun j hj' => ?_, Xn X :: as, rwL gs f t (Xn X) c.1 (8 * s) ++ (rb ++ r'), ?_, hXr, fun pc kd p1 p2 => ?_⟩
    · obtain ⟨q1, q2⟩ := i1 j (List.mem_append_left _ hj')
      refine ⟨q1.trans ?_, q2⟩
      have hjn := hj j hj'
      show (if j = Xn X2 then ((5, 0, 0) : Ci) else Xo X2 j).1 = _
      rw [if_neg (by omega), nb j (Nat.zero_le _) (by omega), r2]
    · obtain ⟨l1, cb⟩ := hc.back eX (Nat.le_refl _)
      have ob := hbk ps l1 w1 wc1 hM (by omega) (by rw [r3]; exact hK.mono hz2) (by rw [r3]; exact hl) (lTL_le hL eX.1) (by rw [r1]; exact cb)
      rw [r3, r1] at ob
      have hjb := hc.op (X := X2) v1 (by have := eY.2.2.2; exact this) (by omega) (by have := eY.1; omega)
      obtain ⟨q1, q2⟩ := i1 (Xn X2) (List.mem_append_right _ (List.mem_singleton.mpr rfl))
      refine ⟨rfl, Xn X2, ob, ?_, ?_, i2⟩
      · rw [hjb, q1]
        show (if Xn X2 = Xn X2 then ((5, 0, 0) : Ci) else Xo X2 (Xn X2)).1 = 5
        rw [if_pos rfl]
      · rw [hjb, q2]
    · rw [List.append_assoc, hlr_rw hs p1 p2, List.append_assoc, hlr_out (fun x hx => by rcases rb2 x hx with q | q <;> omega), i4 pc kd p1 p2]
      have hnn := hn c List.mem_cons_self
      by_cases hg : gIn gs pc = true
      · rw [if_pos hg, if_pos hg, if_pos hg]
      · rw [if_neg hg, if_neg hg, if_neg hg]
        show _ = match (if und T 16 kd.toNatClampNeg c.1.toNatClampNeg = true then some (Xn X, 8 * s) else hkC T s r as kd) with
          | some q => some q
          | none => hlr T later pc kd
        by_cases hu : und T 16 kd.toNatClampNeg c.1.toNatClampNeg = true
        · rw [if_pos (Or.inr hu), if_pos hu]
        · rw [if_neg (fun e => e.elim hnn hu), if_neg hu]
theorem csX_o (hb : ∀ ss, fE (bk ss)) {s f t : Nat} {gs : List (Nat × Nat)} (hs : srt f gs t) : ∀ (l : List (Int32 × List Nat)) (js : List Nat) (X : LX), wX X → t ≤ Xn X → ∀ i, i < Xn X → i ∉ js → Xo (csX bk s gs f t l js X) i = Xo X i := by
  intro l
  induction l with
  | nil => intro js X _ _ i _ hj; exact lnsX_o.2.2.1 hj
  | cons c r ih =>
    intro js X w ht i hi hj
    unfold csX
    dsimp only
    have w1 : wX (rwX gs f t (Xn X) c.1 (8 * s) X) := w.rw hs ht
    obtain ⟨r1, r2, r3, r4⟩ := @rwX_n t (Xn X) (8 * s) c.1 gs f X
    obtain ⟨v1, v2⟩ := hb c.2 _ w1
    generalize rwX gs f t (Xn X) c.1 (8 * s) X = X1 at *
    generalize bk c.2 X1 = X2 at *
    have n1 := v2.1
    have n2 : Xn (aX 5 0 0 X2) = Xn X2 + 1 := rfl
    rw [ih (js ++ [Xn X2]) (aX 5 0 0 X2) v1.a (by omega) i (by omega) (fun h => by
      rcases List.mem_append.mp h with h | h
      · exact hj h
      · rcases List.mem_singleton.mp h with rfl; omega)]
    show (if i = Xn X2 then ((5, 0, 0) : Ci) else Xo X2 i) = _
    rw [if_neg (by omega), v2.2.1 i (Nat.zero_le _) (by omega), r2]
theorem caX_ok (hb : ∀ ss, fE (bk ss)) (hk : bOK T nm sh bk ok M m) {s mw tg lp dp hi1 hi2 : Nat} {X : LX} {ps : List Pp} {later : List Crw} (w : wX X) (wb : wB T nm mw tg lp dp (Tl T s) (s + 1) hi1) (wc : wC (wB T nm mw) s lp dp (Tc T s) hi1 hi2) (hM : M ≤ m + (s + 1)) (hh : hi2 < M) (hK : KF T nm M hi2 X.2) (hl : lp ≤ cntL X.2) (hn : ∀ c, c ∈ Tc T s → c.1 ≠ NN) (ht : lTL sh (caX T bk s X) = false) (hc : cnd T sh C (caX T bk s X) ps later (Xn X)) : okCa T C (ok C) (Kps X.2 ps) (hfl ps) s (Xn X) (Xn (caX T bk s X)) := by
  have h1 := wB_le T nm mw _ _ _ _ _ _ wb
  have h2 := wC_le (wB_le T nm mw) wc
  unfold caX at hc ht ⊢
  unfold okCa
  by_cases h0 : Tc T s = []
  · rw [if_pos h0] at hc ht ⊢
    rw [if_pos h0]
    exact inX_ok hb hk w wb hM (by omega) (hK.mono h2) hl ht hc
  rw [if_neg h0] at hc ht ⊢
  rw [if_neg h0]
  dsimp only at hc ht ⊢
  obtain ⟨c, K2, e1, e2, d1, -, -, s1, -, v1, v2, v3⟩ := scp (inX_E (T := T) hb (s := s)) (so := 2) (s := s) (g := 0) w
  have hbk := fun ps later => inX_ok (C := C) (ps := ps) (later := later) (X := puX 2 s 0 X) hb hk w.pu wb hM (by omega) (puX_K (hK.mono h2) (by omega) (by omega)) (by show lp ≤ 0 + cntL X.2; omega)
  generalize inX T bk s (puX 2 s 0 X) = X2 at *
  rw [e2] at hc ht ⊢
  have n2 := srt_le s1
  have k1 : kx (Xn X) X.2 (poX X2).2 := v2.2.2.2
  have n3 : Xn (aX 5 0 0 (coX 1 ((Tc T s).length + 1) (poX X2))) = Xn X2 + 1 := rfl
  obtain ⟨E1, E2, E3⟩ := csX_E hb s1 (s := s) (Tc T s) [Xn X2] (aX 5 0 0 (coX 1 ((Tc T s).length + 1) (poX X2))) (wX.co v1).a (Nat.le_succ _)
  obtain ⟨i1, as, r, i2, i3, i4⟩ := csX_ok (C := C) (ps := ps) (later := later) hb hk s1 hh (Tc T s) [Xn X2] (aX 5 0 0 (coX 1 ((Tc T s).length + 1) (poX X2))) hi1 (wX.co v1).a (Nat.le_succ _) (fun j hj => by rcases List.mem_singleton.mp hj with rfl; omega) wc (by omega) (hK.kx k1) (by show lp ≤ cntL (poX X2).2; rw [cntL_kx k1]; exact hl) hn ht (hc.sub (by omega))
  have eY := E3 (Xn X2 + 1) _ Ex.refl (Or.inl (by omega)) (fun j hj => by rcases List.mem_singleton.mp hj with rfl; exact Or.inl (by omega))
  have hjb := hc.op (X := coX 1 ((Tc T s).length + 1) (poX X2)) (wX.co v1) eY.2.2.2 (by show Xn X ≤ Xn X2; omega) (by have := eY.1; show Xn X2 < _; omega)
  have hjb : C.1 (Xn X2) = Xo (csX bk s (cGs c) (Xn X) (Xn X2) (Tc T s) [Xn X2] (aX 5 0 0 (coX 1 ((Tc T s).length + 1) (poX X2)))) (Xn X2) := hjb
  obtain ⟨q1, q2⟩ := i1 (Xn X2) (List.mem_singleton.mpr rfl)
  have i2 : okCs C (ok C) (Kps (poX X2).2 ps) (hfl ps) _ (Tc T s) as (Xn X2 + 1) := i2
  rw [Kps_kx k1] at i2
  refine ⟨Xn X2, as, ?_, ?_, ?_, i2⟩
  · have ops : ∀ i, i < Xn X2 → Xo (csX bk s (cGs c) (Xn X) (Xn X2) (Tc T s) [Xn X2] (aX 5 0 0 (coX 1 ((Tc T s).length + 1) (poX X2)))) i = Xo X2 i := by
      intro i hi
      rw [csX_o hb s1 (Tc T s) [Xn X2] (aX 5 0 0 (coX 1 ((Tc T s).length + 1) (poX X2))) (wX.co v1).a (Nat.le_succ _) i (by omega) (fun h => by rcases List.mem_singleton.mp h with rfl; omega)]
      show (if i = Xn X2 then ((5, 0, 0) : Ci) else Xo X2 i) = _
      rw [if_neg (by omega)]
    have eK : (poX X2).2 = K2 := by show X2.2.tail = K2; rw [e1]; rfl
    have kY : kx (Xn X2 + 1) K2 (csX bk s (cGs c) (Xn X) (Xn X2) (Tc T s) [Xn X2] (aX 5 0 0 (coX 1 ((Tc T s).length + 1) (poX X2)))).2 := by rw [← eK]; exact eY.2.2.2
    have cs := cnd.scope (X1 := X) (X2 := X2) (c := c) (K2 := K2) (x := 0) (hk := hkC T s (Tc T s) as) (r := r) hc (Nat.le_refl _) v3 e1 (by have := eY.1; omega) (kx.trans (Nat.le_succ (Xn X2)) kx.refl kY) i3 (fun i _ _ _ h => by rw [d1] at h; omega) (fun i _ h2 _ => ops i h2) i4
    have := hbk ((0, hkC T s (Tc T s) as) :: ps) _ (lTL_le ht (by have := eY.1; omega)) cs
    rw [hCs_e]
    exact this
  · rw [hjb, q1]
    show (if Xn X2 = Xn X2 then ((5, 0, 0) : Ci) else Xo X2 (Xn X2)).1 = 5
    rw [if_pos rfl]
  · rw [hjb, q2]
end LOK
