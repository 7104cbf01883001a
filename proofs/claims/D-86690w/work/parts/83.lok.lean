set_option maxRecDepth 100000
/-- blocks are lowered as they should -/
def bOK (T : Pg) (nm : Nat) (sh : Bool) (bk : LB) (ok : Cd → OkB) (M m : Nat) : Prop := ∀ (ss : List Nat) (X : LX) (mw tg lp dp lo hi : Nat) (C : Cd) (ps : List Pp) (later : List Crw), wX X → wB T nm mw tg lp dp ss lo hi → M ≤ m + lo → hi < M → KF T nm M hi X.2 → lp ≤ cntL X.2 → lTL sh (bk ss X) = false → cnd T sh C (bk ss X) ps later (Xn X) → ok C (Kps X.2 ps) (hfl ps) ss (Xn X) (Xn (bk ss X))
theorem lTL_le {sh : Bool} {X Y : LX} (h : lTL sh Y = false) (n : Xn X ≤ Xn Y) : lTL sh X = false := by
  unfold lTL at h ⊢
  cases sh with
  | true => rfl
  | false =>
    simp at h ⊢
    omega
section LV
variable {T : Pg} {nm : Nat} {sh : Bool} {bk : LB} {ok : Cd → OkB} {M m : Nat} {C : Cd}
theorem unX_e {f : LX → LX} {X : LX} {c : Lc} {K : List Lc} (h : X.2 = c :: K) : unX f X = ((f (X.1, K)).1, c :: (f (X.1, K)).2) := by
  unfold unX
  rw [h]
theorem paX_3c {w : Nat} {X : LX} {c : Lc} {K : List Lc} (hX : X.2 = c :: K) (c3 : c.1 = 3) (hsh : sh = false) : paX T sh bk w X = ((if w = 1 then aX 14 0 (8 * c.2.1 + 2) (bk (finB T c.2.1) (aX 12 c.2.1 0 (if w = 1 then aX 13 0 (8 * c.2.1 + 2) (X.1, K) else (X.1, K)))) else bk (finB T c.2.1) (aX 12 c.2.1 0 (if w = 1 then aX 13 0 (8 * c.2.1 + 2) (X.1, K) else (X.1, K)))).1, c :: (if w = 1 then aX 14 0 (8 * c.2.1 + 2) (bk (finB T c.2.1) (aX 12 c.2.1 0 (if w = 1 then aX 13 0 (8 * c.2.1 + 2) (X.1, K) else (X.1, K)))) else bk (finB T c.2.1) (aX 12 c.2.1 0 (if w = 1 then aX 13 0 (8 * c.2.1 + 2) (X.1, K) else (X.1, K)))).2) := by
  have hto : toX X = c := by unfold toX; rw [hX]; rfl
  unfold paX
  dsimp only
  rw [hto, if_neg (by omega), if_neg (by omega), if_neg (by omega), if_pos c3, hsh]
  simp only [if_neg (show ¬ false = true from by decide)]
  by_cases w1 : w = 1
  · simp only [if_pos w1]
    rw [unX_e (c := c) (K := K) (show (aX 12 c.2.1 0 (aX 13 0 (8 * c.2.1 + 2) X)).2 = c :: K from hX)]
    rfl
  · simp only [if_neg w1]
    rw [unX_e (c := c) (K := K) (show (aX 12 c.2.1 0 X).2 = c :: K from hX)]
    rfl
theorem paX_3s {w : Nat} {X : LX} {c : Lc} {K : List Lc} (hX : X.2 = c :: K) (c3 : c.1 = 3) (hsh : sh = true) : paX T sh bk w X = ((if w = 1 then aX 14 0 (8 * c.2.1 + 2) (lnX (Xn X + (if w = 1 then 1 else 0) + 1) (Xn X + (if w = 1 then 1 else 0) + 3) (coX (lgc c.2.2.2.2.2.2 ((cJs c).length + 1)) (lgs c.2.2.2.2.2.2 ((cJs c).length + 1)) (aX 5 0 0 (aX 19 (8 * c.2.1 + 3) 0 (aX 18 0 (8 * c.2.1 + 1) (if w = 1 then aX 13 0 (8 * c.2.1 + 2) (X.1, K) else (X.1, K))))))) else lnX (Xn X + (if w = 1 then 1 else 0) + 1) (Xn X + (if w = 1 then 1 else 0) + 3) (coX (lgc c.2.2.2.2.2.2 ((cJs c).length + 1)) (lgs c.2.2.2.2.2.2 ((cJs c).length + 1)) (aX 5 0 0 (aX 19 (8 * c.2.1 + 3) 0 (aX 18 0 (8 * c.2.1 + 1) (if w = 1 then aX 13 0 (8 * c.2.1 + 2) (X.1, K) else (X.1, K))))))).1, (c.1, c.2.1, c.2.2.1, c.2.2.2.1, c.2.2.2.2.1, cJs c ++ [Xn X + (if w = 1 then 1 else 0) + 2], lwd c.2.2.2.2.2.2 ((cJs c).length + 1)) :: K) := by
  have hto : toX X = c := by unfold toX; rw [hX]; rfl
  unfold paX
  dsimp only
  rw [hto, if_neg (by omega), if_neg (by omega), if_neg (by omega), if_pos c3, hsh]
  simp only [if_pos]
  by_cases w1 : w = 1
  · simp only [if_pos w1]
    unfold juX
    rw [show (aX 5 0 0 (aX 19 (8 * c.2.1 + 3) 0 (aX 18 0 (8 * c.2.1 + 1) (aX 13 0 (8 * c.2.1 + 2) X)))).2 = c :: K from hX]
    rfl
  · simp only [if_neg w1]
    unfold juX
    rw [show (aX 5 0 0 (aX 19 (8 * c.2.1 + 3) 0 (aX 18 0 (8 * c.2.1 + 1) X))).2 = c :: K from hX]
    rfl
/-- a way out -/
theorem lvX_ok (hb : ∀ ss, fE (bk ss)) (hk : bOK T nm sh bk ok M m) (w : Nat) (hw : 1 ≤ w ∧ w ≤ 3) : ∀ (d n hi : Nat) (X : LX) (ps : List Pp) (later : List Crw), X.2.length = d → wX X → M ≤ m + hi → KF T nm M hi X.2 → ((w = 1 ∧ n = 0) ∨ (w ≠ 1 ∧ 1 ≤ n ∧ n ≤ cntL X.2)) → lTL sh (lvX T sh bk w d n X) = false → cnd T sh C (lvX T sh bk w d n X) ps later (Xn X) → okLv T sh C (ok C) (Kps X.2 ps) w n (Xn X) := by
  intro d
  induction d with
  | zero =>
    intro n hi X ps later hd wx hM hK hn ht hc
    have hX : X.2 = [] := List.eq_nil_of_length_eq_zero hd
    have hc : cnd T sh C (aX 22 0 0 X) ps later (Xn X) := hc
    rw [hX] at hn ⊢
    unfold cntL at hn
    have : Kps [] ps = [] := by cases ps <;> rfl
    rw [this]
    refine ⟨by omega, ?_⟩
    rw [(hc.at wx (Nat.le_refl _)).1]
  | succ d ih =>
    intro n hi X ps later hd wx hM hK hn ht hc
    cases hX : X.2 with
    | nil => rw [hX] at hd; cases hd
    | cons c K =>
      have hlen := hc.1
      have hEx := lvX_E (T := T) (sh := sh) (w := w) hb (d + 1) n X wx
      cases ps with
      | nil => rw [hEx.2.2.2.2.len, hX] at hlen; cases hlen
      | cons p ps =>
        have hto : toX X = c := by unfold toX; rw [hX]; rfl
        rw [hX] at hn hK hd
        unfold cntL at hn
        unfold Kps okLv
        unfold lvX at hc ht
        rw [hto] at hc ht
        dsimp only at hc ht ⊢
        by_cases c2 : c.1 = 0 ∧ w = 2 ∧ n = 1
        · rw [if_pos c2] at hc
          rw [if_pos c2.1, if_pos c2.2]
          have g := hc.2.2.1 (Xn X) (Nat.le_refl _)
          unfold juX at g
          have hX2 : (aX 5 0 0 X).2 = c :: K := hX
          rw [hX2] at g
          have g := (g (Nat.lt_succ_self _)).1 (List.mem_append_right _ (List.mem_singleton.mpr rfl)) (Or.inl c2.1)
          obtain ⟨g1, g2⟩ := g
          refine ⟨?_, g2⟩
          rw [g1]
          show (if Xn X = Xn X then ((5, 0, 0) : Ci) else _).1 = 5
          rw [if_pos rfl]
        rw [if_neg c2] at hc ht
        by_cases c3 : c.1 = 0 ∧ w = 3 ∧ n = 1
        · rw [if_pos c3] at hc
          rw [if_pos c3.1, if_neg (by omega), if_pos c3.2]
          rw [(hc.at wx (Nat.le_refl _)).1]
          exact ⟨rfl, rfl⟩
        rw [if_neg c3] at hc ht
        -- the way goes on behind this scope
        obtain ⟨p1, p2⟩ := paX_E (T := T) (sh := sh) (w := w) hb X wx
        obtain ⟨c', K', t1, t2, t3, t4, t5⟩ := paX_top (T := T) (sh := sh) (bk := bk) (w := w) hX
        have wK : wX (X.1, K) := by
          obtain ⟨w1, w2, w3⟩ := wx
          rw [hX] at w2 w3
          exact ⟨w1, fun c' hc => w2 c' (List.mem_cons_of_mem _ hc), fun i => by have := w3 i; unfold cJ at this; show cJ i K ≤ 1; omega⟩
        have hpa : paX T sh bk w X = paX T sh bk w X := rfl
        have wK' : wX ((paX T sh bk w X).1, K') := by
          obtain ⟨w1, w2, w3⟩ := p1
          rw [t1] at w2 w3
          exact ⟨w1, fun c' hc => w2 c' (List.mem_cons_of_mem _ hc), fun i => by have := w3 i; unfold cJ at this; show cJ i K' ≤ 1; omega⟩
        have kx1 : kx (Xn X) K K' := by
          have := p2.2.2.2
          rw [hX, t1] at this
          exact this.2.2.2.2.2
        have hn1 := p2.1
        rw [unX_e t1] at hc ht
        have hY := lvX_E (T := T) (sh := sh) (w := w) hb d (if c.1 = 0 then n - 1 else n) ((paX T sh bk w X).1, K') wK'
        have hYd : K'.length = d := by
          have := kx1.len
          have hd : K.length + 1 = d + 1 := hd
          omega
        -- what the end says of the rest of the way
        have hcY : ∀ l0, (∀ i, l0 ≤ i → i ∉ cJs c') → Xn X ≤ l0 → cnd T sh C (lvX T sh bk w d (if c.1 = 0 then n - 1 else n) ((paX T sh bk w X).1, K')) ps later l0 := by
          intro l0 hl hle
          obtain ⟨h1, h2, h3, h4, h5⟩ := hc
          refine ⟨Nat.succ.inj h1, h2, fun i a1 a2 => (h3 i (by omega) a2).2 (hl i a1), fun pc kd a1 a2 => ?_, h5⟩
          rw [h4 pc kd (by omega) a2]
          show hgp (_ :: (lvX T sh bk w d (if c.1 = 0 then n - 1 else n) ((paX T sh bk w X).1, K')).2) (p :: ps) pc kd = _
          show (if gIn (cGs c' ++ [(Xn X, Xn (lvX T sh bk w d (if c.1 = 0 then n - 1 else n) ((paX T sh bk w X).1, K')))]) pc = true then hgp (lvX T sh bk w d (if c.1 = 0 then n - 1 else n) ((paX T sh bk w X).1, K')).2 ps pc kd else (match p.2 kd with | some q => some q | none => hgp (lvX T sh bk w d (if c.1 = 0 then n - 1 else n) ((paX T sh bk w X).1, K')).2 ps pc kd)) = _
          rw [if_pos]
          · show gIn (cGs c' ++ [(Xn X, Xn (lvX T sh bk w d (if c.1 = 0 then n - 1 else n) ((paX T sh bk w X).1, K')))]) pc = true
            unfold gIn
            rw [List.any_append]
            have a2 : pc < Xn (lvX T sh bk w d (if c.1 = 0 then n - 1 else n) ((paX T sh bk w X).1, K')) := a2
            simp
            right
            omega
        have hcJ : ∀ i, Xn (paX T sh bk w X) ≤ i → i ∉ cJs c' := by
          intro i hi1 hj
          have := (p1.2.1 c' (by rw [t1]; exact List.mem_cons_self)).2 i hj
          omega
        have hKF := (hK.2.2).kx kx1
        have hgo : okLv T sh C (ok C) (Kps K' ps) w (if c.1 = 0 then n - 1 else n) (Xn (paX T sh bk w X)) := by
          refine ih (if c.1 = 0 then n - 1 else n) hi ((paX T sh bk w X).1, K') ps later hYd wK' hM hKF ?_ (lTL_le ht (Nat.le_refl _)) (hcY _ hcJ hn1)
          show (w = 1 ∧ _ = 0) ∨ (w ≠ 1 ∧ 1 ≤ _ ∧ _ ≤ cntL K')
          rw [cntL_kx kx1]
          by_cases c0 : c.1 = 0
          · rw [if_pos c0] at hn ⊢
            omega
          · rw [if_neg c0] at hn ⊢
            omega
        rw [Kps_kx kx1] at hgo
        by_cases c0 : c.1 = 0
        · rw [if_pos c0] at hgo ⊢
          rw [if_neg (fun e => c2 ⟨c0, e⟩), if_neg (fun e => c3 ⟨c0, e⟩)]
          have : paX T sh bk w X = X := by
            unfold paX
            dsimp only
            rw [hto, if_neg (by omega), if_neg (by omega), if_neg (by omega), if_neg (by omega)]
          rw [this] at hgo
          exact hgo
        rw [if_neg c0] at hgo ⊢
        have hnJ : ∀ i, Xn X ≤ i → i ∉ cJs c := fun i hi1 hj => by
          have := (wx.2.1 c (by rw [hX]; exact List.mem_cons_self)).2 i hj
          omega
        have hlvn : Xn (paX T sh bk w X) ≤ Xn (lvX T sh bk w d (if c.1 = 0 then n - 1 else n) ((paX T sh bk w X).1, K')) := hY.2.1
        by_cases c1 : c.1 = 1
        · rw [if_pos c1]
          have e1 : paX T sh bk w X = aX 10 c.2.1 0 X := by
            unfold paX
            dsimp only
            rw [hto, if_pos c1]
          rw [e1] at hgo hcY hY t1 hcJ
          have hcc : c' = c ∧ K' = K := by
            have : (aX 10 c.2.1 0 X).2 = c :: K := hX
            rw [this] at t1
            cases t1
            exact ⟨rfl, rfl⟩
          obtain ⟨rfl, rfl⟩ := hcc
          obtain ⟨l1, cb⟩ := (hcY (Xn X) hnJ (Nat.le_refl _)).back hY.2 (Nat.zero_le _)
          obtain ⟨b1, b2⟩ := cnd.at (X := (X.1, K')) cb wK (Nat.le_refl _)
          exact ⟨b1, b2, hgo⟩
        rw [if_neg c1]
        by_cases c2' : c.1 = 2
        · rw [if_pos c2']
          have : paX T sh bk w X = X := by
            unfold paX
            dsimp only
            rw [hto, if_neg (by omega), if_neg (by omega), if_neg (by omega), if_neg (by omega)]
          rw [this] at hgo
          exact hgo
        rw [if_neg c2']
        by_cases c3' : c.1 = 3
        · rw [if_pos c3']
          by_cases hsh : sh = true
          · rw [if_pos hsh]
            have e1 := paX_3s (T := T) (bk := bk) (w := w) hX c3' hsh
            have hcc : c' = (c.1, c.2.1, c.2.2.1, c.2.2.2.1, c.2.2.2.2.1, cJs c ++ [Xn X + (if w = 1 then 1 else 0) + 2], lwd c.2.2.2.2.2.2 ((cJs c).length + 1)) ∧ K' = K := by
              rw [e1] at t1
              cases t1
              exact ⟨rfl, rfl⟩
            obtain ⟨hc', rfl⟩ := hcc
            have hjc : cJs c' = cJs c ++ [Xn X + (if w = 1 then 1 else 0) + 2] := by rw [hc']; rfl
            have hpn : Xn (paX T sh bk w X) = Xn X + (if w = 1 then 1 else 0) + 3 + (if w = 1 then 1 else 0) := by
              rw [e1]
              by_cases w1 : w = 1
              · simp only [if_pos w1]; rfl
              · simp only [if_neg w1]; rfl
            have hop : ∀ i, Xn X ≤ i → i < Xn X + (if w = 1 then 1 else 0) + 3 + (if w = 1 then 1 else 0) → i ≠ Xn X + (if w = 1 then 1 else 0) + 2 → C.1 i = Xo (paX T sh bk w X) i := by
              intro i h1 h2' h3
              have h2 : i < Xn (paX T sh bk w X) := by rw [hpn]; exact h2'
              have g := (hc.2.2.1 i h1 (Nat.lt_of_lt_of_le h2 hlvn)).2 (by
                show i ∉ cJs c'
                rw [hjc]
                intro hj
                rcases List.mem_append.mp hj with hj | hj
                · exact hnJ i h1 hj
                · exact h3 (List.mem_singleton.mp hj))
              have g2 := agI_no (fun c9 hc9 hj => by have := (wK.2.1 c9 hc9).2 _ hj; have : i < Xn X := this; omega) (agI_kx h2 hY.2.2.2.2 g)
              rw [g2]
              exact hY.2.2.1 i (Nat.zero_le _) h2
            have hjm := (hc.2.2.1 (Xn X + (if w = 1 then 1 else 0) + 2) (by omega) (by have hlvn := hlvn; show _ < Xn (lvX T sh bk w d (if c.1 = 0 then n - 1 else n) ((paX T sh bk w X).1, K')); omega)).1 (by
                show _ ∈ cJs c'
                rw [hjc]
                exact List.mem_append_right _ (List.mem_singleton.mpr rfl)) (Or.inr ⟨t2.trans c3', hsh⟩)
            have hY0 : Xo (lvX T sh bk w d (if c.1 = 0 then n - 1 else n) ((paX T sh bk w X).1, K')) (Xn X + (if w = 1 then 1 else 0) + 2) = Xo (paX T sh bk w X) (Xn X + (if w = 1 then 1 else 0) + 2) := hY.2.2.1 _ (Nat.zero_le _) (by show _ < Xn (paX T sh bk w X); omega)
            have hjm : (C.1 (Xn X + (if w = 1 then 1 else 0) + 2)).1 = (Xo (lvX T sh bk w d (if c.1 = 0 then n - 1 else n) ((paX T sh bk w X).1, K')) (Xn X + (if w = 1 then 1 else 0) + 2)).1 ∧ (C.1 (Xn X + (if w = 1 then 1 else 0) + 2)).2.2 = p.1 := hjm
            rw [hY0] at hjm
            have h99 := hc.2.2.2.2
            have h99 : Xn (lvX T sh bk w d (if c.1 = 0 then n - 1 else n) ((paX T sh bk w X).1, K')) < 100000 := h99
            rw [e1] at hop hjm
            by_cases w1 : w = 1
            · simp only [if_pos w1] at hop hjm hpn hgo ⊢
              have e : ∀ i, Xo (aX 14 0 (8 * c.2.1 + 2) (lnX (Xn X + 1 + 1) (Xn X + 1 + 3) (aX 5 0 0 (aX 19 (8 * c.2.1 + 3) 0 (aX 18 0 (8 * c.2.1 + 1) (aX 13 0 (8 * c.2.1 + 2) (X.1, K'))))))) i = if i = Xn X + 4 then (14, 0, 8 * c.2.1 + 2) else if i = Xn X + 1 + 1 then ((if i = Xn X + 3 then ((5, 0, 0) : Ci) else if i = Xn X + 2 then (19, 8 * c.2.1 + 3, 0) else if i = Xn X + 1 then (18, 0, 8 * c.2.1 + 1) else if i = Xn X then (13, 0, 8 * c.2.1 + 2) else Xo X i).1, (if i = Xn X + 3 then ((5, 0, 0) : Ci) else if i = Xn X + 2 then (19, 8 * c.2.1 + 3, 0) else if i = Xn X + 1 then (18, 0, 8 * c.2.1 + 1) else if i = Xn X then (13, 0, 8 * c.2.1 + 2) else Xo X i).2.1, Xn X + 1 + 3) else (if i = Xn X + 3 then ((5, 0, 0) : Ci) else if i = Xn X + 2 then (19, 8 * c.2.1 + 3, 0) else if i = Xn X + 1 then (18, 0, 8 * c.2.1 + 1) else if i = Xn X then (13, 0, 8 * c.2.1 + 2) else Xo X i) := fun i => rfl
              have o0 := hop (Xn X) (by omega) (by omega) (by omega)
              have o1 := hop (Xn X + 1) (by omega) (by omega) (by omega)
              have o2 := hop (Xn X + 1 + 1) (by omega) (by omega) (by omega)
              have o4 := hop (Xn X + 4) (by omega) (by omega) (by omega)
              have o0 : C.1 (Xn X) = _ := o0.trans (e _)
              have o1 : C.1 (Xn X + 1) = _ := o1.trans (e _)
              have o2 : C.1 (Xn X + 1 + 1) = _ := o2.trans (e _)
              have o4 : C.1 (Xn X + 4) = _ := o4.trans (e _)
              have o3 : (C.1 (Xn X + 1 + 2)).1 = _ ∧ _ := ⟨hjm.1.trans (congrArg Prod.fst (e _)), hjm.2⟩
              rw [if_neg (by omega), if_neg (by omega), if_neg (by omega), if_neg (by omega), if_neg (by omega), if_pos rfl] at o0
              rw [if_neg (by omega), if_neg (by omega), if_neg (by omega), if_neg (by omega), if_pos rfl] at o1
              rw [if_neg (by omega), if_pos rfl, if_neg (by omega), if_pos rfl] at o2
              rw [if_pos rfl] at o4
              rw [if_neg (by omega), if_neg (by omega), if_pos rfl] at o3
              exact ⟨Xn X + 1, by omega, ⟨o0, rfl⟩, o1, o2, o3.1, o3.2, Xn X + 1 + 4, ⟨o4, rfl⟩, by rw [hpn] at hgo; exact hgo⟩
            · simp only [if_neg w1] at hop hjm hpn hgo ⊢
              have e : ∀ i, Xo (lnX (Xn X + 0 + 1) (Xn X + 0 + 3) (aX 5 0 0 (aX 19 (8 * c.2.1 + 3) 0 (aX 18 0 (8 * c.2.1 + 1) (X.1, K'))))) i = if i = Xn X + 0 + 1 then ((if i = Xn X + 2 then ((5, 0, 0) : Ci) else if i = Xn X + 1 then (19, 8 * c.2.1 + 3, 0) else if i = Xn X then (18, 0, 8 * c.2.1 + 1) else Xo X i).1, (if i = Xn X + 2 then ((5, 0, 0) : Ci) else if i = Xn X + 1 then (19, 8 * c.2.1 + 3, 0) else if i = Xn X then (18, 0, 8 * c.2.1 + 1) else Xo X i).2.1, Xn X + 0 + 3) else (if i = Xn X + 2 then ((5, 0, 0) : Ci) else if i = Xn X + 1 then (19, 8 * c.2.1 + 3, 0) else if i = Xn X then (18, 0, 8 * c.2.1 + 1) else Xo X i) := fun i => rfl
              have o1 := hop (Xn X) (by omega) (by omega) (by omega)
              have o2 := hop (Xn X + 0 + 1) (by omega) (by omega) (by omega)
              have o1 : C.1 (Xn X) = _ := o1.trans (e _)
              have o2 : C.1 (Xn X + 0 + 1) = _ := o2.trans (e _)
              have o3 : (C.1 (Xn X + 0 + 2)).1 = _ ∧ _ := ⟨hjm.1.trans (congrArg Prod.fst (e _)), hjm.2⟩
              rw [if_neg (by omega), if_neg (by omega), if_neg (by omega), if_pos rfl] at o1
              rw [if_pos rfl, if_neg (by omega), if_pos rfl] at o2
              rw [if_neg (by omega), if_pos rfl] at o3
              exact ⟨Xn X, by omega, rfl, o1, o2, o3.1, o3.2, Xn X + 3, rfl, by rw [hpn] at hgo; exact hgo⟩
          · rw [if_neg hsh]
            have hsf : sh = false := (Bool.not_eq_true _).mp hsh
            have e1 := paX_3c (T := T) (bk := bk) (w := w) hX c3' hsf
            obtain ⟨mw, tg, lp, dp, lo', hi', f1, f2, f3, f4, f5⟩ := hK.2.1 c3'
            by_cases w1 : w = 1
            · simp only [if_pos w1] at e1 ⊢
              have wz1 : wX (aX 13 0 (8 * c.2.1 + 2) (X.1, K)) := wK.a
              obtain ⟨z1, z2⟩ := hb (finB T c.2.1) _ (wz1.a (o := 12) (a := c.2.1) (b := 0))
              have nz : Xn X + 2 ≤ Xn (bk (finB T c.2.1) (aX 12 c.2.1 0 (aX 13 0 (8 * c.2.1 + 2) (X.1, K)))) := z2.1
              have hcc : c' = c ∧ K' = (bk (finB T c.2.1) (aX 12 c.2.1 0 (aX 13 0 (8 * c.2.1 + 2) (X.1, K)))).2 := by
                rw [e1] at t1
                cases t1
                exact ⟨rfl, rfl⟩
              obtain ⟨rfl, rfl⟩ := hcc
              have cY := hcY (Xn X) hnJ (Nat.le_refl _)
              have hYe := hY.2
              rw [e1] at cY hYe hgo
              have hEx3 : Ex 0 (aX 14 0 (8 * c'.2.1 + 2) (bk (finB T c'.2.1) (aX 12 c'.2.1 0 (aX 13 0 (8 * c'.2.1 + 2) (X.1, K))))) _ := hYe
              obtain ⟨l3, cb3⟩ := cY.back hEx3 (Nat.zero_le _)
              obtain ⟨q3, -⟩ := cb3.at z1 (by omega)
              obtain ⟨l2, cb2⟩ := cb3.back (Ex.refl.a (a := 0)) (Nat.zero_le _)
              obtain ⟨l1, cb1⟩ := cb2.back z2 (Nat.zero_le _)
              obtain ⟨q1, -⟩ := cb1.at wz1 (by show Xn X ≤ Xn X + 1; omega)
              obtain ⟨l0, cb0⟩ := cb1.back (Ex.refl.a (a := 0)) (Nat.zero_le _)
              obtain ⟨q0, -⟩ := cnd.at (X := (X.1, K)) cb0 wK (Nat.le_refl _)
              have hfb := hk (finB T c'.2.1) (aX 12 c'.2.1 0 (aX 13 0 (8 * c'.2.1 + 2) (X.1, K))) mw tg lp dp lo' hi' C ps l2 wz1.a f1 (by omega) f3 f5 f4 (lTL_le ht (by have h1 := hYe.1; have h2 : Xn (bk (finB T c'.2.1) (aX 12 c'.2.1 0 (aX 13 0 (8 * c'.2.1 + 2) (X.1, K)))) ≤ Xn (aX 14 0 (8 * c'.2.1 + 2) (bk (finB T c'.2.1) (aX 12 c'.2.1 0 (aX 13 0 (8 * c'.2.1 + 2) (X.1, K))))) := Nat.le_succ _; rw [e1]; exact Nat.le_trans h2 h1)) (cb2.sub (by show Xn X ≤ Xn X + 1 + 1; omega))
              exact ⟨Xn X + 1, Xn (bk (finB T c'.2.1) (aX 12 c'.2.1 0 (aX 13 0 (8 * c'.2.1 + 2) (X.1, K)))), _, ⟨q0, rfl⟩, q1, hfb, ⟨q3, rfl⟩, hgo⟩
            · simp only [if_neg w1] at e1 ⊢
              obtain ⟨z1, z2⟩ := hb (finB T c.2.1) _ (wK.a (o := 12) (a := c.2.1) (b := 0))
              have nz : Xn X + 1 ≤ Xn (bk (finB T c.2.1) (aX 12 c.2.1 0 (X.1, K))) := z2.1
              have hcc : c' = c ∧ K' = (bk (finB T c.2.1) (aX 12 c.2.1 0 (X.1, K))).2 := by
                rw [e1] at t1
                cases t1
                exact ⟨rfl, rfl⟩
              obtain ⟨rfl, rfl⟩ := hcc
              have cY := hcY (Xn X) hnJ (Nat.le_refl _)
              have hYe := hY.2
              rw [e1] at cY hYe hgo
              have hEx3 : Ex 0 (bk (finB T c'.2.1) (aX 12 c'.2.1 0 (X.1, K))) _ := hYe
              obtain ⟨l2, cb2⟩ := cY.back hEx3 (Nat.zero_le _)
              obtain ⟨l1, cb1⟩ := cb2.back z2 (Nat.zero_le _)
              obtain ⟨q1, -⟩ := cnd.at (X := (X.1, K)) cb1 wK (Nat.le_refl _)
              have hfb := hk (finB T c'.2.1) (aX 12 c'.2.1 0 (X.1, K)) mw tg lp dp lo' hi' C ps l2 wK.a f1 (by omega) f3 f5 f4 (lTL_le ht (by rw [e1]; exact hYe.1)) (cb2.sub (by show Xn X ≤ Xn X + 1; omega))
              exact ⟨Xn X, Xn (bk (finB T c'.2.1) (aX 12 c'.2.1 0 (X.1, K))), _, rfl, q1, hfb, rfl, hgo⟩
        rw [if_neg c3']
        by_cases c4' : c.1 = 4
        · rw [if_pos c4']
          have e1 : paX T sh bk w X = aX 16 0 0 X := by
            unfold paX
            dsimp only
            rw [hto, if_neg (by omega), if_pos c4']
          rw [e1] at hgo hcY hY t1 hcJ
          have hcc : c' = c ∧ K' = K := by
            have : (aX 16 0 0 X).2 = c :: K := hX
            rw [this] at t1
            cases t1
            exact ⟨rfl, rfl⟩
          obtain ⟨rfl, rfl⟩ := hcc
          obtain ⟨l1, cb⟩ := (hcY (Xn X) hnJ (Nat.le_refl _)).back hY.2 (Nat.zero_le _)
          obtain ⟨b1, b2⟩ := cnd.at (X := (X.1, K')) cb wK (Nat.le_refl _)
          exact ⟨by have b1 : C.1 (Xn X) = _ := b1; rw [b1], hgo⟩
        rw [if_neg c4']
        have c5 : c.1 = 5 := by have := hK.1; omega
        have e1 : paX T sh bk w X = aX 17 0 (8 * c.2.1 + 1) X := by
          unfold paX
          dsimp only
          rw [hto, if_neg (by omega), if_neg (by omega), if_pos c5]
        rw [e1] at hgo hcY hY t1 hcJ
        have hcc : c' = c ∧ K' = K := by
          have : (aX 17 0 (8 * c.2.1 + 1) X).2 = c :: K := hX
          rw [this] at t1
          cases t1
          exact ⟨rfl, rfl⟩
        obtain ⟨rfl, rfl⟩ := hcc
        obtain ⟨l1, cb⟩ := (hcY (Xn X) hnJ (Nat.le_refl _)).back hY.2 (Nat.zero_le _)
        obtain ⟨b1, b2⟩ := cnd.at (X := (X.1, K')) cb wK (Nat.le_refl _)
        exact ⟨b1, hgo⟩
end LV
