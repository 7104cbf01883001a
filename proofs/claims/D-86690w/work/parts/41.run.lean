set_option maxRecDepth 100000
/-! the book of a run: counters, rows -/
abbrev Bk : Type := (Nat → Nat) × (Nat → Nat → Int32)
def vld (B : Bk) (o i : Nat) : Prop := (o = 2 ∧ i < B.1 3) ∨ (3 ≤ o ∧ o ≤ 8 ∧ i < B.1 4) ∨ (o = 9 ∧ i / 12 < B.1 4 ∧ i % 12 < B.1 (100 + i / 12)) ∨ (o = 10 ∧ i < B.1 6) ∨ (o = 11 ∧ i < 80) ∨ (o = 12 ∧ i < 560) ∨ (o = 13 ∧ i < 2 * B.1 13) ∨ (o = 14 ∧ i < B.1 12) ∨ (o = 15 ∧ i < 8 * B.1 12) ∨ (19 ≤ o ∧ o < 18 + 4 * B.1 10 ∧ (o % 4 = 3 ∧ i < 6 ∨ o % 4 = 0 ∧ i < 3))
/-- the counters' fields -/
def RC (G : XG) (r : Nat) (B : Bk) : Prop := Gfi G 21 r = nI (B.1 3) ∧ Gfi G 22 r = nI (B.1 4) ∧ Gfi G 23 r = nI (B.1 5) ∧ Gfi G 24 r = nI (B.1 6) ∧ Gfi G 25 r = nI (B.1 7) ∧ Gfi G 18 r = nI (B.1 8) ∧ Gfi G 19 r = nI (B.1 9) ∧ Gfi G 17 r = nI (B.1 10) ∧ Gfi G 20 r = nI (B.1 11) ∧ Gfi G 27 r = nI (B.1 12) ∧ Gfi G 26 r = nI (B.1 13)
/-- frames: at, method -/
def RM (G : XG) (r : Nat) (mA : Nat → Nat) (B : Bk) : Prop := ∀ k, k < B.1 10 → Gfi G 35 (r + 18 + 4 * k) = B.2 (18 + 4 * k) 0 ∧ Gfr G 1056 (r + 18 + 4 * k) = some (mA (B.1 (600 + k)))
def RA (G : XG) (r : Nat) (B : Bk) : Prop := ∀ o i, vld B o i → Gai G (r + o) i = B.2 o i
def RB (G : XG) (r : Nat) (mA : Nat → Nat) (B : Bk) : Prop := RL G r ∧ RC G r B ∧ RA G r B ∧ RM G r mA B
/-- the methods of the frames -/
def MR (G : XG) (mA : Nat → Nat) (B : Bk) : Prop := ∀ k, k < B.1 10 → Gkd G (mA (B.1 (600 + k))) = 12 ∧ Gfi G 76 (mA (B.1 (600 + k))) = nI (B.1 (600 + k))
/-- nothing but ints within P is changed -/
def YI (P : Nat → Prop) (G G' : XG) : Prop := Gfr G' = Gfr G ∧ Gal G' = Gal G ∧ Gar G' = Gar G ∧ Gkd G' = Gkd G ∧ Gln G' = Gln G ∧ Gsv G' = Gsv G ∧ Gtp G' = Gtp G ∧ Gus G' = Gus G ∧ (∀ g a, ¬ P a → Gfi G' g a = Gfi G g a) ∧ (∀ a i, ¬ P a → Gai G' a i = Gai G a i)
theorem YI.refl {P : Nat → Prop} {G : XG} : YI P G G := ⟨rfl, rfl, rfl, rfl, rfl, rfl, rfl, rfl, fun _ _ _ => rfl, fun _ _ _ => rfl⟩
theorem YI.trans {P : Nat → Prop} {G G' G'' : XG} (h : YI P G G') (k : YI P G' G'') : YI P G G'' := by
  obtain ⟨a1, a2, a3, a4, a5, a6, a7, a8, a9, a10⟩ := h
  obtain ⟨b1, b2, b3, b4, b5, b6, b7, b8, b9, b10⟩ := k
  exact ⟨b1.trans a1, b2.trans a2, b3.trans a3, b4.trans a4, b5.trans a5, b6.trans a6, b7.trans a7, b8.trans a8, fun g a q => (b9 g a q).trans (a9 g a q), fun a i q => (b10 a i q).trans (a10 a i q)⟩
theorem YI.fi {P : Nat → Prop} {G : XG} {g a : Nat} {v : Int32} (h : P a) : YI P G (Sfi G g a v) := ⟨rfl, rfl, rfl, rfl, rfl, rfl, rfl, rfl, fun g' a' q => by
  show (if g' = g ∧ a' = a then v else Gfi G g' a') = _
  rw [if_neg (fun e => q (by rw [e.2]; exact h))], fun _ _ _ => rfl⟩
theorem YI.ai {P : Nat → Prop} {G : XG} {a i : Nat} {v : Int32} (h : P a) : YI P G (Sai G a i v) := ⟨rfl, rfl, rfl, rfl, rfl, rfl, rfl, rfl, fun _ _ _ => rfl, fun a' i' q => by
  show (if a' = a ∧ i' = i then v else Gai G a' i') = _
  rw [if_neg (fun e => q (by rw [e.1]; exact h))]⟩
theorem YI.rai {P : Nat → Prop} {G : XG} {a : Nat} {f : Nat → Int32} (h : P a) : YI P G (Rai G a f) := ⟨rfl, rfl, rfl, rfl, rfl, rfl, rfl, rfl, fun _ _ _ => rfl, fun a' i' q => by
  show (if a' = a then f i' else Gai G a' i') = _
  rw [if_neg (fun e => q (by rw [e]; exact h))]⟩
theorem RL.same {G G' : XG} {r : Nat} (h : RL G r) (h1 : Gfr G' = Gfr G) (h2 : Gar G' = Gar G) (h3 : Gkd G' = Gkd G) (h4 : Gln G' = Gln G) : RL G' r := by
  unfold RL RL0 RL1 at *
  rw [h1, h2, h3, h4]
  exact h
theorem RL.xi {P : Nat → Prop} {G G' : XG} {r : Nat} (h : RL G r) (k : YI P G G') : RL G' r := h.same k.1 k.2.2.1 k.2.2.2.1 k.2.2.2.2.1
theorem Rai_id (G : XG) (a : Nat) : Rai G a (Gai G a) = G := by
  unfold Rai xrw
  have : (fun x y => if x = a then Gai G a y else Gai G x y) = Gai G := by
    funext x y
    split
    · next h => rw [h]
    · rfl
  rw [this]
  rfl
theorem Sai_Rai {G : XG} {a i : Nat} {f : Nat → Int32} {v : Int32} : Sai (Rai G a f) a i v = Rai G a (fun j => if j = i then v else f j) := by
  unfold Sai Rai xrw xu2
  refine Prod.ext rfl (Prod.ext rfl (Prod.ext ?_ rfl))
  funext x y
  show (if x = a ∧ y = i then v else if x = a then f y else Gai G x y) = if x = a then (if y = i then v else f y) else Gai G x y
  by_cases h : x = a <;> by_cases h2 : y = i <;> simp [h, h2]
/-- the run's region -/
def rgn (r : Nat) (a : Nat) : Prop := r ≤ a ∧ a < r + 66
theorem s_step {d r : Nat} {G : XG} {Q : (Option Value ⊕ Nat) → XG → Prop} (h : RL G r) : XC xms (d + 1) 85 [.ref r] G Q = if Gfi G 19 r = Gfi G 20 r then Q (.inr (r + 17)) G else Q (.inl none) (Sfi G 19 r (Gfi G 19 r + 1)) := by
  obtain ⟨h0, -⟩ := h
  unfold RL0 at h0
  simp (disch := first | omega | exact cI _ | exact cR _ | exact cK | exact cU | exact cO _ | exact cL _) only [uS, Nat.reduceAdd, Nat.reduceSub, Nat.reduceMul, Nat.reduceLeDiff, Nat.reduceEqDiff, Nat.add_sub_cancel, xS, gS, nL, nS, dS, FX5_step, mX5_step, zX5_step, h0, ite_not]
theorem s_top {d r n : Nat} {G : XG} {Q : (Option Value ⊕ Nat) → XG → Prop} (h : RL G r) (hn : Gfi G 17 r = nI (n + 1)) (hb : n < 12) : XC xms (d + 1) 84 [.ref r] G Q = Q (.inl (some (.ref (r + 18 + 4 * n)))) G := by
  obtain ⟨h0, h1⟩ := h
  unfold RL0 at h0
  simp (disch := first | omega | exact cI _ | exact cR _ | exact cK | exact cU | exact cO _ | exact cL _) only [uS, Nat.reduceAdd, Nat.reduceSub, Nat.reduceMul, Nat.reduceLeDiff, Nat.reduceEqDiff, Nat.add_sub_cancel, xS, gS, nL, nS, dS, FX5_top, mX5_top, zX5_top, h0, hn, h1 n hb, hb]
/-! the plan -/
def PL (G : XG) (a : Nat) (n : Nat) (pp pt pk : Nat → Int32) : Prop := Gkd G a = 5 ∧ Gfi G 16 a = nI n ∧ n ≤ 30 ∧ Gfr G 1026 a = some (a + 1) ∧ Gfr G 1027 a = some (a + 2) ∧ Gfr G 1028 a = some (a + 3) ∧ (Gkd G (a + 1) = 100 ∧ Gkd G (a + 2) = 100 ∧ Gkd G (a + 3) = 100) ∧ (Gln G (a + 1) = 30 ∧ Gln G (a + 2) = 30 ∧ Gln G (a + 3) = 30) ∧ ∀ i, i < n → Gai G (a + 1) i = pp i ∧ Gai G (a + 2) i = pt i ∧ Gai G (a + 3) i = pk i
/-- the kind of the first entry that fits, from i on -/
def kAt (pp pt pk : Nat → Int32) (k t : Int32) : Nat → Nat → Int32
  | 0, _ => NN
  | n + 1, i => if pp i = k ∧ pt i = t then pk i else kAt pp pt pk k t n (i + 1)
theorem s_kindAt {d a n : Nat} {pp pt pk : Nat → Int32} {k t : Int32} {G : XG} {Q : (Option Value ⊕ Nat) → XG → Prop} (h : PL G a n pp pt pk) : XC xms (d + 1) 78 [.ref a, .int k, .int t] G Q = Q (.inl (some (.int (kAt pp pt pk k t n 0)))) G := by
  obtain ⟨h1, h2, h3, h4, h5, h6, ⟨h7, h8, h9⟩, ⟨g1, g2, g3⟩, h10⟩ := h
  have lp : ∀ m i, m + i = n → XL xms d 78 2 [.ref a, .int k, .int t, .int (nI i)] [] G Q = Q (.inl (some (.int (kAt pp pt pk k t m i)))) G := by
    intro m
    induction m with
    | zero =>
      intro i hi
      have e : i = n := by omega
      subst e
      rw [fX4_kindAt_2]
      simp (disch := first | omega | exact cI _ | exact cR _ | exact cK | exact cU | exact cO _ | exact cL _) only [uS, Nat.reduceAdd, Nat.reduceSub, Nat.reduceMul, Nat.reduceLeDiff, Nat.reduceEqDiff, Nat.add_sub_cancel, xS, gS, nL, nS, dS, FX4_kindAt, mX4_kindAt, zX4_kindAt, h1, h2, h4, h5, h6, kAt]
    | succ m ih =>
      intro i hi
      have e : i < n := by omega
      obtain ⟨e1, e2, e3⟩ := h10 i e
      rw [fX4_kindAt_2]
      have ih' := ih (i + 1) (by omega)
      simp (disch := first | omega | exact cI _ | exact cR _ | exact cK | exact cU | exact cO _ | exact cL _) only [uS, Nat.reduceAdd, Nat.reduceSub, Nat.reduceMul, Nat.reduceLeDiff, Nat.reduceEqDiff, Nat.add_sub_cancel, xS, gS, nL, nS, dS, FX4_kindAt, mX4_kindAt, zX4_kindAt, h1, h2, h4, h5, h6, h7, h8, h9, g1, g2, g3, e1, e2, e3, kAt, ih']
      by_cases c1 : pp i = k <;> by_cases c2 : pt i = t <;> simp [c1, c2]
  simp (disch := first | omega | exact cI _ | exact cR _ | exact cK | exact cU | exact cO _ | exact cL _) only [uS, Nat.reduceAdd, Nat.reduceSub, Nat.reduceMul, Nat.reduceLeDiff, Nat.reduceEqDiff, Nat.add_sub_cancel, xS, gS, nL, nS, dS, FX4_kindAt, mX4_kindAt, zX4_kindAt, lp n 0 (Nat.add_zero n)]
/-! a new failure -/
def bMakes (kind cause : Int32) (B : Bk) : Bk := (fun x => if x = 4 then B.1 4 + 1 else if x = 100 + B.1 4 then B.1 10 else B.1 x, fun o i => if i = B.1 4 ∧ 3 ≤ o ∧ o ≤ 8 then (if o = 3 then kind else if o = 4 then cause else if o = 7 then B.2 (14 + 4 * B.1 10) 0 else if o = 8 then nI (B.1 10) else NN) else if o = 9 ∧ i / 12 = B.1 4 ∧ i % 12 < B.1 10 then nI (1000 * B.1 (600 + (B.1 10 - 1 - i % 12))) + B.2 (18 + 4 * (B.1 10 - 1 - i % 12)) 0 else B.2 o i)
theorem l_makes {d r f D : Nat} {kind cause : Int32} {G : XG} {Q : (Option Value ⊕ Nat) → XG → Prop} {at1 : Nat → Int32} {mm j1 : Nat → Nat} (h : RL G r) (h17 : Gfi G 17 r = nI D) (hD : D ≤ 12) (hf : f ≤ 400) (hfr : ∀ k, k < D → Gfi G 35 (r + 18 + 4 * k) = at1 k ∧ Gfr G 1056 (r + 18 + 4 * k) = some (mm k) ∧ Gkd G (mm k) = 12 ∧ Gfi G 76 (mm k) = nI (j1 k)) :
    ∀ m k w, m + k = D → XL xms d 83 71 [.ref r, .int kind, .int cause, .int (nI f), .int (nI k), w] [] (Rai G (r + 9) (fun i => if 12 * f ≤ i ∧ i < 12 * f + k then nI (1000 * j1 (D - 1 - (i - 12 * f))) + at1 (D - 1 - (i - 12 * f)) else Gai G (r + 9) i)) Q = Q (.inl (some (.int (nI f)))) (Rai G (r + 9) (fun i => if 12 * f ≤ i ∧ i < 12 * f + D then nI (1000 * j1 (D - 1 - (i - 12 * f))) + at1 (D - 1 - (i - 12 * f)) else Gai G (r + 9) i)) := by
  obtain ⟨h0, h1⟩ := h
  unfold RL0 at h0
  intro m
  induction m with
  | zero =>
    intro k w hk
    have e : k = D := by omega
    subst e
    rw [fX5_makes_71]
    simp (disch := first | omega | exact cI _ | exact cR _ | exact cK | exact cU | exact cO _ | exact cL _) only [uS, Nat.reduceAdd, Nat.reduceSub, Nat.reduceMul, Nat.reduceLeDiff, Nat.reduceEqDiff, Nat.add_sub_cancel, xS, gS, nL, nS, dS, FX5_makes, mX5_makes, zX5_makes, h0, h17]
  | succ m ih =>
    intro k w hk
    obtain ⟨e1, e2, e3, e4⟩ := hfr (D - 1 - k) (by omega)
    obtain ⟨g1, g2, -⟩ := h1 (D - 1 - k) (by omega)
    rw [fX5_makes_71]
    simp (disch := first | omega | exact cI _ | exact cR _ | exact cK | exact cU | exact cO _ | exact cL _) only [uS, Nat.reduceAdd, Nat.reduceSub, Nat.reduceMul, Nat.reduceLeDiff, Nat.reduceEqDiff, Nat.add_sub_cancel, xS, gS, nL, nS, dS, FX5_makes, mX5_makes, zX5_makes, h0, h17, e1, e2, e3, e4, g1, g2, Sai_Rai]
    rw [← ih (k + 1) (.ref (r + 18 + 4 * (D - 1 - k))) (by omega)]
    congr 2
    funext i
    by_cases c : i = f * 12 + k
    · subst c
      rw [if_pos rfl, if_pos (by omega)]
      have e0 : f * 12 + k - 12 * f = k := by omega
      rw [e0]
    · rw [if_neg c]
      by_cases c2 : 12 * f ≤ i ∧ i < 12 * f + k
      · rw [if_pos c2, if_pos (by omega)]
      · rw [if_neg c2, if_neg (by omega)]
