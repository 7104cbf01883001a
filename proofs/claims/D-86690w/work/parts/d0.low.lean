set_option maxRecDepth 100000
/-! THE LOWERING over the heap. What was there stays but methods' beginnings (field 77) -/
def F77 (hi : Nat) (G G' : XG) : Prop := Gsv G' = Gsv G ∧ Gtp G ≤ Gtp G' ∧ ∀ a, a < hi → Gkd G' a = Gkd G a ∧ Gln G' a = Gln G a ∧ (∀ f, f ≠ 77 → Gfi G' f a = Gfi G f a) ∧ (∀ f, Gfr G' f a = Gfr G f a) ∧ ∀ i, Gai G' a i = Gai G a i ∧ Gar G' a i = Gar G a i ∧ Gal G' a i = Gal G a i
/-- where it lies: instructions, rows, scopes (object, gaps, jumps) -/
abbrev LZ : Type := Nat × Nat × List (Nat × Nat × Nat)
def zfl : List (Nat × Nat × Nat) → List Nat
  | [] => []
  | x :: r => x.1 :: x.2.1 :: x.2.2 :: zfl r
def fpl (L : Nat) (Z : LZ) : List Nat := L :: Z.1 :: Z.2.1 :: zfl Z.2.2
def ND (L : Nat) (Z : LZ) : Prop := L ≠ Z.1 ∧ L ≠ Z.2.1 ∧ Z.1 ≠ Z.2.1 ∧ (∀ y, y ∈ zfl Z.2.2 → y ≠ L ∧ y ≠ Z.1 ∧ y ≠ Z.2.1) ∧ (zfl Z.2.2).Nodup
/-- slots made -/
def sl (X : LX) : Nat := X.1.2.2.2.2.2.2
def ce (X : LX) : Nat := X.1.2.2.2.2.2.1
def Xc (X : LX) : Nat := X.1.2.2.2.1
def Xt (X : LX) : Nat := X.1.2.2.2.2.1
def LO (G : XG) (oa : Nat) (X : LX) : Prop := Gkd G oa = 100 ∧ Gln G oa = Xc X ∧ 3 * Xn X ≤ Xc X ∧ Xc X ≤ 10000000 ∧ ∀ i, i < Xn X → Gai G oa (3 * i) = nI (Xo X i).1 ∧ Gai G oa (3 * i + 1) = nI (Xo X i).2.1 ∧ Gai G oa (3 * i + 2) = nI (Xo X i).2.2
def LT (G : XG) (ta : Nat) (X : LX) : Prop := Gkd G ta = 100 ∧ Gln G ta = Xt X ∧ 5 * (Xr X).length ≤ Xt X ∧ Xt X ≤ 10000000 ∧ ∀ (i : Nat) (w : Crw), (Xr X)[i]? = some w → Gai G ta (5 * i) = nI w.1 ∧ Gai G ta (5 * i + 1) = nI w.2.1 ∧ Gai G ta (5 * i + 2) = nI w.2.2.1 ∧ Gai G ta (5 * i + 3) = w.2.2.2.1 ∧ Gai G ta (5 * i + 4) = nI w.2.2.2.2
def LD (G : XG) (L : Nat) (sh : Bool) (X : LX) (Z : LZ) : Prop := Gkd G L = 34 ∧ Gfi G 102 L = (if sh = true then nI 1 else nI 0) ∧ Gfi G 100 L = nI (Xn X) ∧ Gfi G 101 L = nI (Xr X).length ∧ Gfr G 1143 L = some Z.1 ∧ Gfr G 1144 L = some Z.2.1
def SC1 (G : XG) (A : Nat → Nat) (c : Lc) (x : Nat × Nat × Nat) (o : Option Nat) : Prop := Gkd G x.1 = 33 ∧ Gfi G 96 x.1 = nI c.1 ∧ Gfr G 1139 x.1 = some (A c.2.1) ∧ Gfi G 99 x.1 = nI c.2.2.1 ∧ (Gfr G 1141 x.1 = some x.2.1 ∧ Gkd G x.2.1 = 100 ∧ Gln G x.2.1 = c.2.2.2.2.1 ∧ Gfi G 97 x.1 = nI (2 * (cGs c).length) ∧ 2 * (cGs c).length ≤ c.2.2.2.2.1 ∧ c.2.2.2.2.1 ≤ 10000000 ∧ ∀ (i : Nat) (g : Nat × Nat), (cGs c)[i]? = some g → Gai G x.2.1 (2 * i) = nI g.1 ∧ Gai G x.2.1 (2 * i + 1) = nI g.2) ∧ (Gfr G 1142 x.1 = some x.2.2 ∧ Gkd G x.2.2 = 100 ∧ Gln G x.2.2 = c.2.2.2.2.2.2 ∧ Gfi G 98 x.1 = nI (cJs c).length ∧ (cJs c).length ≤ c.2.2.2.2.2.2 ∧ c.2.2.2.2.2.2 ≤ 10000000 ∧ ∀ (i : Nat) (j : Nat), (cJs c)[i]? = some j → Gai G x.2.2 i = nI j) ∧ Gfr G 1140 x.1 = o ∧ c.1 ≤ 5
def SCs (G : XG) (A : Nat → Nat) : List Lc → List (Nat × Nat × Nat) → Option Nat → Prop
  | [], [], o => o = none
  | c :: K, x :: xs, o => o = some x.1 ∧ ∃ o', SC1 G A c x o' ∧ SCs G A K xs o'
  | _, _, _ => False
/-- the state of a lowering -/
def LH (G0 : XG) (hi L t0 u0 : Nat) (sh : Bool) (A : Nat → Nat) (o : Option Nat) (X : LX) (Z : LZ) (G : XG) : Prop := F77 hi G0 G ∧ ND L Z ∧ (∀ a, a ∈ fpl L Z → hi ≤ a ∧ a < Gtp G) ∧ Gtp G ≤ t0 + ce X ∧ Gus G ≤ u0 + sl X ∧ LD G L sh X Z ∧ LO G Z.1 X ∧ LT G Z.2.1 X ∧ SCs G A X.2 Z.2.2 o
/-- what a step keeps -/
def LG (L : Nat) (Z Z' : LZ) (G G' : XG) : Prop := (∃ c u, KQ (fun a => a ∈ fpl L Z) c u G G') ∧ (∀ a, a ∈ fpl L Z' → a ∈ fpl L Z ∨ (Gtp G ≤ a ∧ a < Gtp G')) ∧ Z'.2.2.map (·.1) = Z.2.2.map (·.1) ∧ Gfr G' 1145 L = Gfr G 1145 L
section LOW
variable {D d hi L t0 u0 : Nat} {sh : Bool} {A : Nat → Nat} {X X' : LX} {Z Z' Z2 : LZ} {G0 G G' G2 : XG} {Q : (Option Value ⊕ Nat) → XG → Prop}
theorem F77.kq {P : Nat → Prop} {c u : Nat} (h : F77 hi G0 G) (k : KQ P c u G G') (hp : ∀ a, a < hi → ¬ P a) (ht : hi ≤ Gtp G) : F77 hi G0 G' := by
  obtain ⟨h1, h2, h3⟩ := h
  obtain ⟨k1, k2, k3, k4, k5, k6⟩ := k
  refine ⟨k1.trans h1, Nat.le_trans h2 k2, fun a ha => ?_⟩
  obtain ⟨e1, e2, e3, e4, e5⟩ := h3 a ha
  obtain ⟨f1, f2⟩ := k5 a (by omega)
  obtain ⟨f3, f4⟩ := k6 a (by omega) (hp a ha)
  exact ⟨f1.trans e1, f2.trans e2, fun f hf => (f3 f).1.trans (e3 f hf), fun f => (f3 f).2.trans (e4 f), fun i => ⟨(f4 i).1.trans (e5 i).1, (f4 i).2.1.trans (e5 i).2.1, (f4 i).2.2.trans (e5 i).2.2⟩⟩
theorem LO.kq {P : Nat → Prop} {c u oa : Nat} (h : LO G oa X) (k : KQ P c u G G') (hp : ¬ P oa) (ht : oa < Gtp G) : LO G' oa X := by
  obtain ⟨h1, h2, h3, h4, h5⟩ := h
  obtain ⟨k1, k2, k3, k4, k5, k6⟩ := k
  obtain ⟨f1, f2⟩ := k5 oa ht
  obtain ⟨f3, f4⟩ := k6 oa ht hp
  exact ⟨f1.trans h1, f2.trans h2, h3, h4, fun i hi => ⟨(f4 _).1.trans (h5 i hi).1, (f4 _).1.trans (h5 i hi).2.1, (f4 _).1.trans (h5 i hi).2.2⟩⟩
theorem LT.kq {P : Nat → Prop} {c u ta : Nat} (h : LT G ta X) (k : KQ P c u G G') (hp : ¬ P ta) (ht : ta < Gtp G) : LT G' ta X := by
  obtain ⟨h1, h2, h3, h4, h5⟩ := h
  obtain ⟨k1, k2, k3, k4, k5, k6⟩ := k
  obtain ⟨f1, f2⟩ := k5 ta ht
  obtain ⟨f3, f4⟩ := k6 ta ht hp
  exact ⟨f1.trans h1, f2.trans h2, h3, h4, fun i w hw => by
    obtain ⟨a1, a2, a3, a4, a5⟩ := h5 i w hw
    exact ⟨(f4 _).1.trans a1, (f4 _).1.trans a2, (f4 _).1.trans a3, (f4 _).1.trans a4, (f4 _).1.trans a5⟩⟩
theorem SC1.kq {P : Nat → Prop} {c u : Nat} {s : Lc} {x : Nat × Nat × Nat} {o : Option Nat} (h : SC1 G A s x o) (k : KQ P c u G G') (hp : ∀ a, a = x.1 ∨ a = x.2.1 ∨ a = x.2.2 → ¬ P a ∧ a < Gtp G) : SC1 G' A s x o := by
  obtain ⟨h1, h2, h3, h4, ⟨g1, g2, g3, g4, g5, g6, g7⟩, ⟨j1, j2, j3, j4, j5, j6, j7⟩, h5, h6⟩ := h
  obtain ⟨k1, k2, k3, k4, k5, k6⟩ := k
  obtain ⟨p1, t1⟩ := hp x.1 (.inl rfl)
  obtain ⟨p2, t2⟩ := hp x.2.1 (.inr (.inl rfl))
  obtain ⟨p3, t3⟩ := hp x.2.2 (.inr (.inr rfl))
  obtain ⟨e1, e2⟩ := k6 x.1 t1 p1
  obtain ⟨-, f2⟩ := k6 x.2.1 t2 p2
  obtain ⟨-, f3⟩ := k6 x.2.2 t3 p3
  exact ⟨(k5 _ t1).1.trans h1, (e1 _).1.trans h2, (e1 _).2.trans h3, (e1 _).1.trans h4, ⟨(e1 _).2.trans g1, (k5 _ t2).1.trans g2, (k5 _ t2).2.trans g3, (e1 _).1.trans g4, g5, g6, fun i g hg => ⟨(f2 _).1.trans (g7 i g hg).1, (f2 _).1.trans (g7 i g hg).2⟩⟩, ⟨(e1 _).2.trans j1, (k5 _ t3).1.trans j2, (k5 _ t3).2.trans j3, (e1 _).1.trans j4, j5, j6, fun i g hg => (f3 _).1.trans (j7 i g hg)⟩, (e1 _).2.trans h5, h6⟩
theorem SCs.kq {P : Nat → Prop} {c u : Nat} (k : KQ P c u G G') : ∀ (K : List Lc) (xs : List (Nat × Nat × Nat)) (o : Option Nat), (∀ a, a ∈ zfl xs → ¬ P a ∧ a < Gtp G) → SCs G A K xs o → SCs G' A K xs o := by
  intro K
  induction K with
  | nil =>
    intro xs o hp h
    cases xs with
    | nil => exact h
    | cons x xs => exact h.elim
  | cons s K ih =>
    intro xs o hp h
    cases xs with
    | nil => exact h.elim
    | cons x xs =>
      obtain ⟨h1, o', h2, h3⟩ := h
      refine ⟨h1, o', h2.kq k (fun a ha => hp a ?_), ih xs o' (fun a ha => hp a ?_) h3⟩
      · show a ∈ x.1 :: x.2.1 :: x.2.2 :: zfl xs
        rcases ha with rfl | rfl | rfl
        · exact List.mem_cons_self ..
        · exact List.mem_cons_of_mem _ (List.mem_cons_self ..)
        · exact List.mem_cons_of_mem _ (List.mem_cons_of_mem _ (List.mem_cons_self ..))
      · exact List.mem_cons_of_mem _ (List.mem_cons_of_mem _ (List.mem_cons_of_mem _ ha))
theorem LG.refl : LG L Z Z G G := ⟨⟨0, 0, KQ.refl⟩, fun _ h => .inl h, rfl, rfl⟩
theorem LG.trans (h : LG L Z Z' G G') (k : LG L Z' Z2 G' G2) : LG L Z Z2 G G2 := by
  obtain ⟨⟨c1, u1, q1⟩, m1, e1, f1⟩ := h
  obtain ⟨⟨c2, u2, q2⟩, m2, e2, f2⟩ := k
  have t1 := q1.2.1
  have t2 := q2.2.1
  refine ⟨⟨c1 + c2, u1 + u2, KQ.new ((q1.mono (fun a q => .inl q) (Nat.le_refl _) (Nat.le_refl _)).trans (q2.mono (fun a q => ?_) (Nat.le_refl _) (Nat.le_refl _)))⟩, fun a ha => ?_, e2.trans e1, f2.trans f1⟩
  · rcases m1 a q with q | q
    · exact .inl q
    · exact .inr q.1
  · rcases m2 a ha with q | q
    · rcases m1 a q with q | q
      · exact .inl q
      · exact .inr ⟨q.1, by omega⟩
    · exact .inr ⟨by omega, q.2⟩
/-- arrays are made wider -/
theorem k_wide {a Lr m : Nat} (hD : 1 ≤ D) (hk : Gkd G a = 100) (hl : Gln G a = Lr) (ha : a < Gtp G) (hL : Lr ≤ 10000000) (hm : m ≤ 10000000) (h0 : m ≤ Lr → Q (.inl (some (.ref a))) G) (h1 : Lr < m → ∀ G', KQ (fun _ => False) 1 (2 * m) G G' → Gtp G' = Gtp G + 1 → Gkd G' (Gtp G) = 100 → Gln G' (Gtp G) = 2 * m → (∀ i, i < Lr → Gai G' (Gtp G) i = Gai G a i) → Q (.inl (some (.ref (Gtp G)))) G') : XC xms D 267 [.ref a, .int (nI m)] G Q := by
  obtain ⟨d, rfl⟩ : ∃ d, D = d + 1 := ⟨D - 1, by omega⟩
  have b1 : Lr < 2147483648 := by omega
  have b2 : m < 2147483648 := by omega
  rw [XC_s]
  by_cases c : m ≤ Lr
  · have fi := h0 c
    simp (disch := first | omega | exact cI _ | exact cR _ | exact cK | exact cU | exact cO _ | exact cL _) only [oS, uS.2, Nat.reduceAdd, Nat.reduceSub, Nat.reduceMul, Nat.reduceLeDiff, Nat.reduceEqDiff, Nat.add_sub_cancel, xS, gS, nL, nS, dS, fX32_wide_0, mX32_wide, zX32_wide, hk, hl, c, fi]
  · have c2 : Lr < m := by omega
    have n1 : (a = Gtp G) = False := eq_false (by omega)
    have b3 : 2 * m < 2147483648 := by omega
    have b4 : 2 * m ≤ 60000000 := by omega
    have b5 : Lr ≤ 2 * m := by omega
    have e2 : Gai (Sna G 0 (2 * m)) (Gtp G) = fun _ => 0 := funext fun i => by rw [h_SnaGai, if_pos rfl]
    have e3 : Gai (Sna G 0 (2 * m)) a = Gai G a := funext fun i => by rw [h_SnaGai, if_neg (by omega)]
    have fi := h1 c2 (Rai (Sna G 0 (2 * m)) (Gtp G) (va_cpy (Gai G a) (fun _ => nI 0) 0 0 Lr)) ?_ rfl ?_ ?_ ?_
    · simp (disch := first | omega | exact cI _ | exact cR _ | exact cK | exact cU | exact cO _ | exact cL _) only [oS, uS.2, Nat.reduceAdd, Nat.reduceSub, Nat.reduceMul, Nat.reduceLeDiff, Nat.reduceEqDiff, Nat.add_sub_cancel, xS, gS, nL, nS, dS, fX32_wide_0, fX32_wide_8, mX32_wide, zX32_wide, hk, hl, c2, n1, b1, b2, b3, b4, b5, e2, e3, fi]
    · refine KQ.new (((KQ.na (t := 0) (P := fun a => False ∨ Gtp G ≤ a)).trans ?_ : KQ (fun a => False ∨ Gtp G ≤ a) (1 + 0) (2 * m + 0) G _))
      refine ⟨rfl, Nat.le_refl _, Nat.le_refl _, Nat.le_refl _, fun _ _ => ⟨rfl, rfl⟩, fun x hx hn => ⟨fun _ => ⟨rfl, rfl⟩, fun i => ⟨?_, rfl, rfl⟩⟩⟩
      show (if x = Gtp G then _ else Gai (Sna G 0 (2 * m)) x i) = _
      rw [if_neg (fun e => hn (.inr (by omega)))]
    · show (if Gtp G = Gtp G then 100 + 0 else Gkd G (Gtp G)) = 100
      rw [if_pos rfl]
    · show (if Gtp G = Gtp G then 2 * m else Gln G (Gtp G)) = 2 * m
      rw [if_pos rfl]
    · intro i hi
      show (if Gtp G = Gtp G then va_cpy (Gai G a) (fun _ => nI 0) 0 0 Lr i else Gai (Sna G 0 (2 * m)) (Gtp G) i) = _
      rw [if_pos rfl]
      unfold va_cpy
      rw [if_pos ⟨Nat.zero_le _, by omega⟩, Nat.zero_add, Nat.sub_zero]
end LOW
