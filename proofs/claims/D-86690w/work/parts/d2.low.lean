set_option maxRecDepth 100000
section LOW
variable {D d hi L t0 u0 : Nat} {sh : Bool} {A : Nat → Nat} {oo : Option Nat} {X X' : LX} {Z Z' Z2 : LZ} {G0 G G' G2 : XG} {Q : (Option Value ⊕ Nat) → XG → Prop}
theorem fpl_co {a : Nat} {oa ta : Nat} {x : Nat × Nat × Nat} {xs : List (Nat × Nat × Nat)} (h : a ∈ fpl L (oa, ta, xs)) : a ∈ fpl L (oa, ta, x :: xs) := by
  rcases fpl_c h with q | q | q | q
  · rw [q]
    exact fpl_L
  · rw [q]
    exact fpl_1
  · rw [q]
    exact fpl_2
  · exact fpl_3 (List.mem_cons_of_mem _ (List.mem_cons_of_mem _ (List.mem_cons_of_mem _ q)))
theorem fpl_cc {a : Nat} {oa ta : Nat} {x : Nat × Nat × Nat} {xs : List (Nat × Nat × Nat)} (h : a ∈ fpl L (oa, ta, x :: xs)) : (a = x.1 ∨ a = x.2.1 ∨ a = x.2.2) ∨ a ∈ fpl L (oa, ta, xs) := by
  rcases fpl_c h with q | q | q | q
  · exact .inr (by rw [q]; exact fpl_L)
  · exact .inr (by rw [q]; exact fpl_1)
  · exact .inr (by rw [q]; exact fpl_2)
  · rcases List.mem_cons.mp q with q | q
    · exact .inl (.inl q)
    · rcases List.mem_cons.mp q with q | q
      · exact .inl (.inr (.inl q))
      · rcases List.mem_cons.mp q with q | q
        · exact .inl (.inr (.inr q))
        · exact .inr (fpl_3 q)
/-- a scope apart from a lowering -/
def APT (hi L : Nat) (Z : LZ) (x : Nat × Nat × Nat) (G : XG) : Prop := (∀ a, a = x.1 ∨ a = x.2.1 ∨ a = x.2.2 → (¬ a ∈ fpl L Z) ∧ hi ≤ a ∧ a < Gtp G) ∧ x.1 ≠ x.2.1 ∧ x.1 ≠ x.2.2 ∧ x.2.1 ≠ x.2.2
theorem LH.down {S : LSt} {c : Lc} {K : List Lc} {oa ta : Nat} {x : Nat × Nat × Nat} {xs : List (Nat × Nat × Nat)} (h : LH G0 hi L t0 u0 sh A oo (S, c :: K) (oa, ta, x :: xs) G) : oo = some x.1 ∧ ∃ o', SC1 G A c x o' ∧ LH G0 hi L t0 u0 sh A o' (S, K) (oa, ta, xs) G ∧ APT hi L (oa, ta, xs) x G := by
  obtain ⟨h1, ⟨n1, n2, n3, n4, n5⟩, h3, h4, h5, h6, h7, h8, h9, o', s1, s2⟩ := h
  have n5 : (x.1 :: x.2.1 :: x.2.2 :: zfl xs).Nodup := n5
  obtain ⟨a1, n5⟩ := List.nodup_cons.mp n5
  obtain ⟨a2, n5⟩ := List.nodup_cons.mp n5
  obtain ⟨a3, n5⟩ := List.nodup_cons.mp n5
  have m1 : x.1 ∈ zfl (x :: xs) := List.mem_cons_self ..
  have m2 : x.2.1 ∈ zfl (x :: xs) := List.mem_cons_of_mem _ (List.mem_cons_self ..)
  have m3 : x.2.2 ∈ zfl (x :: xs) := List.mem_cons_of_mem _ (List.mem_cons_of_mem _ (List.mem_cons_self ..))
  have ap : ∀ a, a ∈ zfl (x :: xs) → ¬ a ∈ zfl xs → (¬ a ∈ fpl L (oa, ta, xs)) ∧ hi ≤ a ∧ a < Gtp G := fun a hm hn => ⟨fun q => by
    have := n4 a hm
    rcases fpl_c q with q | q | q | q
    · exact this.1 q
    · exact this.2.1 q
    · exact this.2.2 q
    · exact hn q, h3 a (fpl_3 hm)⟩
  refine ⟨h9, o', s1, ⟨h1, ⟨n1, n2, n3, fun y hy => n4 y (List.mem_cons_of_mem _ (List.mem_cons_of_mem _ (List.mem_cons_of_mem _ hy))), n5⟩, fun a ha => h3 a (fpl_co ha), h4, h5, h6, h7, h8, s2⟩, ⟨fun a ha => ?_, fun e => a1 (by rw [e]; exact List.mem_cons_self ..), fun e => a1 (by rw [e]; exact List.mem_cons_of_mem _ (List.mem_cons_self ..)), fun e => a2 (by rw [e]; exact List.mem_cons_self ..)⟩⟩
  rcases ha with rfl | rfl | rfl
  · exact ap _ m1 (fun q => a1 (List.mem_cons_of_mem _ (List.mem_cons_of_mem _ q)))
  · exact ap _ m2 (fun q => a2 (List.mem_cons_of_mem _ q))
  · exact ap _ m3 a3
theorem LH.up {S : LSt} {c : Lc} {K : List Lc} {oa ta : Nat} {x : Nat × Nat × Nat} {xs : List (Nat × Nat × Nat)} (h : LH G0 hi L t0 u0 sh A oo (S, K) (oa, ta, xs) G) (s : SC1 G A c x oo) (ap : APT hi L (oa, ta, xs) x G) : LH G0 hi L t0 u0 sh A (some x.1) (S, c :: K) (oa, ta, x :: xs) G := by
  obtain ⟨h1, ⟨n1, n2, n3, n4, n5⟩, h3, h4, h5, h6, h7, h8, h9⟩ := h
  obtain ⟨p1, p2, p3, p4⟩ := ap
  obtain ⟨q1, -, -⟩ := p1 _ (.inl rfl)
  obtain ⟨q2, -, -⟩ := p1 _ (.inr (.inl rfl))
  obtain ⟨q3, -, -⟩ := p1 _ (.inr (.inr rfl))
  refine ⟨h1, ⟨n1, n2, n3, fun y hy => ?_, ?_⟩, fun a ha => ?_, h4, h5, h6, h7, h8, rfl, oo, s, h9⟩
  · have key : ∀ a, (¬ a ∈ fpl L (oa, ta, xs)) → a ≠ L ∧ a ≠ oa ∧ a ≠ ta := fun a ha => ⟨fun e => ha (by rw [e]; exact fpl_L), fun e => ha (by rw [e]; exact fpl_1), fun e => ha (by rw [e]; exact fpl_2)⟩
    rcases List.mem_cons.mp hy with q | hy
    · rw [q]
      exact key _ q1
    · rcases List.mem_cons.mp hy with q | hy
      · rw [q]
        exact key _ q2
      · rcases List.mem_cons.mp hy with q | hy
        · rw [q]
          exact key _ q3
        · exact n4 y hy
  · show (x.1 :: x.2.1 :: x.2.2 :: zfl xs).Nodup
    refine List.nodup_cons.mpr ⟨fun q => ?_, List.nodup_cons.mpr ⟨fun q => ?_, List.nodup_cons.mpr ⟨fun q => q3 (fpl_3 q), n5⟩⟩⟩
    · rcases List.mem_cons.mp q with q | q
      · exact p2 q
      · rcases List.mem_cons.mp q with q | q
        · exact p3 q
        · exact q1 (fpl_3 q)
    · rcases List.mem_cons.mp q with q | q
      · exact p4 q
      · exact q2 (fpl_3 q)
  · rcases fpl_cc ha with q | q
    · exact (p1 a q).2
    · exact h3 a q
theorem LG.co {oa ta : Nat} {x x' : Nat × Nat × Nat} {xs : List (Nat × Nat × Nat)} (h : LG L (oa, ta, xs) Z' G G') (hx : x' = x) : LG L (oa, ta, x :: xs) (Z'.1, Z'.2.1, x' :: Z'.2.2) G G' := by
  subst hx
  obtain ⟨⟨c, u, k⟩, m, e, f⟩ := h
  refine ⟨⟨c, u, k.mono (fun a q => fpl_co q) (Nat.le_refl _) (Nat.le_refl _)⟩, fun a ha => ?_, congrArg (x'.1 :: ·) e, f⟩
  rcases fpl_cc ha with q | q
  · rcases q with rfl | rfl | rfl
    · exact .inl (fpl_3 (List.mem_cons_self ..))
    · exact .inl (fpl_3 (List.mem_cons_of_mem _ (List.mem_cons_self ..)))
    · exact .inl (fpl_3 (List.mem_cons_of_mem _ (List.mem_cons_of_mem _ (List.mem_cons_self ..))))
  · rcases m a q with q | q
    · exact .inl (fpl_co q)
    · exact .inr q
/-- what is apart stays apart -/
theorem APT.keep {c : Lc} {x : Nat × Nat × Nat} {o' : Option Nat} (ap : APT hi L Z x G) (s : SC1 G A c x o') (g : LG L Z Z' G G') : APT hi L Z' x G' ∧ SC1 G' A c x o' := by
  obtain ⟨⟨c1, u1, k⟩, m, e, f⟩ := g
  have t1 := k.2.1
  refine ⟨⟨fun a ha => ?_, ap.2⟩, s.kq k (fun a ha => ⟨(ap.1 a ha).1, (ap.1 a ha).2.2⟩)⟩
  obtain ⟨q1, q2, q3⟩ := ap.1 a ha
  refine ⟨fun q => ?_, q2, Nat.lt_of_lt_of_le q3 t1⟩
  rcases m a q with q | q
  · exact q1 q
  · omega
/-- a step beneath a scope -/
theorem LH.back {c : Lc} {x : Nat × Nat × Nat} {o' : Option Nat} (ap : APT hi L Z x G) (s : SC1 G A c x o') (h : LH G0 hi L t0 u0 sh A o' X' Z' G') (g : LG L Z Z' G G') : LH G0 hi L t0 u0 sh A (some x.1) (X'.1, c :: X'.2) (Z'.1, Z'.2.1, x :: Z'.2.2) G' ∧ LG L (Z.1, Z.2.1, x :: Z.2.2) (Z'.1, Z'.2.1, x :: Z'.2.2) G G' := by
  obtain ⟨a1, a2⟩ := ap.keep s g
  exact ⟨LH.up h a2 a1, LG.co g rfl⟩
/-- scopes' count -/
theorem SCs.len : ∀ (K : List Lc) (xs : List (Nat × Nat × Nat)) (o : Option Nat), SCs G A K xs o → xs.length = K.length ∧ o = xs.head?.map (·.1) := by
  intro K
  induction K with
  | nil =>
    intro xs o h
    cases xs with
    | nil => exact ⟨rfl, h⟩
    | cons x xs => exact h.elim
  | cons s K ih =>
    intro xs o h
    cases xs with
    | nil => exact h.elim
    | cons x xs =>
      obtain ⟨h1, o', h2, h3⟩ := h
      exact ⟨congrArg (· + 1) (ih xs o' h3).1, h1⟩
/-- a jump lands -/
theorem l_lands {j t : Nat} (h : LH G0 hi L t0 u0 sh A oo X Z G) (hj : j < Xn X) (hD : 1 ≤ D) (hQ : ∀ G', LH G0 hi L t0 u0 sh A oo (lnX j t X) Z G' → LG L Z Z G G' → Q (.inl none) G') : XC xms D 284 [.ref L, .int (nI j), .int (nI t)] G Q := by
  obtain ⟨d, rfl⟩ : ∃ d, D = d + 1 := ⟨D - 1, by omega⟩
  obtain ⟨h1, ⟨n1, n2, n3, n4, n5⟩, h3, h4, h5, ⟨d1, d2, d3, d4, d5, d6⟩, ⟨o1, o2, o3, o4, o5⟩, h8, h9⟩ := h
  have hL := h3 L fpl_L
  have hZ1 := h3 Z.1 fpl_1
  have hZ2 := h3 Z.2.1 fpl_2
  have k : KQ (fun a => a = Z.1) 0 0 G (Sai G Z.1 (3 * j + 2) (nI t)) := KQ.ai rfl
  have i2 : 3 * j + 2 < Xc X := by omega
  have s3 : ∀ x, Gai (Sai G Z.1 (3 * j + 2) (nI t)) Z.1 x = if x = 3 * j + 2 then nI t else Gai G Z.1 x := fun x => by
    show (if Z.1 = Z.1 ∧ x = 3 * j + 2 then nI t else Gai G Z.1 x) = _
    simp only [true_and]
  have fi := hQ (Sai G Z.1 (3 * j + 2) (nI t)) ⟨h1.kq k (fun a ha q => by omega) (by omega), ⟨n1, n2, n3, n4, n5⟩, h3, h4, h5, ⟨d1, d2, d3, d4, d5, d6⟩, ⟨o1, o2, o3, o4, fun i hi' => by
    have hi' : i < Xn X := hi'
    obtain ⟨q1, q2, q3⟩ := o5 i hi'
    show Gai _ Z.1 (3 * i) = nI (if i = j then ((Xo X i).1, (Xo X i).2.1, t) else Xo X i : Ci).1 ∧ Gai _ Z.1 (3 * i + 1) = nI (if i = j then ((Xo X i).1, (Xo X i).2.1, t) else Xo X i : Ci).2.1 ∧ Gai _ Z.1 (3 * i + 2) = nI (if i = j then ((Xo X i).1, (Xo X i).2.1, t) else Xo X i : Ci).2.2
    by_cases c : i = j
    · rw [if_pos c]
      exact ⟨(s3 _).trans ((if_neg (by omega)).trans q1), (s3 _).trans ((if_neg (by omega)).trans q2), (s3 _).trans (if_pos (by omega))⟩
    · rw [if_neg c]
      exact ⟨(s3 _).trans ((if_neg (by omega)).trans q1), (s3 _).trans ((if_neg (by omega)).trans q2), (s3 _).trans ((if_neg (by omega)).trans q3)⟩⟩, h8.kq k (fun q => n3 q.symm) hZ2.2, SCs.kq k _ _ _ (fun x hx => ⟨fun q => (n4 x hx).2.1 q, (h3 x (fpl_3 hx)).2⟩) h9⟩ ⟨⟨0, 0, k.mono (fun a q => by rw [q]; exact fpl_1) (Nat.le_refl _) (Nat.le_refl _)⟩, fun a ha => .inl ha, rfl, rfl⟩
  have b1 : 3 * j < 30000000 := by omega
  rw [XC_s]
  simp (disch := first | omega | exact cI _ | exact cR _ | exact cK | exact cU | exact cO _ | exact cL _) only [oS, uS.2, Nat.reduceAdd, Nat.reduceSub, Nat.reduceMul, Nat.reduceLeDiff, Nat.reduceEqDiff, Nat.add_sub_cancel, xS, gS, nL, nS, dS, fX33_lands_0, mX33_lands, zX33_lands, d1, d5, o1, o2, i2, b1, fi]
/-- is it too long -/
theorem l_long (h : LH G0 hi L t0 u0 sh A oo X Z G) (hD : 1 ≤ D) (hQ : Q (.inl (some (.int (if lTL sh X = true then nI 1 else nI 0)))) G) : XC xms D 273 [.ref L] G Q := by
  obtain ⟨d, rfl⟩ : ∃ d, D = d + 1 := ⟨D - 1, by omega⟩
  obtain ⟨d1, d2, d3, d4, d5, d6⟩ := h.2.2.2.2.2.1
  have hO := h.2.2.2.2.2.2.1
  have b1 := hO.2.2.1
  have b2 := hO.2.2.2.1
  have b3 : Xn X < 30000000 := by omega
  rw [XC_s]
  cases sh with
  | true =>
    have d2 : Gfi G 102 L = nI 1 := d2
    have e : lTL true X = false := rfl
    rw [e] at hQ
    have hQ : Q (.inl (some (.int (nI 0)))) G := hQ
    simp (disch := first | omega | exact cI _ | exact cR _ | exact cK | exact cU | exact cO _ | exact cL _) only [oS, uS.2, Nat.reduceAdd, Nat.reduceSub, Nat.reduceMul, Nat.reduceLeDiff, Nat.reduceEqDiff, Nat.add_sub_cancel, xS, gS, nL, nS, dS, fX33_isTooLong_0, fX33_isTooLong_21, fX33_isTooLong_22, mX33_isTooLong, zX33_isTooLong, d1, d2, hQ]
  | false =>
    have d2 : Gfi G 102 L = nI 0 := d2
    by_cases c : 2000 < Xn X
    · have e : lTL false X = true := by
        show (!false && decide (2000 < Xn X)) = true
        rw [decide_eq_true c]
        rfl
      rw [e] at hQ
      have hQ : Q (.inl (some (.int (nI 1)))) G := hQ
      simp (disch := first | omega | exact cI _ | exact cR _ | exact cK | exact cU | exact cO _ | exact cL _) only [oS, uS.2, Nat.reduceAdd, Nat.reduceSub, Nat.reduceMul, Nat.reduceLeDiff, Nat.reduceEqDiff, Nat.add_sub_cancel, xS, gS, nL, nS, dS, fX33_isTooLong_0, fX33_isTooLong_21, fX33_isTooLong_22, mX33_isTooLong, zX33_isTooLong, d1, d2, d3, c, hQ]
    · have e : lTL false X = false := by
        show (!false && decide (2000 < Xn X)) = false
        rw [decide_eq_false c]
        rfl
      rw [e] at hQ
      have hQ : Q (.inl (some (.int (nI 0)))) G := hQ
      simp (disch := first | omega | exact cI _ | exact cR _ | exact cK | exact cU | exact cO _ | exact cL _) only [oS, uS.2, Nat.reduceAdd, Nat.reduceSub, Nat.reduceMul, Nat.reduceLeDiff, Nat.reduceEqDiff, Nat.add_sub_cancel, xS, gS, nL, nS, dS, fX33_isTooLong_0, fX33_isTooLong_21, fX33_isTooLong_22, mX33_isTooLong, zX33_isTooLong, d1, d2, d3, c, hQ]
end LOW
