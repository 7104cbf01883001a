set_option maxRecDepth 100000
section LOW
variable {D d hi L t0 u0 : Nat} {sh : Bool} {A : Nat → Nat} {oo : Option Nat} {X X' : LX} {Z Z' Z2 : LZ} {G0 G G' G2 : XG} {Q : (Option Value ⊕ Nat) → XG → Prop}
theorem lwd_le {c k : Nat} : k ≤ lwd c k := by
  unfold lwd
  split
  · assumption
  · omega
theorem fpl_L : L ∈ fpl L Z := List.mem_cons_self ..
theorem fpl_1 : Z.1 ∈ fpl L Z := List.mem_cons_of_mem _ (List.mem_cons_self ..)
theorem fpl_2 : Z.2.1 ∈ fpl L Z := List.mem_cons_of_mem _ (List.mem_cons_of_mem _ (List.mem_cons_self ..))
theorem fpl_3 {a : Nat} (h : a ∈ zfl Z.2.2) : a ∈ fpl L Z := List.mem_cons_of_mem _ (List.mem_cons_of_mem _ (List.mem_cons_of_mem _ h))
theorem fpl_c {a : Nat} (h : a ∈ fpl L Z) : a = L ∨ a = Z.1 ∨ a = Z.2.1 ∨ a ∈ zfl Z.2.2 := by
  rcases List.mem_cons.mp h with h | h
  · exact .inl h
  rcases List.mem_cons.mp h with h | h
  · exact .inr (.inl h)
  rcases List.mem_cons.mp h with h | h
  · exact .inr (.inr (.inl h))
  exact .inr (.inr (.inr h))
/-- an array of the head is put, made wider or not -/
def WA1 (G G1 : XG) (a a' w n0 c u : Nat) : Prop := KQ (fun _ => False) c u G G1 ∧ Gkd G1 a' = 100 ∧ Gln G1 a' = w ∧ (∀ i, i < n0 → Gai G1 a' i = Gai G a i) ∧ (a' = a ∨ (Gtp G ≤ a' ∧ a' < Gtp G1))
theorem add_fin {G1 : XG} {o a b a' : Nat} (h : LH G0 hi L t0 u0 sh A oo X Z G) (hw : WA1 G G1 Z.1 a' (lwd (Xc X) (3 * Xn X + 3)) (3 * Xn X) (lgc (Xc X) (3 * Xn X + 3)) (lgs (Xc X) (3 * Xn X + 3))) (hb : lwd (Xc X) (3 * Xn X + 3) ≤ 10000000) : LH G0 hi L t0 u0 sh A oo (aX o a b X) (a', Z.2) (Sfi (Sai (Sai (Sai (Sfr G1 1143 L (some a')) a' (3 * Xn X) (nI o)) a' (3 * Xn X + 1) (nI a)) a' (3 * Xn X + 2) (nI b)) 100 L (nI (Xn X + 1))) ∧ LG L Z (a', Z.2) G (Sfi (Sai (Sai (Sai (Sfr G1 1143 L (some a')) a' (3 * Xn X) (nI o)) a' (3 * Xn X + 1) (nI a)) a' (3 * Xn X + 2) (nI b)) 100 L (nI (Xn X + 1))) := by
  obtain ⟨h1, ⟨n1, n2, n3, n4, n5⟩, h3, h4, h5, ⟨d1, d2, d3, d4, d5, d6⟩, ⟨o1, o2, o3, o4, o5⟩, h8, h9⟩ := h
  obtain ⟨w1, w2, w3, w4, w5⟩ := hw
  have hL := h3 L fpl_L
  have hZ1 := h3 Z.1 fpl_1
  have hZ2 := h3 Z.2.1 fpl_2
  have e1 := (w1.2.2.2.2.2 L hL.2 id).1
  have ek := (w1.2.2.2.2.1 L hL.2).1
  have t1 := w1.2.1
  have t2 := w1.2.2.1
  have t3 := w1.2.2.2.1
  have aL : a' ≠ L := by
    rcases w5 with w5 | w5
    · omega
    · omega
  have ah : hi ≤ a' := by
    rcases w5 with w5 | w5
    · omega
    · have := hL.1
      omega
  have a2 : a' ≠ Z.2.1 := by
    rcases w5 with w5 | w5
    · omega
    · omega
  have a3 : ∀ y, y ∈ zfl Z.2.2 → y ≠ a' := fun y hy => by
    have := h3 y (fpl_3 hy)
    have := (n4 y hy).2.1
    rcases w5 with w5 | w5
    · omega
    · omega
  have at1 : a' < Gtp G1 := by
    rcases w5 with w5 | w5
    · omega
    · exact w5.2
  have kq2 : KQ (fun x => x = L ∨ x = a') 0 0 G1 (Sfi (Sai (Sai (Sai (Sfr G1 1143 L (some a')) a' (3 * Xn X) (nI o)) a' (3 * Xn X + 1) (nI a)) a' (3 * Xn X + 2) (nI b)) 100 L (nI (Xn X + 1))) := ((((KQ.fr (.inl rfl)).trans (KQ.ai (.inr rfl))).trans (KQ.ai (.inr rfl))).trans (KQ.ai (.inr rfl))).trans (KQ.fi (.inl rfl))
  have kq : KQ (fun x => x = L ∨ x = a') (lgc (Xc X) (3 * Xn X + 3)) (lgs (Xc X) (3 * Xn X + 3)) G (Sfi (Sai (Sai (Sai (Sfr G1 1143 L (some a')) a' (3 * Xn X) (nI o)) a' (3 * Xn X + 1) (nI a)) a' (3 * Xn X + 2) (nI b)) 100 L (nI (Xn X + 1))) := (w1.mono (fun _ q => q.elim) (Nat.le_refl _) (Nat.le_refl _)).trans kq2
  have g145 : Gfr (Sfi (Sai (Sai (Sai (Sfr G1 1143 L (some a')) a' (3 * Xn X) (nI o)) a' (3 * Xn X + 1) (nI a)) a' (3 * Xn X + 2) (nI b)) 100 L (nI (Xn X + 1))) 1145 L = Gfr G 1145 L := by
    show (if 1145 = 1143 ∧ L = L then some a' else Gfr G1 1145 L) = _
    rw [if_neg (by omega)]
    exact (e1 1145).2
  refine ⟨⟨h1.kq kq (fun x hx q => by
    rcases q with q | q
    · omega
    · omega) (by omega), ⟨fun e => aL e.symm, n2, a2, fun y hy => ⟨(n4 y hy).1, a3 y hy, (n4 y hy).2.2⟩, n5⟩, fun x hx => ?_, ?_, ?_, ⟨?_, ?_, ?_, ?_, ?_, ?_⟩, ⟨w2, w3, ?_, hb, fun i hi' => ?_⟩, h8.kq kq (fun q => by
      rcases q with q | q
      · omega
      · omega) hZ2.2, ?_⟩, ⟨_, _, KQ.new (kq.mono (fun x q => ?_) (Nat.le_refl _) (Nat.le_refl _))⟩, fun x hx => ?_, rfl, g145⟩
  · rcases fpl_c hx with q | q | q | q
    · subst q
      exact ⟨hL.1, Nat.lt_of_lt_of_le hL.2 t1⟩
    · have q : x = a' := q
      subst q
      exact ⟨ah, at1⟩
    · have q : x = Z.2.1 := q
      subst q
      exact ⟨hZ2.1, Nat.lt_of_lt_of_le hZ2.2 t1⟩
    · have := h3 x (fpl_3 q)
      exact ⟨this.1, Nat.lt_of_lt_of_le this.2 t1⟩
  · show Gtp G1 ≤ t0 + (ce X + lgc (Xc X) (3 * Xn X + 3))
    omega
  · show Gus G1 ≤ u0 + (sl X + lgs (Xc X) (3 * Xn X + 3))
    omega
  · exact ek.trans d1
  · exact (Sfi_o (by decide)).trans ((e1 102).1.trans d2)
  · exact Sfi_S
  · exact (Sfi_o (by decide)).trans ((e1 101).1.trans d4)
  · show (if 1143 = 1143 ∧ L = L then some a' else Gfr G1 1143 L) = some a'
    rw [if_pos ⟨rfl, rfl⟩]
  · show (if 1144 = 1143 ∧ L = L then some a' else Gfr G1 1144 L) = _
    rw [if_neg (by omega)]
    exact (e1 1144).2.trans d6
  · show 3 * (Xn X + 1) ≤ lwd (Xc X) (3 * Xn X + 3)
    exact lwd_le
  · have hi' : i < Xn X + 1 := hi'
    have s3 : ∀ x, Gai (Sfi (Sai (Sai (Sai (Sfr G1 1143 L (some a')) a' (3 * Xn X) (nI o)) a' (3 * Xn X + 1) (nI a)) a' (3 * Xn X + 2) (nI b)) 100 L (nI (Xn X + 1))) a' x = if x = 3 * Xn X + 2 then nI b else if x = 3 * Xn X + 1 then nI a else if x = 3 * Xn X then nI o else Gai G1 a' x := fun x => by
      show (if a' = a' ∧ x = 3 * Xn X + 2 then nI b else if a' = a' ∧ x = 3 * Xn X + 1 then nI a else if a' = a' ∧ x = 3 * Xn X then nI o else Gai G1 a' x) = _
      simp only [true_and]
    show Gai _ a' (3 * i) = nI (if i = Xn X then (o, a, b) else Xo X i : Ci).1 ∧ Gai _ a' (3 * i + 1) = nI (if i = Xn X then (o, a, b) else Xo X i : Ci).2.1 ∧ Gai _ a' (3 * i + 2) = nI (if i = Xn X then (o, a, b) else Xo X i : Ci).2.2
    by_cases c : i = Xn X
    · rw [if_pos c]
      exact ⟨(s3 _).trans ((if_neg (by omega)).trans ((if_neg (by omega)).trans (if_pos (by omega)))), (s3 _).trans ((if_neg (by omega)).trans (if_pos (by omega))), (s3 _).trans (if_pos (by omega))⟩
    · rw [if_neg c]
      have hi'' : i < Xn X := by omega
      have q := o5 i hi''
      exact ⟨(s3 _).trans ((if_neg (by omega)).trans ((if_neg (by omega)).trans ((if_neg (by omega)).trans ((w4 _ (by omega)).trans q.1)))), (s3 _).trans ((if_neg (by omega)).trans ((if_neg (by omega)).trans ((if_neg (by omega)).trans ((w4 _ (by omega)).trans q.2.1)))), (s3 _).trans ((if_neg (by omega)).trans ((if_neg (by omega)).trans ((if_neg (by omega)).trans ((w4 _ (by omega)).trans q.2.2))))⟩
  · exact SCs.kq kq _ _ _ (fun x hx => ⟨fun q => by
      have := n4 x hx
      rcases q with q | q
      · exact this.1 q
      · exact a3 x hx q, (h3 x (fpl_3 hx)).2⟩) h9
  · rcases q with q | q
    · exact .inl (by rw [q]; exact fpl_L)
    · rcases w5 with w5 | w5
      · exact .inl (by rw [q, w5]; exact fpl_1)
      · exact .inr (by omega)
  · rcases fpl_c hx with q | q | q | q
    · exact .inl (by rw [q]; exact fpl_L)
    · have q : x = a' := q
      rcases w5 with w5 | w5
      · exact .inl (by rw [q, w5]; exact fpl_1)
      · exact .inr ⟨by omega, by rw [q]; exact at1⟩
    · exact .inl (by rw [show x = Z.2.1 from q]; exact fpl_2)
    · exact .inl (fpl_3 q)
theorem WA1.same {a w n0 : Nat} (h1 : Gkd G a = 100) (h2 : Gln G a = w) : WA1 G G a a w n0 0 0 := ⟨KQ.refl, h1, h2, fun _ _ => rfl, .inl rfl⟩
/-- an instruction is added -/
theorem l_add {o a b : Nat} (h : LH G0 hi L t0 u0 sh A oo X Z G) (hb : sl (aX o a b X) ≤ 6000000) (hD : 2 ≤ D) (hQ : ∀ Z' G', LH G0 hi L t0 u0 sh A oo (aX o a b X) Z' G' → LG L Z Z' G G' → Q (.inl (some (.int (nI (Xn X))))) G') : XC xms D 276 [.ref L, .int (nI o), .int (nI a), .int (nI b)] G Q := by
  obtain ⟨d, rfl⟩ : ∃ d, D = d + 1 := ⟨D - 1, by omega⟩
  have h0 := h
  obtain ⟨h1, ⟨n1, n2, n3, n4, n5⟩, h3, h4, h5, ⟨d1, d2, d3, d4, d5, d6⟩, ⟨o1, o2, o3, o4, o5⟩, h8, h9⟩ := h
  have hL := h3 L fpl_L
  have hZ1 := h3 Z.1 fpl_1
  have hb : sl X + lgs (Xc X) (3 * Xn X + 3) ≤ 6000000 := hb
  have hw7 : lwd (Xc X) (3 * Xn X + 3) ≤ 10000000 := by
    unfold lwd
    unfold lgs at hb
    split
    · exact o4
    · next c =>
      rw [if_neg c] at hb
      omega
  have hk7 : 3 * Xn X + 3 ≤ 10000000 := Nat.le_trans lwd_le hw7
  rw [XC_s]
  simp (disch := first | omega | exact cI _ | exact cR _ | exact cK | exact cU | exact cO _ | exact cL _) only [oS, uS.2, Nat.reduceAdd, Nat.reduceSub, Nat.reduceMul, Nat.reduceLeDiff, Nat.reduceEqDiff, Nat.add_sub_cancel, xS, gS, nL, nS, dS, fX33_add_0, mX33_add, zX33_add, d1, d3, d5]
  refine k_wide (D := d) (by omega) o1 o2 hZ1.2 o4 hk7 (fun c => ?_) (fun c G1 w1 w2 w3 w4 w5 => ?_)
  · have e1 : lwd (Xc X) (3 * Xn X + 3) = Xc X := if_pos c
    have e2 : lgc (Xc X) (3 * Xn X + 3) = 0 := if_pos c
    have e3 : lgs (Xc X) (3 * Xn X + 3) = 0 := if_pos c
    obtain ⟨f1, f2⟩ := add_fin (o := o) (a := a) (b := b) (a' := Z.1) h0 (by rw [e1, e2, e3]; exact WA1.same o1 o2) hw7
    have fi := hQ _ _ f1 f2
    have i0 : 3 * Xn X < Xc X := by omega
    have i1 : 3 * Xn X + 1 < Xc X := by omega
    have i2 : 3 * Xn X + 2 < Xc X := by omega
    have nn : (L = Z.1) = False := eq_false n1
    simp (disch := first | omega | exact cI _ | exact cR _ | exact cK | exact cU | exact cO _ | exact cL _) only [oS, uS.2, Nat.reduceAdd, Nat.reduceSub, Nat.reduceMul, Nat.reduceLeDiff, Nat.reduceEqDiff, Nat.add_sub_cancel, xS, gS, nL, nS, dS, mX33_add, zX33_add, d1, d3, d5, o1, o2, i0, i1, i2, nn, fi]
  · have e1 : lwd (Xc X) (3 * Xn X + 3) = 2 * (3 * Xn X + 3) := if_neg (by omega)
    have e2 : lgc (Xc X) (3 * Xn X + 3) = 1 := if_neg (by omega)
    have e3 : lgs (Xc X) (3 * Xn X + 3) = 2 * (3 * Xn X + 3) := if_neg (by omega)
    obtain ⟨f1, f2⟩ := add_fin (o := o) (a := a) (b := b) (a' := Gtp G) (G1 := G1) h0 (by
      rw [e1, e2, e3]
      exact ⟨w1, w3, w4, fun i hi' => w5 i (by omega), .inr ⟨Nat.le_refl _, by omega⟩⟩) hw7
    have fi := hQ _ _ f1 f2
    have i0 : 3 * Xn X < 2 * (3 * Xn X + 3) := by omega
    have i1 : 3 * Xn X + 1 < 2 * (3 * Xn X + 3) := by omega
    have i2 : 3 * Xn X + 2 < 2 * (3 * Xn X + 3) := by omega
    have q1 : Gkd G1 L = 34 := (w1.2.2.2.2.1 L hL.2).1.trans d1
    have q3 : Gfi G1 100 L = nI (Xn X) := ((w1.2.2.2.2.2 L hL.2 id).1 100).1.trans d3
    have nn : (L = Gtp G) = False := eq_false (by omega)
    simp (disch := first | omega | exact cI _ | exact cR _ | exact cK | exact cU | exact cO _ | exact cL _) only [oS, uS.2, Nat.reduceAdd, Nat.reduceSub, Nat.reduceMul, Nat.reduceLeDiff, Nat.reduceEqDiff, Nat.add_sub_cancel, xS, gS, nL, nS, dS, mX33_add, zX33_add, q1, q3, w3, w4, i0, i1, i2, nn, fi]
end LOW
