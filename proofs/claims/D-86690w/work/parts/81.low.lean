set_option maxRecDepth 100000
section LOWE2
variable {T : Pg} {sh : Bool} {bk : LB}
theorem fE.on {f : LX → LX} (hf : fE f) {a : Nat} {Y X : LX} (w : wX X) (h : Ex a Y X) : Ex a Y (f X) := h.trans (hf X w).2 (Nat.zero_le _)
theorem inX_E (hb : ∀ ss, fE (bk ss)) {s : Nat} : fE (inX T bk s) := by
  intro X w
  unfold inX
  split
  · exact hb _ X w
  · dsimp only
    obtain ⟨c, K2, e1, e2, -, -, -, s1, -, v1, v2, v3⟩ := scp (hb (Tl T s)) (so := 1) (s := s) (g := 0) (w.a (o := 9) (a := s) (b := 0))
    generalize bk (Tl T s) (puX 1 s 0 (aX 9 s 0 X)) = X2 at *
    rw [e2]
    have en : Xn (poX X2) = Xn X2 := rfl
    have h0 : Ex 0 X (poX X2) := Ex.trans Ex.refl.a v2 (Nat.le_refl _)
    have n1 : Xn (aX 9 s 0 X) = Xn X + 1 := rfl
    have n2 := srt_le s1
    exact ⟨(wX.rw v1.a.a s1 (by show Xn X2 ≤ Xn X2 + 1 + 1; omega)).a.ln, ((h0.a.a.rw s1 (Or.inr (by omega))).a).ln (Or.inr (by omega))⟩
theorem csX_E (hb : ∀ ss, fE (bk ss)) {s f t : Nat} {gs : List (Nat × Nat)} (hs : srt f gs t) : ∀ (l : List (Int32 × List Nat)) (js : List Nat) (X : LX), wX X → t ≤ Xn X → wX (csX bk s gs f t l js X) ∧ Xn X ≤ Xn (csX bk s gs f t l js X) ∧ ∀ (a : Nat) (Y : LX), Ex a Y X → (t ≤ a ∨ Xn Y ≤ f) → (∀ j, j ∈ js → j < a ∨ Xn Y ≤ j) → Ex a Y (csX bk s gs f t l js X) := by
  intro l
  induction l with
  | nil => intro js X w _; exact ⟨w.lns, (Ex.lns (a := Xn X) (X := X) Ex.refl (fun j _ => by omega)).1, fun a Y h _ hj => h.lns hj⟩
  | cons c r ih =>
    intro js X w ht
    unfold csX
    dsimp only
    have w1 : wX (rwX gs f t (Xn X) c.1 (8 * s) X) := w.rw hs ht
    obtain ⟨v1, v2⟩ := hb c.2 _ w1
    have n1 := v2.1
    have n0 : Xn (rwX gs f t (Xn X) c.1 (8 * s) X) = Xn X := rwX_n.1
    obtain ⟨i1, i2, i3⟩ := ih (js ++ [Xn (bk c.2 (rwX gs f t (Xn X) c.1 (8 * s) X))]) (aX 5 0 0 (bk c.2 (rwX gs f t (Xn X) c.1 (8 * s) X))) v1.a (by show t ≤ Xn (bk c.2 (rwX gs f t (Xn X) c.1 (8 * s) X)) + 1; omega)
    refine ⟨i1, ?_, fun a Y h ho hj => i3 a Y ?_ ho (fun j hj' => ?_)⟩
    · have : Xn (aX 5 0 0 (bk c.2 (rwX gs f t (Xn X) c.1 (8 * s) X))) = Xn (bk c.2 (rwX gs f t (Xn X) c.1 (8 * s) X)) + 1 := rfl
      omega
    · exact ((h.rw hs ho).trans v2 (Nat.zero_le _)).a
    · rcases List.mem_append.mp hj' with hj' | hj'
      · exact hj j hj'
      · rcases List.mem_singleton.mp hj' with rfl
        exact Or.inr (by have := h.1; omega)
theorem caX_E (hb : ∀ ss, fE (bk ss)) {s : Nat} : fE (caX T bk s) := by
  intro X w
  unfold caX
  split
  · exact inX_E hb X w
  · dsimp only
    obtain ⟨c, K2, e1, e2, -, -, -, s1, -, v1, v2, v3⟩ := scp (inX_E (T := T) hb (s := s)) (so := 2) (s := s) (g := 0) w
    generalize inX T bk s (puX 2 s 0 X) = X2 at *
    rw [e2]
    have n2 := srt_le s1
    obtain ⟨i1, i2, i3⟩ := csX_E hb s1 (s := s) (Tc T s) [Xn X2] (aX 5 0 0 (coX 1 ((Tc T s).length + 1) (poX X2))) (wX.co v1).a (Nat.le_succ _)
    exact ⟨i1, i3 0 X ((v2.co).a) (Or.inr (Nat.le_refl _)) (fun j hj => by rcases List.mem_singleton.mp hj with rfl; exact Or.inr n2)⟩
theorem pdX_E (hb : ∀ ss, fE (bk ss)) {s so : Nat} {b : List Nat} : fE (pdX bk s so b) := by
  intro X w
  unfold pdX
  dsimp only
  obtain ⟨c, K2, e1, e2, -, -, -, s1, -, v1, v2, v3⟩ := scp (hb b) (so := so) (s := s) (g := 0) w
  generalize bk b (puX so s 0 X) = X2 at *
  rw [e2]
  have n2 := srt_le s1
  exact ⟨((wX.rw v1.a s1 (Nat.le_succ _)).a).a.ln, (((v2.a.rw s1 (Or.inr (Nat.le_refl _))).a).a).ln (Or.inr n2)⟩
theorem gdX_E (hb : ∀ ss, fE (bk ss)) {s : Nat} : fE (gdX T sh bk s) := by
  intro X w
  unfold gdX
  split
  · exact caX_E hb X w
  · next b _ =>
    dsimp only
    obtain ⟨c, K2, e1, e2, -, -, -, s1, j1, v1, v2, v3⟩ := scp (caX_E (T := T) hb (s := s)) (so := 3) (s := s) (g := 0) w
    generalize caX T bk s (puX 3 s 0 X) = X2 at *
    rw [e2]
    have n2 := srt_le s1
    split
    · have q3 : wX (aX 5 0 0 (aX 19 (8 * s + 3) 0 (aX 18 0 (8 * s + 1) (poX X2)))) ∧ Ex 0 X (aX 5 0 0 (aX 19 (8 * s + 3) 0 (aX 18 0 (8 * s + 1) (poX X2)))) := ⟨v1.a.a.a, v2.a.a.a⟩
      have n3 : Xn (aX 5 0 0 (aX 19 (8 * s + 3) 0 (aX 18 0 (8 * s + 1) (poX X2)))) = Xn X2 + 3 := rfl
      generalize aX 5 0 0 (aX 19 (8 * s + 3) 0 (aX 18 0 (8 * s + 1) (poX X2))) = X3 at *
      have q4 : wX (aX 19 (8 * s + 3) 0 (rwX (cGs c) (Xn X) (Xn X2) (Xn X2 + 3) NN (8 * s + 1) X3)) ∧ Ex 0 X (aX 19 (8 * s + 3) 0 (rwX (cGs c) (Xn X) (Xn X2) (Xn X2 + 3) NN (8 * s + 1) X3)) := ⟨(wX.rw q3.1 s1 (by omega)).a, (q3.2.rw s1 (Or.inr (Nat.le_refl _))).a⟩
      generalize aX 19 (8 * s + 3) 0 (rwX (cGs c) (Xn X) (Xn X2) (Xn X2 + 3) NN (8 * s + 1) X3) = X4 at *
      have q5 : wX (aX 12 s 0 (lnsX (cJs c) (Xn X2 + 4) (lnX (Xn X2 + 2) (Xn X2 + 4) X4))) ∧ Ex 0 X (aX 12 s 0 (lnsX (cJs c) (Xn X2 + 4) (lnX (Xn X2 + 2) (Xn X2 + 4) X4))) := ⟨(q4.1.ln.lns).a, ((q4.2.ln (Or.inr (by omega))).lns (fun j hj => Or.inr (j1 j hj).1)).a⟩
      generalize aX 12 s 0 (lnsX (cJs c) (Xn X2 + 4) (lnX (Xn X2 + 2) (Xn X2 + 4) X4)) = X5 at *
      obtain ⟨p1, p2⟩ := pdX_E hb (s := s) (so := 5) (b := b) X5 q5.1
      have p3 := q5.2.trans p2 (Nat.le_refl _)
      generalize pdX bk s 5 b X5 = X6 at *
      exact ⟨p1.a.ln.a.ln, (((p3.a).ln (Or.inr (by omega))).a).ln (Or.inr (by omega))⟩
    · obtain ⟨b1, b2⟩ := hb b _ (v1.a (o := 12) (a := s) (b := 0))
      have b3 := (v2.a (o := 12) (x := s) (y := 0)).trans b2 (Nat.le_refl _)
      have n4 : Xn X2 + 1 ≤ Xn (bk b (aX 12 s 0 (poX X2))) := b2.1
      generalize bk b (aX 12 s 0 (poX X2)) = X3 at *
      have n5 : Xn (aX 5 0 0 X3) = Xn X3 + 1 := rfl
      have q5 : wX (aX 12 s 0 (rwX (cGs c) (Xn X) (Xn X2) (Xn (aX 5 0 0 X3)) NN (8 * s + 1) (aX 5 0 0 X3))) ∧ Ex 0 X (aX 12 s 0 (rwX (cGs c) (Xn X) (Xn X2) (Xn (aX 5 0 0 X3)) NN (8 * s + 1) (aX 5 0 0 X3))) := ⟨(wX.rw b1.a s1 (by omega)).a, ((b3.a).rw s1 (Or.inr (Nat.le_refl _))).a⟩
      generalize aX 12 s 0 (rwX (cGs c) (Xn X) (Xn X2) (Xn (aX 5 0 0 X3)) NN (8 * s + 1) (aX 5 0 0 X3)) = X5 at *
      obtain ⟨p1, p2⟩ := pdX_E hb (s := s) (so := 4) (b := b) X5 q5.1
      have p3 := q5.2.trans p2 (Nat.le_refl _)
      exact ⟨p1.a.ln, (p3.a).ln (Or.inr (by omega))⟩
theorem stX_E (hb : ∀ ss, fE (bk ss)) {s : Nat} : fE (stX T sh bk s) := by
  intro X w
  unfold stX
  dsimp only
  split
  · exact aX_E X w
  split
  · exact ⟨(leX_E hb _ w.a).1, (Ex.refl.a).trans (leX_E hb _ w.a).2 (Nat.le_refl _)⟩
  split
  · obtain ⟨b1, b2⟩ := hb (Tl T s) _ (w.a (o := 4) (a := s) (b := 0))
    have b3 := (Ex.refl.a (o := 4) (x := s) (y := 0)).trans b2 (Nat.le_refl _)
    have n1 : Xn X + 1 ≤ Xn (bk (Tl T s) (aX 4 s 0 X)) := b2.1
    generalize bk (Tl T s) (aX 4 s 0 X) = X2 at *
    obtain ⟨d1, d2⟩ := hb ((To T s).getD []) _ (b1.a (o := 5) (a := 0) (b := 0)).ln
    have d3 := ((b3.a (o := 5) (x := 0) (y := 0)).ln (j := Xn X) (t := Xn X2 + 1) (Or.inr (Nat.le_refl _))).trans d2 (Nat.le_refl _)
    exact ⟨d1.ln, d3.ln (Or.inr (by omega))⟩
  split
  · obtain ⟨c, K2, e1, e2, -, -, -, s1, j1, v1, v2, v3⟩ := scp (hb (Tl T s)) (so := 0) (s := s) (g := Xn X + 1) ((w.a (o := 6) (a := s) (b := 8 * s)).a (o := 7) (a := s) (b := 0))
    have n0 : Xn (aX 7 s 0 (aX 6 s (8 * s) X)) = Xn X + 2 := rfl
    generalize bk (Tl T s) (puX 0 s (Xn X + 1) (aX 7 s 0 (aX 6 s (8 * s) X))) = X2 at *
    rw [e2]
    have h0 : Ex 0 X (poX X2) := Ex.trans Ex.refl.a.a v2 (Nat.le_refl _)
    exact ⟨(v1.a.ln).lns, ((h0.a).ln (Or.inr (by omega))).lns (fun j hj => Or.inr (by have := (j1 j hj).1; omega))⟩
  split
  · exact leX_E hb X w
  split
  · exact leX_E hb X w
  split
  · exact aX_E X w
  split
  · exact gdX_E hb X w
  · exact aX_E X w
theorem blX_E : ∀ (m : Nat) (ss : List Nat), fE (blX T sh m ss) := by
  intro m
  induction m with
  | zero => intro ss X w; exact ⟨w, Ex.refl⟩
  | succ m ih =>
    intro ss X w
    unfold blX
    split
    · exact ⟨w, Ex.refl⟩
    · next s r =>
      split
      · exact ⟨w, Ex.refl⟩
      · obtain ⟨a1, a2⟩ := stX_E (T := T) (sh := sh) ih (s := s) _ (w.a (o := 0) (a := s) (b := 0))
        have a3 := (Ex.refl.a (o := 0) (x := s) (y := 0)).trans a2 (Nat.le_refl _)
        exact ⟨(ih r _ a1).1, a3.trans (ih r _ a1).2 (Nat.le_refl _)⟩
end LOWE2
