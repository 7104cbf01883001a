set_option maxRecDepth 100000
/-! what a book keeps -/
theorem bPass_o {k : Nat} {B : Bk} {x y : Nat} (h : 14 ≤ x) : (bPass k B).2 x y = B.2 x y := by
  unfold bPass
  have h1 : ¬ (x = 12 ∧ y = k) := by omega
  by_cases c : B.1 13 < 60
  · simp only [if_pos c, b1, b2]
    rw [if_neg (by omega), if_neg (by omega), if_neg (by omega)]
  · simp only [if_neg c, b2]
    rw [if_neg h1]
theorem bMakes_o {k c : Int32} {B : Bk} {x y : Nat} (h : 10 ≤ x) : (bMakes k c B).2 x y = B.2 x y := by
  unfold bMakes
  dsimp only
  rw [if_neg (by omega), if_neg (by omega)]
def vK (B : Bk) (v : Int32) : Prop := ∃ f, v = nI f ∧ f < B.1 4
def vD (k : Int32) : Prop := ∃ j, k = nI j ∧ j < 16
def vN (B : Bk) (f : Nat) (v : Int32) : Prop := v = NN ∨ ∃ g, v = nI g ∧ f < g ∧ g < B.1 4
def vR (B : Bk) (v : Int32) : Prop := v = NN ∨ ∃ n, v = nI n ∧ n < B.1 12
def Iv (x3 x4 x5 x6 x12 : Nat) (B : Bk) : Prop :=
  (B.1 11 ≤ 400 ∧ B.1 9 ≤ B.1 11 ∧ B.1 3 + x3 ≤ B.1 9 ∧ B.1 4 + x4 ≤ B.1 9 ∧ B.1 5 + x5 ≤ B.1 9 ∧ B.1 6 + x6 ≤ B.1 9 ∧ B.1 12 + x12 ≤ B.1 9 ∧ B.1 13 ≤ 60 ∧ 1 ≤ B.1 10 ∧ B.1 10 ≤ 12 ∧ B.1 8 ≤ 12) ∧
  (∀ f, f < B.1 4 → vD (B.2 3 f) ∧ vN B f (B.2 5 f) ∧ vN B f (B.2 6 f)) ∧
  (∀ d i, d < B.1 10 → i < 3 → vR B (B.2 (20 + 4 * d) i)) ∧ ∀ n, n < B.1 12 → ∃ z, B.2 14 n = nI z ∧ z ≤ 8
theorem Iv.wk {x3 x4 x5 x6 x12 y3 y4 y5 y6 y12 : Nat} {B : Bk} (h : Iv x3 x4 x5 x6 x12 B) (h3 : y3 ≤ x3) (h4 : y4 ≤ x4) (h5 : y5 ≤ x5) (h6 : y6 ≤ x6) (h12 : y12 ≤ x12) : Iv y3 y4 y5 y6 y12 B := by
  obtain ⟨⟨a1, a2, a3, a4, a5, a6, a7, a8⟩, b⟩ := h
  exact ⟨⟨a1, a2, by omega, by omega, by omega, by omega, by omega, a8⟩, b⟩
theorem Iv.z {x3 x4 x5 x6 x12 : Nat} {B : Bk} (h : Iv x3 x4 x5 x6 x12 B) : Iv 0 0 0 0 0 B := h.wk (Nat.zero_le _) (Nat.zero_le _) (Nat.zero_le _) (Nat.zero_le _) (Nat.zero_le _)
/-- counters as they are but 3 5 6 7 9 13, rows as they are where it matters -/
theorem Iv.of {x3 x4 x5 x6 x12 y3 y4 y5 y6 y12 : Nat} {B B' : Bk} (h : Iv x3 x4 x5 x6 x12 B) (e4 : B'.1 4 = B.1 4) (e10 : B'.1 10 = B.1 10) (e12 : B'.1 12 = B.1 12) (e8 : B'.1 8 = B.1 8) (e11 : B'.1 11 = B.1 11) (c : B'.1 9 ≤ B'.1 11 ∧ B'.1 3 + y3 ≤ B'.1 9 ∧ B'.1 4 + y4 ≤ B'.1 9 ∧ B'.1 5 + y5 ≤ B'.1 9 ∧ B'.1 6 + y6 ≤ B'.1 9 ∧ B'.1 12 + y12 ≤ B'.1 9 ∧ B'.1 13 ≤ 60)
    (r : ∀ o i, (o = 3 ∨ o = 5 ∨ o = 6 ∨ o = 14 ∨ (20 ≤ o ∧ o % 4 = 0)) → B'.2 o i = B.2 o i) : Iv y3 y4 y5 y6 y12 B' := by
  obtain ⟨⟨a1, a2, a3, a4, a5, a6, a7, a8, a9, a10, a11⟩, b1, b2, b3⟩ := h
  refine ⟨⟨by omega, c.1, c.2.1, c.2.2.1, c.2.2.2.1, c.2.2.2.2.1, c.2.2.2.2.2.1, c.2.2.2.2.2.2, by omega, by omega, by omega⟩, fun f hf => ?_, fun d i hd hi => ?_, fun n hn => ?_⟩
  · rw [r 3 f (by omega), r 5 f (by omega), r 6 f (by omega)]
    rw [e4] at hf
    obtain ⟨q1, q2, q3⟩ := b1 f hf
    refine ⟨q1, ?_, ?_⟩
    · unfold vN at q2 ⊢; rw [e4]; exact q2
    · unfold vN at q3 ⊢; rw [e4]; exact q3
  · rw [r _ i (by omega)]
    unfold vR
    rw [e12]
    exact b2 d i (by omega) hi
  · rw [r 14 n (by omega)]
    exact b3 n (by omega)
theorem Iv.s2 {x3 x4 x5 x6 x12 : Nat} {B : Bk} (h : Iv x3 x4 x5 x6 x12 B) {o i : Nat} {v : Int32} (ho : o ≠ 3 ∧ o ≠ 5 ∧ o ≠ 6 ∧ o ≠ 14 ∧ (o < 20 ∨ o % 4 ≠ 0)) : Iv x3 x4 x5 x6 x12 (b2 B o i v) := by
  have h0 := h
  obtain ⟨⟨a1, a2, a3, a4, a5, a6, a7, a8, -⟩, -⟩ := h
  refine h0.of rfl rfl rfl rfl rfl ⟨a2, a3, a4, a5, a6, a7, a8⟩ (fun o' i' ho' => ?_)
  show (if o' = o ∧ i' = i then v else B.2 o' i') = _
  rw [if_neg (by omega)]
theorem Iv.sat {x3 x4 x5 x6 x12 : Nat} {B : Bk} (h : Iv x3 x4 x5 x6 x12 B) {v : Int32} : Iv x3 x4 x5 x6 x12 (b2 B (oAt B) 0 v) := h.s2 (by have := h.1; unfold oAt; omega)
theorem Iv.stp {B : Bk} (h : Iv 0 0 0 0 0 B) (hs : ¬ isSpent B = true) : Iv 1 1 1 1 1 (bStp B) := by
  have hl := isSpent_no hs h.1.2.1
  have h0 := h
  obtain ⟨⟨a1, a2, a3, a4, a5, a6, a7, a8, -⟩, -⟩ := h
  exact h0.of rfl rfl rfl rfl rfl ⟨hl, by show B.1 3 + 1 ≤ B.1 9 + 1; omega, by show B.1 4 + 1 ≤ B.1 9 + 1; omega, by show B.1 5 + 1 ≤ B.1 9 + 1; omega, by show B.1 6 + 1 ≤ B.1 9 + 1; omega, by show B.1 12 + 1 ≤ B.1 9 + 1; omega, a8⟩ (fun _ _ _ => rfl)
theorem Iv.pass {x3 x4 x5 x6 x12 k : Nat} {B : Bk} (h : Iv x3 x4 x5 x6 x12 B) : Iv x3 x4 x5 x6 x12 (bPass k B) := by
  have h0 := h
  obtain ⟨⟨a1, a2, a3, a4, a5, a6, a7, a8, -⟩, -⟩ := h
  by_cases c : B.1 13 < 60
  · have e : bPass k B = b1 (b2 (b2 (b2 B 12 k (B.2 12 k + 1)) 13 (2 * B.1 13) (nI k)) 13 (2 * B.1 13 + 1) (B.2 12 k + 1)) 13 (B.1 13 + 1) := by unfold bPass; simp only [if_pos c]
    rw [e]
    refine h0.of rfl rfl rfl rfl rfl ⟨a2, a3, a4, a5, a6, a7, c⟩ (fun o i ho => ?_)
    simp only [b1, b2]
    rw [if_neg (by omega), if_neg (by omega), if_neg (by omega)]
  · have e : bPass k B = b2 B 12 k (B.2 12 k + 1) := by unfold bPass; simp only [if_neg c]
    rw [e]
    exact h0.s2 (by omega)
theorem Iv.makes {x3 x4 x5 x6 x12 : Nat} {B : Bk} {k c : Int32} (h : Iv x3 (x4 + 1) x5 x6 x12 B) (hk : vD k) : Iv x3 x4 x5 x6 x12 (bMakes k c B) ∧ (bMakes k c B).1 4 = B.1 4 + 1 := by
  obtain ⟨⟨a1, a2, a3, a4, a5, a6, a7, a8, a9, a10, a11⟩, b1, b2, b3⟩ := h
  have e4 : (bMakes k c B).1 4 = B.1 4 + 1 := by simp [bMakes]
  have eo : ∀ x, x < 100 → x ≠ 4 → (bMakes k c B).1 x = B.1 x := by
    intro x hx h4
    simp only [bMakes]
    rw [if_neg h4, if_neg (by omega)]
  have e3 := eo 3 (by omega) (by omega)
  have e5 := eo 5 (by omega) (by omega)
  have e6 := eo 6 (by omega) (by omega)
  have e8 := eo 8 (by omega) (by omega)
  have e9 := eo 9 (by omega) (by omega)
  have e10 := eo 10 (by omega) (by omega)
  have e11 := eo 11 (by omega) (by omega)
  have e12 := eo 12 (by omega) (by omega)
  have e13 := eo 13 (by omega) (by omega)
  refine ⟨⟨⟨by omega, by omega, by omega, by omega, by omega, by omega, by omega, by omega, by omega, by omega, by omega⟩, fun f hf => ?_, fun d i hd hi => ?_, fun n hn => ?_⟩, e4⟩
  · by_cases ef : f = B.1 4
    · subst ef
      have r3 : (bMakes k c B).2 3 (B.1 4) = k := by simp [bMakes]
      have r5 : (bMakes k c B).2 5 (B.1 4) = NN := by simp [bMakes]
      have r6 : (bMakes k c B).2 6 (B.1 4) = NN := by simp [bMakes]
      rw [r3, r5, r6]
      exact ⟨hk, Or.inl rfl, Or.inl rfl⟩
    · have rr : ∀ o, 3 ≤ o → o ≤ 8 → (bMakes k c B).2 o f = B.2 o f := by
        intro o h1 h2
        simp only [bMakes]
        rw [if_neg (by omega), if_neg (by omega)]
      rw [rr 3 (by omega) (by omega), rr 5 (by omega) (by omega), rr 6 (by omega) (by omega)]
      obtain ⟨q1, q2, q3⟩ := b1 f (by omega)
      refine ⟨q1, ?_, ?_⟩
      · rcases q2 with q2 | ⟨g, g1, g2, g3⟩
        · exact Or.inl q2
        · exact Or.inr ⟨g, g1, g2, by omega⟩
      · rcases q3 with q3 | ⟨g, g1, g2, g3⟩
        · exact Or.inl q3
        · exact Or.inr ⟨g, g1, g2, by omega⟩
  · rw [bMakes_o (by omega)]
    unfold vR
    rw [e12]
    exact b2 d i (by omega) hi
  · rw [bMakes_o (by omega)]
    exact b3 n (by omega)
/-- the end of a chain -/
theorem lst_lt {B : Bk} {m : Nat} (hc : ∀ f, f < m → B.2 6 f = NN ∨ ∃ g, B.2 6 f = nI g ∧ f < g ∧ g < m) (hm : m < 2147483648) : ∀ (n k : Nat), k < m → k ≤ lst B n k ∧ lst B n k < m ∧ (m - k ≤ n + 1 → B.2 6 (lst B n k) = NN) := by
  intro n
  induction n with
  | zero =>
    intro k hk
    refine ⟨Nat.le_refl _, hk, fun h => ?_⟩
    rcases hc k hk with e | ⟨g, e, e1, e2⟩
    · exact e
    · omega
  | succ n ih =>
    intro k hk
    unfold lst
    rcases hc k hk with e | ⟨g, e, e1, e2⟩
    · rw [if_pos e]
      exact ⟨Nat.le_refl _, hk, fun _ => e⟩
    · rw [if_neg (by rw [e, n_NN (by omega)]; exact id), e, nI_clamp (by omega)]
      obtain ⟨i1, i2, i3⟩ := ih g e2
      exact ⟨by omega, i2, fun h => i3 (by omega)⟩
theorem Iv.sup {x3 x4 x5 x6 x12 : Nat} {B : Bk} {f g : Nat} (h : Iv x3 x4 x5 x6 x12 B) (hg : g + 1 = B.1 4) (hf : f < g) (hch : ∀ x, x < g → (B.2 5 x = NN ∨ ∃ y, B.2 5 x = nI y ∧ x < y ∧ y < g) ∧ (B.2 6 x = NN ∨ ∃ y, B.2 6 x = nI y ∧ x < y ∧ y < g)) : Iv x3 x4 x5 x6 x12 (bSup f (nI g) B) := by
  obtain ⟨⟨a1, a2, a3, a4, a5, a6, a7, a8, a9, a10, a11⟩, b1, b2', b3⟩ := h
  have key : ∀ o l, (o = 5 ∨ o = 6) → l < g → Iv x3 x4 x5 x6 x12 (b2 B o l (nI g)) := by
    intro o l ho hl
    refine ⟨⟨a1, a2, a3, a4, a5, a6, a7, a8, a9, a10, a11⟩, fun x hx => ?_, fun d i hd hi => ?_, fun n hn => ?_⟩
    · obtain ⟨q1, q2, q3⟩ := b1 x hx
      refine ⟨?_, ?_, ?_⟩
      · show vD (if 3 = o ∧ x = l then _ else B.2 3 x)
        rw [if_neg (by omega)]
        exact q1
      · show vN B x (if 5 = o ∧ x = l then nI g else B.2 5 x)
        split
        · exact Or.inr ⟨g, rfl, by omega, by omega⟩
        · exact q2
      · show vN B x (if 6 = o ∧ x = l then nI g else B.2 6 x)
        split
        · exact Or.inr ⟨g, rfl, by omega, by omega⟩
        · exact q3
    · show vR B (if 20 + 4 * d = o ∧ i = l then _ else B.2 (20 + 4 * d) i)
      rw [if_neg (by omega)]
      exact b2' d i hd hi
    · show ∃ z, (if 14 = o ∧ n = l then _ else B.2 14 n) = nI z ∧ z ≤ 8
      rw [if_neg (by omega)]
      exact b3 n hn
  unfold bSup
  split
  · exact key 5 f (Or.inl rfl) hf
  · next hne =>
    rcases (hch f hf).1 with e | ⟨y, e, e1, e2⟩
    · exact absurd e hne
    · rw [e, nI_clamp (by omega)]
      exact key 6 _ (Or.inr rfl) ((lst_lt (m := g) (fun x hx => (hch x hx).2) (by omega) (B.1 4) y e2).2.1)
def ivR (B : Bk) (r : Rs) : Prop := r.1 ≠ 5 → Iv 0 0 0 0 0 r.2.2 ∧ B.1 4 ≤ r.2.2.1 4 ∧ (r.1 = 4 → vK r.2.2 r.2.1)
def vPl (pl : Nat → Int32 → Int32) : Prop := ∀ k t, pl k t = NN ∨ vD (pl k t)
theorem vK.mono {B B' : Bk} {v : Int32} (h : vK B v) (e : B.1 4 ≤ B'.1 4) : vK B' v := by
  obtain ⟨f, h1, h2⟩ := h
  exact ⟨f, h1, by omega⟩
theorem vD_n {j : Nat} (h : j < 16) : vD (nI j) := ⟨j, rfl, h⟩
theorem sFail_iv {x3 x4 x5 x6 x12 : Nat} {B : Bk} {k : Int32} (h : Iv x3 (x4 + 1) x5 x6 x12 B) (hk : vD k) : ivR B (sFail k B) := fun _ => ⟨(h.makes hk).1.z, by show B.1 4 ≤ (bMakes k NN B).1 4; rw [(h.makes hk).2]; omega, fun _ => ⟨B.1 4, rfl, by show B.1 4 < (bMakes k NN B).1 4; rw [(h.makes hk).2]; omega⟩⟩
theorem ivR.from {B B0 : Bk} {r : Rs} (h : ivR B0 r) (e : B.1 4 ≤ B0.1 4) : ivR B r := fun h5 => ⟨(h h5).1, Nat.le_trans e (h h5).2.1, (h h5).2.2⟩
theorem bPass_4 {k : Nat} {B : Bk} : (bPass k B).1 4 = B.1 4 := by
  unfold bPass
  by_cases h : B.1 13 < 60 <;> simp [h, b1, b2]
theorem Iv.s5 {x3 x4 x6 x12 : Nat} {B : Bk} (h : Iv x3 x4 1 x6 x12 B) : Iv x3 x4 0 x6 x12 (b1 B 5 (B.1 5 + 1)) := by
  have h0 := h
  obtain ⟨⟨a1, a2, a3, a4, a5, a6, a7, a8, -⟩, -⟩ := h
  exact h0.of rfl rfl rfl rfl rfl ⟨a2, a3, a4, a5, a6, a7, a8⟩ (fun _ _ _ => rfl)
theorem Iv.s6 {x3 x4 x5 x12 : Nat} {B : Bk} (h : Iv x3 x4 x5 1 x12 B) : Iv x3 x4 x5 0 x12 (b1 B 6 (B.1 6 + 1)) := by
  have h0 := h
  obtain ⟨⟨a1, a2, a3, a4, a5, a6, a7, a8, -⟩, -⟩ := h
  exact h0.of rfl rfl rfl rfl rfl ⟨a2, a3, a4, a5, a6, a7, a8⟩ (fun _ _ _ => rfl)
theorem Iv.s3 {x4 x5 x6 x12 : Nat} {B : Bk} (h : Iv 1 x4 x5 x6 x12 B) : Iv 0 x4 x5 x6 x12 (b1 B 3 (B.1 3 + 1)) := by
  have h0 := h
  obtain ⟨⟨a1, a2, a3, a4, a5, a6, a7, a8, -⟩, -⟩ := h
  exact h0.of rfl rfl rfl rfl rfl ⟨a2, a3, a4, a5, a6, a7, a8⟩ (fun _ _ _ => rfl)
theorem Iv.s7 {x3 x4 x5 x6 x12 v : Nat} {B : Bk} (h : Iv x3 x4 x5 x6 x12 B) : Iv x3 x4 x5 x6 x12 (b1 B 7 v) := by
  have h0 := h
  obtain ⟨⟨a1, a2, a3, a4, a5, a6, a7, a8, -⟩, -⟩ := h
  exact h0.of rfl rfl rfl rfl rfl ⟨a2, a3, a4, a5, a6, a7, a8⟩ (fun _ _ _ => rfl)
theorem sOpens_iv {pl : Nat → Int32 → Int32} (hp : vPl pl) {s : Nat} : ∀ (n i : Nat) (B : Bk), Iv 0 0 0 0 0 B → ivR B (sOpens pl s n i B).2 := by
  intro n
  induction n with
  | zero => intro i B h _; exact ⟨h, Nat.le_refl _, fun e => absurd e (show ¬ (0 : Nat) = 4 from by decide)⟩
  | succ n ih =>
    intro i B h
    unfold sOpens
    split
    · exact fun h5 => absurd rfl h5
    · next hs =>
      have h1 := h.stp hs
      have h2 : Iv 1 1 1 1 1 (bPass (7 * s + 1 + i) (bStp B)) := h1.pass
      have e4 : (bPass (7 * s + 1 + i) (bStp B)).1 4 = B.1 4 := bPass_4
      dsimp only
      split
      · refine (ih (i + 1) _ h2.s5.z).from ?_
        show B.1 4 ≤ (bPass (7 * s + 1 + i) (bStp B)).1 4
        omega
      · next hk =>
        exact (sFail_iv h2 ((hp _ _).resolve_left hk)).from (by omega)
theorem sCl_iv {pl : Nat → Int32 → Int32} (hp : vPl pl) {s o : Nat} : ∀ (n p : Nat) (v : Int32) (B : Bk), Iv 0 0 0 0 0 B → (p = 4 → vK B v) → ivR B (sCl pl s o n p v B) := by
  intro n
  induction n with
  | zero => intro p v B h hv _; exact ⟨h, Nat.le_refl _, fun e => hv e⟩
  | succ n ih =>
    intro p v B h hv
    unfold sCl
    split
    · exact fun h5 => absurd rfl h5
    · next hs =>
      have h1 := h.stp hs
      dsimp only
      have h2 : Iv 1 1 1 0 1 (bPass (7 * s + 4 + n) (b1 (b2 (bStp B) 10 ((bStp B).1 6) (nI (o + n))) 6 ((bStp B).1 6 + 1))) := ((h1.s2 (o := 10) (i := (bStp B).1 6) (v := nI (o + n)) (by omega)).s6).pass
      have e4 : (bPass (7 * s + 4 + n) (b1 (b2 (bStp B) 10 ((bStp B).1 6) (nI (o + n))) 6 ((bStp B).1 6 + 1))).1 4 = B.1 4 := bPass_4
      generalize bPass (7 * s + 4 + n) (b1 (b2 (bStp B) 10 ((bStp B).1 6) (nI (o + n))) 6 ((bStp B).1 6 + 1)) = B2 at *
      split
      · exact (ih p v B2 h2.z (fun e => (hv e).mono (by omega))).from (by omega)
      · next hk =>
        have hd := (hp (7 * s + 4 + n) (B2.2 12 (7 * s + 4 + n))).resolve_left hk
        have m1 := h2.makes (c := NN) hd
        split
        · next hp4 =>
          obtain ⟨f, rfl, hf⟩ := hv hp4
          have hb := h2.1
          have hch := h2.2.1
          have m2 : Iv 1 0 1 0 1 (bSup f (nI (B2.1 4)) (bMakes (pl (7 * s + 4 + n) (B2.2 12 (7 * s + 4 + n))) NN B2)) := by
            refine m1.1.sup (by rw [m1.2]) (by omega) (fun x hx => ?_)
            have r5 : ∀ o, 3 ≤ o → o ≤ 8 → (bMakes (pl (7 * s + 4 + n) (B2.2 12 (7 * s + 4 + n))) NN B2).2 o x = B2.2 o x := by
              intro o h1 h2
              simp only [bMakes]
              rw [if_neg (by omega), if_neg (by omega)]
            rw [r5 5 (by omega) (by omega), r5 6 (by omega) (by omega)]
            exact ⟨(hch x hx).2.1, (hch x hx).2.2⟩
          rw [nI_clamp (by omega)]
          refine (ih 4 (nI f) _ m2.z (fun _ => ⟨f, rfl, ?_⟩)).from ?_
          · rw [bSup_c, m1.2]; omega
          · rw [bSup_c, m1.2]; omega
        · refine (ih 4 _ _ m1.1.z (fun _ => ⟨B2.1 4, rfl, by rw [m1.2]; omega⟩)).from (by rw [m1.2]; omega)
