set_option maxRecDepth 100000
/-! what lowering keeps -/
/-- scopes around stay, get gaps and jumps from n on -/
def kx (n : Nat) (K K' : List Lc) : Prop := match K, K' with
  | [], [] => True
  | c :: K, c' :: K' => c'.1 = c.1 ∧ c'.2.1 = c.2.1 ∧ c'.2.2.1 = c.2.2.1 ∧ (∃ g, cGs c' = cGs c ++ g ∧ ∀ x, x ∈ g → n ≤ x.1) ∧ (∃ j, cJs c' = cJs c ++ j ∧ ∀ x, x ∈ j → n ≤ x) ∧ kx n K K'
  | _, _ => False
theorem kx.refl {n : Nat} : ∀ {K : List Lc}, kx n K K := by
  intro K
  induction K with
  | nil => trivial
  | cons c K ih => exact ⟨rfl, rfl, rfl, ⟨[], (List.append_nil _).symm, fun _ h => nomatch h⟩, ⟨[], (List.append_nil _).symm, fun _ h => nomatch h⟩, ih⟩
theorem kx.trans {n m : Nat} (hm : n ≤ m) : ∀ {K K' K'' : List Lc}, kx n K K' → kx m K' K'' → kx n K K'' := by
  intro K
  induction K with
  | nil =>
    intro K' K'' h g
    cases K' with
    | nil => cases K'' with
      | nil => trivial
      | cons => exact g.elim
    | cons => exact h.elim
  | cons c K ih =>
    intro K' K'' h g
    cases K' with
    | nil => exact h.elim
    | cons c' K' => cases K'' with
      | nil => exact g.elim
      | cons c'' K'' =>
        obtain ⟨h1, h2, h3, ⟨a, h4, h4'⟩, ⟨b, h5, h5'⟩, h6⟩ := h
        obtain ⟨g1, g2, g3, ⟨a2, g4, g4'⟩, ⟨b2, g5, g5'⟩, g6⟩ := g
        refine ⟨g1.trans h1, g2.trans h2, g3.trans h3, ⟨a ++ a2, by rw [g4, h4, List.append_assoc], fun x hx => ?_⟩, ⟨b ++ b2, by rw [g5, h5, List.append_assoc], fun x hx => ?_⟩, ih h6 g6⟩
        · rcases List.mem_append.mp hx with hx | hx
          · exact h4' x hx
          · exact Nat.le_trans hm (g4' x hx)
        · rcases List.mem_append.mp hx with hx | hx
          · exact h5' x hx
          · exact Nat.le_trans hm (g5' x hx)
theorem kx.len {n : Nat} : ∀ {K K' : List Lc}, kx n K K' → K'.length = K.length := by
  intro K
  induction K with
  | nil => intro K' h; cases K' with
    | nil => rfl
    | cons => exact h.elim
  | cons c K ih => intro K' h; cases K' with
    | nil => exact h.elim
    | cons c' K' => exact congrArg (· + 1) (ih h.2.2.2.2.2)
/-- E a X X': what stands in [a, n) stays; rows that come do not meet it -/
def Ex (a : Nat) (X X' : LX) : Prop := Xn X ≤ Xn X' ∧ (∀ i, a ≤ i → i < Xn X → Xo X' i = Xo X i) ∧ (∃ r, Xr X' = Xr X ++ r ∧ ∀ x, x ∈ r → x.2.1 ≤ a ∨ Xn X ≤ x.1) ∧ kx (Xn X) X.2 X'.2
theorem Ex.refl {a : Nat} {X : LX} : Ex a X X := ⟨Nat.le_refl _, fun _ _ _ => rfl, ⟨[], (List.append_nil _).symm, fun _ h => nomatch h⟩, kx.refl⟩
theorem Ex.trans {a b : Nat} {X Y Z : LX} (h : Ex a X Y) (g : Ex b Y Z) (hb : b ≤ a) : Ex a X Z := by
  obtain ⟨h1, h2, ⟨r, h3, h3'⟩, h4⟩ := h
  obtain ⟨g1, g2, ⟨q, g3, g3'⟩, g4⟩ := g
  refine ⟨Nat.le_trans h1 g1, fun i ha hi => (g2 i (by omega) (by omega)).trans (h2 i ha hi), ⟨r ++ q, by rw [g3, h3, List.append_assoc], fun x hx => ?_⟩, h4.trans h1 g4⟩
  rcases List.mem_append.mp hx with hx | hx
  · exact h3' x hx
  · rcases g3' x hx with e | e <;> omega
theorem Ex.le {a b : Nat} {X Y : LX} (h : Ex a X Y) (hab : a ≤ b) : Ex b X Y := by
  obtain ⟨h1, h2, ⟨r, h3, h3'⟩, h4⟩ := h
  exact ⟨h1, fun i ha hi => h2 i (by omega) hi, ⟨r, h3, fun x hx => by rcases h3' x hx with e | e <;> omega⟩, h4⟩
theorem Ex.a {a o x y : Nat} {X Y : LX} (h : Ex a X Y) : Ex a X (aX o x y Y) := by
  obtain ⟨h1, h2, h3, h4⟩ := h
  refine ⟨Nat.le_succ_of_le h1, fun i ha hi => ?_, h3, h4⟩
  show (if i = Xn Y then _ else Xo Y i) = _
  rw [if_neg (by omega)]
  exact h2 i ha hi
theorem Ex.ln {a j t : Nat} {X Y : LX} (h : Ex a X Y) (hj : j < a ∨ Xn X ≤ j) : Ex a X (lnX j t Y) := by
  obtain ⟨h1, h2, h3, h4⟩ := h
  refine ⟨h1, fun i ha hi => ?_, h3, h4⟩
  show (if i = j then _ else Xo Y i) = _
  rw [if_neg (by omega)]
  exact h2 i ha hi
theorem Ex.lns {a t : Nat} {X : LX} : ∀ {js : List Nat} {Y : LX}, Ex a X Y → (∀ j, j ∈ js → j < a ∨ Xn X ≤ j) → Ex a X (lnsX js t Y) := by
  intro js
  induction js with
  | nil => intro Y h _; exact h
  | cons j r ih => intro Y h hj; exact ih (h.ln (hj j (List.mem_cons_self))) (fun k hk => hj k (List.mem_cons_of_mem _ hk))
theorem Ex.co {a c s : Nat} {X Y : LX} (h : Ex a X Y) : Ex a X (coX c s Y) := h
theorem roX_n {f t a sl : Nat} {kd : Int32} {X : LX} : Xn (roX f t a kd sl X) = Xn X ∧ Xo (roX f t a kd sl X) = Xo X ∧ (roX f t a kd sl X).2 = X.2 ∧ Xr (roX f t a kd sl X) = Xr X ++ (if f < t then [(f, t, a, kd, sl)] else []) := by
  unfold roX
  split
  · exact ⟨rfl, rfl, rfl, rfl⟩
  · exact ⟨rfl, rfl, rfl, (List.append_nil _).symm⟩
/-- the rows of a span without gaps -/
def rwL (gs : List (Nat × Nat)) (f t a : Nat) (kd : Int32) (sl : Nat) : List Crw := match gs with
  | [] => if f < t then [(f, t, a, kd, sl)] else []
  | g :: r => (if f < g.1 then [(f, g.1, a, kd, sl)] else []) ++ rwL r g.2 t a kd sl
theorem rwX_n {t a sl : Nat} {kd : Int32} : ∀ {gs : List (Nat × Nat)} {f : Nat} {X : LX}, Xn (rwX gs f t a kd sl X) = Xn X ∧ Xo (rwX gs f t a kd sl X) = Xo X ∧ (rwX gs f t a kd sl X).2 = X.2 ∧ Xr (rwX gs f t a kd sl X) = Xr X ++ rwL gs f t a kd sl := by
  intro gs
  induction gs with
  | nil => intro f X; exact roX_n
  | cons g r ih =>
    intro f X
    obtain ⟨a1, a2, a3, a4⟩ := @ih g.2 (roX f g.1 a kd sl X)
    obtain ⟨b1, b2, b3, b4⟩ := @roX_n f g.1 a sl kd X
    exact ⟨a1.trans b1, a2.trans b2, a3.trans b3, by rw [show rwX (g :: r) f t a kd sl X = rwX r g.2 t a kd sl (roX f g.1 a kd sl X) from rfl, a4, b4, List.append_assoc]; rfl⟩
/-- gaps in order within [f, t] -/
def srt (f : Nat) (gs : List (Nat × Nat)) (t : Nat) : Prop := match gs with
  | [] => f ≤ t
  | g :: r => f ≤ g.1 ∧ g.1 ≤ g.2 ∧ srt g.2 r t
theorem srt_le : ∀ {gs : List (Nat × Nat)} {f t : Nat}, srt f gs t → f ≤ t := by
  intro gs
  induction gs with
  | nil => intro f t h; exact h
  | cons g r ih => intro f t h; have := ih h.2.2; have := h.1; have := h.2.1; omega
theorem srt_to : ∀ {gs : List (Nat × Nat)} {f t t' : Nat}, srt f gs t → t ≤ t' → srt f gs t' := by
  intro gs
  induction gs with
  | nil => intro f t t' h g; exact Nat.le_trans h g
  | cons g r ih => intro f t t' h k; exact ⟨h.1, h.2.1, ih h.2.2 k⟩
theorem srt_add : ∀ {gs : List (Nat × Nat)} {f t a b : Nat}, srt f gs t → t ≤ a → a ≤ b → srt f (gs ++ [(a, b)]) b := by
  intro gs
  induction gs with
  | nil => intro f t a b h h1 h2; exact ⟨Nat.le_trans h h1, h2, Nat.le_refl _⟩
  | cons g r ih => intro f t a b h h1 h2; exact ⟨h.1, h.2.1, ih h.2.2 h1 h2⟩
theorem srt_mem : ∀ {gs : List (Nat × Nat)} {f t : Nat}, srt f gs t → ∀ x, x ∈ gs → f ≤ x.1 ∧ x.1 ≤ x.2 ∧ x.2 ≤ t := by
  intro gs
  induction gs with
  | nil => intro f t _ x hx; cases hx
  | cons g r ih =>
    intro f t h x hx
    obtain ⟨h1, h2, h3⟩ := h
    rcases List.mem_cons.mp hx with rfl | hx
    · exact ⟨h1, h2, srt_le h3⟩
    · have := ih h3 x hx
      exact ⟨by omega, this.2⟩
theorem srt_from {gs : List (Nat × Nat)} {f f' t : Nat} (h : srt f gs t) (g : ∀ x, x ∈ gs → f' ≤ x.1) (ht : f' ≤ t) : srt f' gs t := by
  cases gs with
  | nil => exact ht
  | cons a r => exact ⟨g a List.mem_cons_self, h.2.1, h.2.2⟩
theorem rwL_in {t a sl : Nat} {kd : Int32} : ∀ {gs : List (Nat × Nat)} {f : Nat}, srt f gs t → ∀ x, x ∈ rwL gs f t a kd sl → f ≤ x.1 ∧ x.2.1 ≤ t := by
  intro gs
  induction gs with
  | nil =>
    intro f h x hx
    unfold rwL at hx
    split at hx
    · rcases List.mem_singleton.mp hx with rfl
      exact ⟨Nat.le_refl _, Nat.le_refl _⟩
    · cases hx
  | cons g r ih =>
    intro f h x hx
    obtain ⟨h1, h2, h3⟩ := h
    have h4 := srt_le h3
    rcases List.mem_append.mp hx with hx | hx
    · split at hx
      · rcases List.mem_singleton.mp hx with rfl
        exact ⟨Nat.le_refl _, by show g.1 ≤ t; omega⟩
      · cases hx
    · have := ih h3 x hx
      exact ⟨by omega, this.2⟩
theorem Ex.rw {a t b sl : Nat} {kd : Int32} {gs : List (Nat × Nat)} {f : Nat} {X Y : LX} (h : Ex a X Y) (hs : srt f gs t) (ho : t ≤ a ∨ Xn X ≤ f) : Ex a X (rwX gs f t b kd sl Y) := by
  obtain ⟨h1, h2, ⟨r, h3, h3'⟩, h4⟩ := h
  obtain ⟨e1, e2, e3, e4⟩ := @rwX_n t b sl kd gs f Y
  refine ⟨by rw [e1]; exact h1, fun i ha hi => by rw [e2]; exact h2 i ha hi, ⟨r ++ rwL gs f t b kd sl, by rw [e4, h3, List.append_assoc], fun x hx => ?_⟩, by rw [e3]; exact h4⟩
  rcases List.mem_append.mp hx with hx | hx
  · exact h3' x hx
  · have := rwL_in hs x hx
    rcases ho with e | e <;> omega
/-! where a row takes -/
def gIn (gs : List (Nat × Nat)) (pc : Nat) : Bool := gs.any (fun g => decide (g.1 ≤ pc) && decide (pc < g.2))
theorem gIn_c {g : Nat × Nat} {r : List (Nat × Nat)} {pc : Nat} : gIn (g :: r) pc = ((decide (g.1 ≤ pc) && decide (pc < g.2)) || gIn r pc) := rfl
theorem gIn_out {gs : List (Nat × Nat)} {f t pc : Nat} (h : srt f gs t) (hp : pc < f ∨ t ≤ pc) : gIn gs pc = false := by
  unfold gIn
  rw [List.any_eq_false]
  intro x hx
  have := srt_mem h x hx
  simp
  omega
theorem hlr_out {T : Pg} {pc : Nat} {k : Int32} {later : List Crw} : ∀ {r : List Crw}, (∀ x, x ∈ r → x.2.1 ≤ pc ∨ pc < x.1) → hlr T (r ++ later) pc k = hlr T later pc k := by
  intro r
  induction r with
  | nil => intro _; rfl
  | cons x r ih =>
    intro h
    have h0 := h x List.mem_cons_self
    rw [List.cons_append, hlr, if_neg (by omega)]
    exact ih (fun y hy => h y (List.mem_cons_of_mem _ hy))
theorem hlr_one {T : Pg} {pc f t a sl : Nat} {kd k : Int32} {later : List Crw} (h : f ≤ pc ∧ pc < t) : hlr T ([(f, t, a, kd, sl)] ++ later) pc k = if kd = NN ∨ und T 16 k.toNatClampNeg kd.toNatClampNeg = true then some (a, sl) else hlr T later pc k := by
  show (if f ≤ pc ∧ pc < t ∧ (kd = NN ∨ und T 16 k.toNatClampNeg kd.toNatClampNeg = true) then some (a, sl) else hlr T later pc k) = _
  by_cases c : kd = NN ∨ und T 16 k.toNatClampNeg kd.toNatClampNeg = true
  · rw [if_pos ⟨h.1, h.2, c⟩, if_pos c]
  · rw [if_neg (fun e => c e.2.2), if_neg c]
theorem hlr_rw {T : Pg} {t a sl pc : Nat} {kd k : Int32} {later : List Crw} : ∀ {gs : List (Nat × Nat)} {f : Nat}, srt f gs t → f ≤ pc → pc < t → hlr T (rwL gs f t a kd sl ++ later) pc k = if gIn gs pc = true then hlr T later pc k else if kd = NN ∨ und T 16 k.toNatClampNeg kd.toNatClampNeg = true then some (a, sl) else hlr T later pc k := by
  intro gs
  induction gs with
  | nil =>
    intro f h h1 h2
    unfold rwL
    rw [if_pos (by omega), hlr_one ⟨h1, h2⟩]
    rfl
  | cons g r ih =>
    intro f h h1 h2
    obtain ⟨s1, s2, s3⟩ := h
    unfold rwL
    rw [List.append_assoc, gIn_c]
    by_cases c1 : pc < g.1
    · have e1 : gIn r pc = false := gIn_out s3 (Or.inl (by omega))
      rw [if_pos (by omega), hlr_one ⟨h1, c1⟩, hlr_out (fun x hx => Or.inr (by have := rwL_in s3 x hx; omega)), e1]
      have : (decide (g.1 ≤ pc) && decide (pc < g.2) || false) = false := by simp; omega
      rw [this]
      rfl
    · rw [hlr_out (fun x hx => ?_)]
      · by_cases c2 : pc < g.2
        · rw [hlr_out (fun x hx => Or.inr (by have := rwL_in s3 x hx; omega))]
          have : (decide (g.1 ≤ pc) && decide (pc < g.2) || gIn r pc) = true := by simp; omega
          rw [this]
          rfl
        · rw [ih s3 (by omega) h2]
          have : (decide (g.1 ≤ pc) && decide (pc < g.2)) = false := by simp; omega
          rw [this, Bool.false_or]
      · split at hx
        · rcases List.mem_singleton.mp hx with rfl
          exact Or.inl (by show g.1 ≤ pc; omega)
        · cases hx
