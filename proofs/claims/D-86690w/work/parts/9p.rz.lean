set_option maxRecDepth 100000
theorem PR.kq {P : Nat → Prop} {c u : Nat} {G G' : XG} {p : Nat} (h : PR G p) (k : KQ P c u G G') (hp : ∀ f, 1020 ≤ f → f ≤ 1024 → Gfr G' f p = Gfr G f p) : PR G' p := by
  obtain ⟨h1, h2, h3, h4, h5, h6, h7, h8, h9, h10, h11, h12, h13, h14, h15, h16, h17⟩ := h
  have q := k.2.2.2.2.1
  have kt := k.2.1
  unfold PR
  rw [hp 1020 (by omega) (by omega), hp 1021 (by omega) (by omega), hp 1022 (by omega) (by omega), hp 1023 (by omega) (by omega), hp 1024 (by omega) (by omega), (q p (by omega)).1, (q (p + 1) (by omega)).1, (q (p + 1) (by omega)).2, (q (p + 2) (by omega)).1, (q (p + 2) (by omega)).2, (q (p + 3) (by omega)).1, (q (p + 3) (by omega)).2, (q (p + 4) (by omega)).1, (q (p + 4) (by omega)).2, (q (p + 5) (by omega)).1, (q (p + 5) (by omega)).2]
  exact ⟨h1, h2, h3, h4, h5, h6, h7, h8, h9, h10, h11, h12, h13, h14, h15, h16, by omega⟩
theorem PR.t {G : XG} {p : Nat} (h : PR G p) : p + 6 ≤ Gtp G := h.2.2.2.2.2.2.2.2.2.2.2.2.2.2.2.2
theorem RY.kq {P : Nat → Prop} {G G' : XG} {R p nk nm b cc u : Nat} {A : Nat → Nat} {c : Cx} {Z : Zs} (h : RY G R p nk nm A b c Z) (k1 : KQ P cc u G G') (hp : ∀ a, P a → a = R ∨ p + 6 ≤ a) (k2 : ∀ f, f ≠ 5 → Gfi G' f R = Gfi G f R) (k3 : ∀ f, Gfr G' f R = Gfr G f R) : RY G' R p nk nm A b c Z := by
  obtain ⟨h1, h2, h3, h4, h5, h6, h7, h8, h9, h10, h11, h12, h13, h14⟩ := h
  have ht := h1.t
  have hn : ∀ a, a ≠ R → a < p + 6 → ¬ P a := fun a e1 e2 q => by have := hp a q; omega
  have q := k1.2.2.2.2.2
  have qp := (q p (by omega) (hn _ (by omega) (by omega))).1
  have q4 := (q (p + 4) (by omega) (hn _ (by omega) (by omega))).2
  have q5 := (q (p + 5) (by omega) (hn _ (by omega) (by omega))).2
  have r2 := (q (R + 2) (by omega) (hn _ (by omega) (by omega))).2
  have r3 := (q (R + 3) (by omega) (hn _ (by omega) (by omega))).2
  refine ⟨h1.kq k1 (fun f _ _ => (qp f).2), h2, (k2 7 (by omega)).trans h3, (k2 6 (by omega)).trans h4, (k2 8 (by omega)).trans h5, (k3 1016).trans h6, (k2 9 (by omega)).trans h7, ⟨(k2 11 (by omega)).trans h8.1, fun i x hx => ⟨(r2 i).1.trans (h8.2 i x hx).1, (r3 i).1.trans (h8.2 i x hx).2.1, (h8.2 i x hx).2.2⟩⟩, (k2 10 (by omega)).trans h9, (qp 12).1.trans h10, (qp 13).1.trans h11, (qp 14).1.trans h12, ⟨(qp 15).1.trans h13.1, fun i x hx => ⟨(q4 i).2.1.trans (h13.2 i x hx).1, (q5 i).1.trans (h13.2 i x hx).2⟩⟩, h14⟩
theorem RY.sk {G G' : XG} {R p nk nm b cc u : Nat} {A : Nat → Nat} {c : Cx} {Z : Zs} (h : RY G R p nk nm A b c Z) (k : sK R cc u G G') : RY G' R p nk nm A b c Z := h.kq k.1 (fun _ q => .inl q) k.2.1 k.2.2
theorem RY.kf {P : Nat → Prop} {G G' : XG} {R p nk nm b cc u : Nat} {A : Nat → Nat} {c : Cx} {Z : Zs} (h : RY G R p nk nm A b c Z) (k : KQ P cc u G G') (hp : ∀ a, P a → p + 6 ≤ a) : RY G' R p nk nm A b c Z := by
  have ht := h.1.t
  have hRp := h.2.1
  have q := (k.2.2.2.2.2 R (by omega) (fun q => by have := hp R q; omega)).1
  exact h.kq k (fun a q => .inr (hp a q)) (fun f _ => (q f).1) (fun f => (q f).2)
theorem RY.A {G : XG} {R p nk nm b n : Nat} {A A' : Nat → Nat} {c : Cx} {Z : Zs} (h : RY G R p nk nm A b c Z) (ha : ∀ x, x < n → A' x = A x) (hc : c.1 = 999 ∨ c.1 < n) (hh : ∀ x, x ∈ zh Z → x.1 < n) : RY G R p nk nm A' b c Z := by
  obtain ⟨h1, h2, h3, h4, h5, h6, h7, h8, h9, h10, h11, h12, h13, h14⟩ := h
  refine ⟨h1, h2, h3, h4, h5, ?_, h7, h8, h9, h10, h11, h12, ⟨h13.1, fun i x hx => ⟨?_, (h13.2 i x hx).2⟩⟩, h14⟩
  · rw [h6]
    by_cases e : c.1 = 999
    · rw [if_pos e, if_pos e]
    · rw [if_neg e, if_neg e, ha c.1 (by omega)]
  · rw [ha x.1 (hh x (List.mem_of_getElem? hx))]
    exact (h13.2 i x hx).1
/-! lower bounds, addresses -/
theorem NR.lo {G : XG} {lo lo' f z : Nat} {es : List En} (hl : lo' ≤ lo) (h : NR G lo f z es) : NR G lo' f z es := by
  obtain ⟨b, h1, h2⟩ := h
  exact ⟨b, h1, NO.lo hl _ _ _ h2⟩
theorem BA.lo {G : XG} {lo lo' : Nat} {A : Nat → Nat} {o : Option Nat} {l : List Nat} (hl : lo' ≤ lo) (h : BA G lo A o l) : BA G lo' A o l := by
  obtain ⟨b, h1, h2, h3⟩ := h
  exact ⟨b, h1, by omega, h3⟩
theorem CA.lo {G : XG} {lo lo' z : Nat} {A : Nat → Nat} {cs : List (Int32 × List Nat)} (hl : lo' ≤ lo) (h : CA G lo A z cs) : CA G lo' A z cs := by
  obtain ⟨ka, ca, L, h1, h2, h3, h4⟩ := h
  exact ⟨ka, ca, L, h1, by omega, by omega, fun i x hx => ⟨(h4 i x hx).1, (h4 i x hx).2.lo hl⟩⟩
theorem CA.A {G : XG} {lo z : Nat} {A A' : Nat → Nat} {cs : List (Int32 × List Nat)} (ha : ∀ c, c ∈ cs → ∀ x, x ∈ c.2 → A' x = A x) (h : CA G lo A z cs) : CA G lo A' z cs := by
  obtain ⟨ka, ca, L, h1, h2, h3, h4⟩ := h
  exact ⟨ka, ca, L, h1, h2, h3, fun i x hx => ⟨(h4 i x hx).1, (h4 i x hx).2.A (ha x (List.mem_of_getElem? hx))⟩⟩
theorem SK.lo {G : XG} {lo lo' : Nat} {A : Nat → Nat} {z : Nat} {a b : Int32} {e1 e2 : List En} {l : List Nat} {o : Option (List Nat)} {cs : List (Int32 × List Nat)} (hl : lo' ≤ lo) : ∀ n, SK G lo A z a b e1 e2 l o cs n → SK G lo' A z a b e1 e2 l o cs n := by
  intro n h
  match n with
  | 0 => exact h
  | 1 => exact ⟨h.1, h.2.1, h.2.2.lo hl⟩
  | 2 => exact ⟨h.1, h.2.1, h.2.2.1, h.2.2.2.1.lo hl, h.2.2.2.2.lo hl⟩
  | 3 => exact ⟨h.1, h.2.1, h.2.2.lo hl⟩
  | 4 => exact h
  | 5 => exact h
  | 6 =>
    obtain ⟨h1, ⟨y, y1, y2, y3, y4, y5, y6⟩, h2⟩ := h
    exact ⟨h1, ⟨y, y1, by omega, y3, y4, y5, y6.lo hl⟩, h2.lo hl⟩
  | 7 => exact ⟨h.1, h.2.1, h.2.2.1, h.2.2.2.1.lo hl, h.2.2.2.2.lo hl⟩
  | 8 => exact ⟨h.1, h.2.lo hl⟩
  | 9 => exact ⟨h.1, h.2.1, h.2.2.1.lo hl, h.2.2.2.1.lo hl, h.2.2.2.2.1.lo hl, h.2.2.2.2.2.lo hl⟩
  | 10 => exact ⟨h.1, h.2.1.lo hl, h.2.2.lo hl⟩
  | 11 => exact h
  | 12 => exact h
  | 13 => exact h
  | 14 => exact h
  | 15 => exact h
  | n + 16 =>
    obtain ⟨h1, h2, h3, h4, h5⟩ := h
    refine ⟨h1, h2, h3.lo hl, ?_, h5.lo hl⟩
    cases o with
    | none => exact h4
    | some f => exact h4.lo hl
theorem SK.A {G : XG} {lo : Nat} {A A' : Nat → Nat} {z : Nat} {a b : Int32} {e1 e2 : List En} {l : List Nat} {o : Option (List Nat)} {cs : List (Int32 × List Nat)} (h1 : ∀ x, x ∈ l → A' x = A x) (h2 : ∀ f, o = some f → ∀ x, x ∈ f → A' x = A x) (h3 : ∀ c, c ∈ cs → ∀ x, x ∈ c.2 → A' x = A x) : ∀ n, ((n = 14 ∨ n = 15) → ∃ m, b = nI m ∧ (m = 999 ∨ (m < 999 ∧ A' m = A m))) → SK G lo A z a b e1 e2 l o cs n → SK G lo A' z a b e1 e2 l o cs n := by
  intro n h4 h
  have ag : (∃ m, b = nI m ∧ (m = 999 ∨ (m < 999 ∧ A' m = A m))) → (∃ n, b = nI n ∧ n < 1000 ∧ Gfr G 1134 z = (if n = 999 then none else some (A n))) → ∃ n, b = nI n ∧ n < 1000 ∧ Gfr G 1134 z = (if n = 999 then none else some (A' n)) := by
    rintro ⟨m, m1, m2⟩ ⟨n, n1, n2, n3⟩
    have e : n = m := nI_inj (a := n) (b := m) (by omega) (by omega) (n1.symm.trans m1)
    subst e
    refine ⟨n, n1, n2, ?_⟩
    rw [n3]
    by_cases c : n = 999
    · rw [if_pos c, if_pos c]
    · rw [if_neg c, if_neg c]
      rcases m2 with m2 | m2
      · exact absurd m2 c
      · rw [m2.2]
  match n with
  | 0 => exact h
  | 1 => exact h
  | 2 => exact h
  | 3 => exact h
  | 4 => exact h
  | 5 => exact h
  | 6 => exact h
  | 7 => exact h
  | 8 => exact h
  | 9 =>
    refine ⟨h.1, h.2.1, h.2.2.1, h.2.2.2.1, h.2.2.2.2.1.A h1, h.2.2.2.2.2.A (fun x hx => ?_)⟩
    cases o with
    | none => exact (List.not_mem_nil hx).elim
    | some f => exact h2 f rfl x hx
  | 10 => exact ⟨h.1, h.2.1, h.2.2.A h1⟩
  | 11 => exact h
  | 12 => exact h
  | 13 => exact h
  | 14 => exact ⟨h.1, h.2.1, ag (h4 (.inl rfl)) h.2.2⟩
  | 15 => exact ⟨h.1, h.2.1, ag (h4 (.inr rfl)) h.2.2⟩
  | n + 16 =>
    obtain ⟨g1, g2, g3, g4, g5⟩ := h
    refine ⟨g1, g2, g3.A h1, ?_, g5.A h3⟩
    cases o with
    | none => exact g4
    | some f => exact g4.A (h2 f rfl)
theorem SO.lo {G : XG} {lo lo' : Nat} {A : Nat → Nat} {T : Pg} {s : Nat} (hl : lo' ≤ lo) (h : SO G lo A T s) : SO G lo' A T s := ⟨Nat.le_trans hl h.1, h.2.1, h.2.2.1, h.2.2.2.lo hl⟩
/-- other addresses, other tables -/
theorem SO.A {G : XG} {lo n : Nat} {A A' : Nat → Nat} {T T' : Pg} {s : Nat} (hm : SM T s n) (hn : n ≤ 900) (hs : s < n) (ha : ∀ x, x < n → A' x = A x) (ht : tS T T' s) (h : SO G lo A T s) : SO G lo A' T' s := by
  obtain ⟨t1, t2, t3, t4, t5, t6, t7, t8⟩ := ht
  obtain ⟨h1, h2, h3, h4⟩ := h
  obtain ⟨m1, m2, m3, m4⟩ := hm
  have h4 : SK G lo A (A s) (Ta T s) (Tb T s) (T1 T s) (T2 T s) (Tl T s) (To T s) (Tc T s) (Tk T s) := h4
  have h5 : SK G lo A' (A s) (Ta T s) (Tb T s) (T1 T s) (T2 T s) (Tl T s) (To T s) (Tc T s) (Tk T s) := h4.A (fun x hx => ha x (m1 x hx)) (fun f hf x hx => ha x (m2 f hf x hx)) (fun c hc x hx => ha x (m3 c hc x hx)) _ (fun q => by
    obtain ⟨m, g1, g2⟩ := m4 q
    exact ⟨m, g1, g2.imp id (fun g => ⟨by omega, ha m g⟩)⟩)
  have e := ha s hs
  refine ⟨by rw [e]; exact h1, by rw [e]; exact h2, by rw [e]; exact h3, ?_⟩
  show SK G lo A' (A' s) (Ta T' s) (Tb T' s) (T1 T' s) (T2 T' s) (Tl T' s) (To T' s) (Tc T' s) (Tk T' s)
  rw [e, t1, t2, t3, t4, t5, t6, t7, t8]
  exact h5
