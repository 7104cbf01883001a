set_option maxRecDepth 100000
/-! statements in the heap: cells from lo on; A tells a statement's address -/
def NR (G : XG) (lo f z : Nat) (es : List En) : Prop := ∃ b, Gfr G f z = some b ∧ NO G lo 1001 b es
def BA (G : XG) (lo : Nat) (A : Nat → Nat) (o : Option Nat) (l : List Nat) : Prop := ∃ b, o = some b ∧ lo ≤ b ∧ b < Gtp G ∧ Gkd G b = 104 ∧ Gln G b = l.length ∧ ∀ i x, l[i]? = some x → Gar G b i = some (A x)
/-- a guard's catches -/
def CA (G : XG) (lo : Nat) (A : Nat → Nat) (z : Nat) (cs : List (Int32 × List Nat)) : Prop := ∃ ka ca L, GU G z cs.length ka ca L ∧ lo ≤ ka ∧ lo ≤ ca ∧ ∀ (i : Nat) (x : Int32 × List Nat), cs[i]? = some x → Gai G ka i = x.1 ∧ BA G lo A (Gar G ca i) x.2
theorem NR.kq {P : Nat → Prop} {c u : Nat} {G G' : XG} {lo f z : Nat} {es : List En} (k : KQ P c u G G') (hp : ∀ a, lo ≤ a → ¬ P a) (hz : lo ≤ z) (ht : z < Gtp G) (h : NR G lo f z es) : NR G' lo f z es := by
  obtain ⟨b, h1, h2⟩ := h
  exact ⟨b, (((k.2.2.2.2.2 z ht (hp z hz)).1 f).2).trans h1, NO.kq k hp _ _ _ h2⟩
theorem BA.kq {P : Nat → Prop} {c u : Nat} {G G' : XG} {lo : Nat} {A : Nat → Nat} {o : Option Nat} {l : List Nat} (k : KQ P c u G G') (hp : ∀ a, lo ≤ a → ¬ P a) (h : BA G lo A o l) : BA G' lo A o l := by
  obtain ⟨b, h1, h2, h3, h4, h5, h6⟩ := h
  have q := k.2.2.2.2.1 b h3
  have q2 := (k.2.2.2.2.2 b h3 (hp b h2)).2
  exact ⟨b, h1, h2, Nat.lt_of_lt_of_le h3 k.2.1, q.1.trans h4, q.2.trans h5, fun i x hx => ((q2 i).2.1).trans (h6 i x hx)⟩
theorem BA.A {G : XG} {lo : Nat} {A A' : Nat → Nat} {o : Option Nat} {l : List Nat} (ha : ∀ x, x ∈ l → A' x = A x) (h : BA G lo A o l) : BA G lo A' o l := by
  obtain ⟨b, h1, h2, h3, h4, h5, h6⟩ := h
  exact ⟨b, h1, h2, h3, h4, h5, fun i x hx => by rw [ha x (List.mem_of_getElem? hx)]; exact h6 i x hx⟩
theorem CA.kq {P : Nat → Prop} {c u : Nat} {G G' : XG} {lo : Nat} {A : Nat → Nat} {z : Nat} {cs : List (Int32 × List Nat)} (k : KQ P c u G G') (hp : ∀ a, lo ≤ a → ¬ P a) (hz : lo ≤ z) (h : CA G lo A z cs) : CA G' lo A z cs := by
  obtain ⟨ka, ca, L, ⟨h1, h2, h3, h4, h5, h6, h7, h8, h9, h10, h11, h12, h13⟩, l1, l2, l3⟩ := h
  have kt := k.2.1
  have q := k.2.2.2.2.1
  have q2 := k.2.2.2.2.2
  have f := (q2 z h11 (hp z hz)).1
  have fk := (q2 ka h12 (hp ka l1)).2
  have fc := (q2 ca h13 (hp ca l2)).2
  refine ⟨ka, ca, L, ⟨(q z h11).1.trans h1, (f 95).1.trans h2, (f 1136).2.trans h3, (q ka h12).1.trans h4, (q ka h12).2.trans h5, (f 1137).2.trans h6, (q ca h13).1.trans h7, (q ca h13).2.trans h8, h9, h10, by omega, by omega, by omega⟩, l1, l2, fun i x hx => ⟨(fk i).1.trans (l3 i x hx).1, ?_⟩⟩
  rw [(fc i).2.1]
  exact (l3 i x hx).2.kq k hp
/-- what an object at z holds of a statement: its kind, operands, sums, blocks, catches -/
def SK (G : XG) (lo : Nat) (A : Nat → Nat) (z : Nat) (a b : Int32) (e1 e2 : List En) (l : List Nat) (o : Option (List Nat)) (cs : List (Int32 × List Nat)) : Nat → Prop
  | 0 => Gkd G z = 25 ∧ Gfi G 89 z = a
  | 1 => Gkd G z = 21 ∧ Gfi G 85 z = a ∧ NR G lo 1123 z e1
  | 2 => Gkd G z = 19 ∧ Gfi G 83 z = a ∧ Gfi G 84 z = b ∧ NR G lo 1121 z e1 ∧ NR G lo 1122 z e2
  | 3 => Gkd G z = 23 ∧ Gfi G 86 z = a ∧ NR G lo 1126 z e1
  | 4 => Gkd G z = 24 ∧ Gfi G 87 z = a ∧ Gfi G 88 z = NN
  | 5 => Gkd G z = 24 ∧ Gfi G 87 z = a ∧ Gfi G 88 z = b
  | 6 => Gkd G z = 22 ∧ (∃ y, Gfr G 1124 z = some y ∧ lo ≤ y ∧ y < Gtp G ∧ Gkd G y = 17 ∧ Gfi G 81 y = a ∧ NR G lo 1120 y e1) ∧ NR G lo 1125 z e2
  | 7 => Gkd G z = 19 ∧ Gfi G 83 z = NN ∧ Gfi G 84 z = b ∧ NR G lo 1121 z e1 ∧ NR G lo 1122 z e2
  | 8 => Gkd G z = 26 ∧ NR G lo 1127 z e1
  | 9 => Gkd G z = 27 ∧ Gfi G 90 z = a ∧ NR G lo 1128 z e1 ∧ NR G lo 1129 z e2 ∧ BA G lo A (Gfr G 1130 z) l ∧ BA G lo A (Gfr G 1131 z) (o.getD [])
  | 10 => Gkd G z = 28 ∧ NR G lo 1132 z e1 ∧ BA G lo A (Gfr G 1133 z) l
  | 11 => Gkd G z = 29 ∧ ∃ n, a = nI n ∧ n < 10000000 ∧ Gfi G 91 z = nI (100 + min n 80)
  | 12 => Gkd G z = 29 ∧ ∃ n, a = nI n ∧ n < 10000000 ∧ Gfi G 91 z = nI (200 + min n 80)
  | 13 => Gkd G z = 30 ∧ Gfi G 92 z = a
  | 14 => Gkd G z = 31 ∧ Gfi G 93 z = a ∧ ∃ n, b = nI n ∧ n < 1000 ∧ Gfr G 1134 z = (if n = 999 then none else some (A n))
  | 15 => Gkd G z = 31 ∧ Gfi G 93 z = NN ∧ ∃ n, b = nI n ∧ n < 1000 ∧ Gfr G 1134 z = (if n = 999 then none else some (A n))
  | _ => Gkd G z = 32 ∧ Gfi G 94 z = a ∧ BA G lo A (Gfr G 1135 z) l ∧ (match o with
    | none => Gfr G 1138 z = none
    | some f => BA G lo A (Gfr G 1138 z) f) ∧ CA G lo A z cs
def SO (G : XG) (lo : Nat) (A : Nat → Nat) (T : Pg) (s : Nat) : Prop := lo ≤ A s ∧ A s < Gtp G ∧ Gfi G 82 (A s) = nI s ∧ SK G lo A (A s) (T.2.1 s) (T.2.2.1 s) (T.2.2.2.1 s) (T.2.2.2.2.1 s) (T.2.2.2.2.2.1 s) (T.2.2.2.2.2.2.1 s) (T.2.2.2.2.2.2.2.1 s) (T.1 s)
theorem SK.kq {P : Nat → Prop} {c u : Nat} {G G' : XG} {lo : Nat} {A : Nat → Nat} {z : Nat} {a b : Int32} {e1 e2 : List En} {l : List Nat} {o : Option (List Nat)} {cs : List (Int32 × List Nat)} (k : KQ P c u G G') (hp : ∀ a, lo ≤ a → ¬ P a) (hz : lo ≤ z) (ht : z < Gtp G) : ∀ n, SK G lo A z a b e1 e2 l o cs n → SK G' lo A z a b e1 e2 l o cs n := by
  have hk := (k.2.2.2.2.1 z ht).1
  have f1 := fun x => ((k.2.2.2.2.2 z ht (hp z hz)).1 x).1
  have f2 := fun x => ((k.2.2.2.2.2 z ht (hp z hz)).1 x).2
  have nr : ∀ {f es}, NR G lo f z es → NR G' lo f z es := fun h => h.kq k hp hz ht
  have ba : ∀ {f l}, BA G lo A (Gfr G f z) l → BA G' lo A (Gfr G' f z) l := fun {f l} h => by
    rw [f2]
    exact h.kq k hp
  intro n h
  match n with
  | 0 => exact ⟨hk.trans h.1, (f1 _).trans h.2⟩
  | 1 => exact ⟨hk.trans h.1, (f1 _).trans h.2.1, nr h.2.2⟩
  | 2 => exact ⟨hk.trans h.1, (f1 _).trans h.2.1, (f1 _).trans h.2.2.1, nr h.2.2.2.1, nr h.2.2.2.2⟩
  | 3 => exact ⟨hk.trans h.1, (f1 _).trans h.2.1, nr h.2.2⟩
  | 4 => exact ⟨hk.trans h.1, (f1 _).trans h.2.1, (f1 _).trans h.2.2⟩
  | 5 => exact ⟨hk.trans h.1, (f1 _).trans h.2.1, (f1 _).trans h.2.2⟩
  | 6 =>
    obtain ⟨h1, ⟨y, y1, y2, y3, y4, y5, y6⟩, h2⟩ := h
    have q := k.2.2.2.2.1 y y3
    have q2 := (k.2.2.2.2.2 y y3 (hp y y2)).1
    exact ⟨hk.trans h1, ⟨y, (f2 _).trans y1, y2, Nat.lt_of_lt_of_le y3 k.2.1, q.1.trans y4, (q2 81).1.trans y5, y6.kq k hp y2 y3⟩, nr h2⟩
  | 7 => exact ⟨hk.trans h.1, (f1 _).trans h.2.1, (f1 _).trans h.2.2.1, nr h.2.2.2.1, nr h.2.2.2.2⟩
  | 8 => exact ⟨hk.trans h.1, nr h.2⟩
  | 9 => exact ⟨hk.trans h.1, (f1 _).trans h.2.1, nr h.2.2.1, nr h.2.2.2.1, ba h.2.2.2.2.1, ba h.2.2.2.2.2⟩
  | 10 => exact ⟨hk.trans h.1, nr h.2.1, ba h.2.2⟩
  | 11 =>
    obtain ⟨h1, n, h2, h3, h4⟩ := h
    exact ⟨hk.trans h1, n, h2, h3, (f1 _).trans h4⟩
  | 12 =>
    obtain ⟨h1, n, h2, h3, h4⟩ := h
    exact ⟨hk.trans h1, n, h2, h3, (f1 _).trans h4⟩
  | 13 => exact ⟨hk.trans h.1, (f1 _).trans h.2⟩
  | 14 =>
    obtain ⟨h1, h0, n, h2, h3, h4⟩ := h
    exact ⟨hk.trans h1, (f1 _).trans h0, n, h2, h3, (f2 _).trans h4⟩
  | 15 =>
    obtain ⟨h1, h0, n, h2, h3, h4⟩ := h
    exact ⟨hk.trans h1, (f1 _).trans h0, n, h2, h3, (f2 _).trans h4⟩
  | n + 16 =>
    obtain ⟨h1, h2, h3, h4, h5⟩ := h
    refine ⟨hk.trans h1, (f1 _).trans h2, ba h3, ?_, h5.kq k hp hz⟩
    cases o with
    | none => exact (f2 _).trans h4
    | some f => exact ba h4
theorem SO.kq {P : Nat → Prop} {c u : Nat} {G G' : XG} {lo : Nat} {A : Nat → Nat} {T : Pg} {s : Nat} (k : KQ P c u G G') (hp : ∀ a, lo ≤ a → ¬ P a) (h : SO G lo A T s) : SO G' lo A T s := by
  obtain ⟨h1, h2, h3, h4⟩ := h
  exact ⟨h1, Nat.lt_of_lt_of_le h2 k.2.1, ((k.2.2.2.2.2 (A s) h2 (hp (A s) h1)).1 82).1.trans h3, h4.kq k hp h1 h2⟩
