/-! numbers: a counter's value is nI n; none is NN -/
def NN : Int32 := -9
theorem nNN : (-9 : Int32) = NN := rfl
theorem n_add {a b : Nat} : nI a + nI b = nI (a + b) := nI_add a b
theorem n_sub {a b : Nat} (h : b ≤ a) : nI a - nI b = nI (a - b) := by
  have := nI_add (a - b) b
  rw [Nat.sub_add_cancel h] at this
  rw [← this, Int32.add_sub_cancel]
theorem n_mul {a b : Nat} : nI a * nI b = nI (a * b) := (Int32.ofNat_mul a b).symm
theorem n_clamp {a : Nat} (h : a < 2147483648) : (nI a).toNatClampNeg = a := nI_clamp h
theorem n_eq {a b : Nat} (ha : a < 2147483648) (hb : b < 2147483648) : (nI a = nI b) = (a = b) := propext (nI_eq ha hb)
theorem n_lt {a b : Nat} (ha : a < 2147483648) (hb : b < 2147483648) : (nI a < nI b) = (a < b) := propext (nI_ltI ha hb)
theorem n_le {a b : Nat} (ha : a < 2147483648) (hb : b < 2147483648) : (nI a ≤ nI b) = (a ≤ b) := propext (nI_leI ha hb)
theorem n_NN {a : Nat} (h : a < 2147483648) : (nI a = NN) = False := by
  refine eq_false fun q => ?_
  have := nI_toInt h
  rw [q] at this
  have e : NN.toInt = -9 := by decide +kernel
  omega
theorem n_NN' {a : Nat} (h : a < 2147483648) : (NN = nI a) = False := by rw [eq_comm (a := NN), n_NN h]
theorem n_xin {a n : Nat} (h : a < 2147483648) : xin (nI a) n = (a < n) := by
  unfold xin
  rw [nI_clamp h]
  exact propext ⟨fun q => q.2, fun q => ⟨nI_pos h, q⟩⟩
theorem XC_s {ms : Nat → XM} {d k : Nat} {as : List Value} {G : XG} {Q : (Option Value ⊕ Nat) → XG → Prop} : XC ms (d + 1) k as G Q = (xwt as ≤ xmL (ms k) ∧ XL ms d k 0 (xent as (xmL (ms k))) [] G Q) := by
  apply propext
  constructor
  · rintro ⟨h, d', e, h2⟩
    cases e
    exact ⟨h, h2⟩
  · rintro ⟨h, h2⟩
    exact ⟨h, d, rfl, h2⟩
theorem xent_d {as : List Value} {n : Nat} : xent as n = xex as ++ List.replicate (n - (xex as).length) xjk := rfl
theorem i_rA {α : Type} {c : Prop} [Decidable c] (h : c) {a b : α} : (if c then a else b) = a := if_pos h
theorem nL : ((0 : Int32) = nI 0) ∧ ((1 : Int32) = nI 1) ∧ ((2 : Int32) = nI 2) ∧ ((3 : Int32) = nI 3) ∧ ((4 : Int32) = nI 4) ∧ ((5 : Int32) = nI 5) ∧ ((6 : Int32) = nI 6) ∧ ((7 : Int32) = nI 7) ∧ ((8 : Int32) = nI 8) ∧ ((9 : Int32) = nI 9) ∧ ((10 : Int32) = nI 10) ∧ ((11 : Int32) = nI 11) ∧ ((12 : Int32) = nI 12) ∧ ((13 : Int32) = nI 13) ∧ ((14 : Int32) = nI 14) ∧ ((15 : Int32) = nI 15) ∧ ((16 : Int32) = nI 16) ∧ ((17 : Int32) = nI 17) ∧ ((18 : Int32) = nI 18) ∧ ((19 : Int32) = nI 19) ∧ ((20 : Int32) = nI 20) ∧ ((21 : Int32) = nI 21) ∧ ((22 : Int32) = nI 22) ∧ ((23 : Int32) = nI 23) ∧ ((24 : Int32) = nI 24) ∧ ((25 : Int32) = nI 25) ∧ ((26 : Int32) = nI 26) ∧ ((27 : Int32) = nI 27) ∧ ((28 : Int32) = nI 28) ∧ ((29 : Int32) = nI 29) ∧ ((30 : Int32) = nI 30) ∧ ((31 : Int32) = nI 31) ∧ ((32 : Int32) = nI 32) ∧ ((33 : Int32) = nI 33) ∧ ((34 : Int32) = nI 34) ∧ ((35 : Int32) = nI 35) ∧ ((36 : Int32) = nI 36) ∧ ((37 : Int32) = nI 37) ∧ ((38 : Int32) = nI 38) ∧ ((39 : Int32) = nI 39) ∧ ((40 : Int32) = nI 40) ∧ ((42 : Int32) = nI 42) ∧ ((43 : Int32) = nI 43) ∧ ((44 : Int32) = nI 44) ∧ ((45 : Int32) = nI 45) ∧ ((46 : Int32) = nI 46) ∧ ((47 : Int32) = nI 47) ∧ ((48 : Int32) = nI 48) ∧ ((57 : Int32) = nI 57) ∧ ((59 : Int32) = nI 59) ∧ ((60 : Int32) = nI 60) ∧ ((61 : Int32) = nI 61) ∧ ((62 : Int32) = nI 62) ∧ ((80 : Int32) = nI 80) ∧ ((91 : Int32) = nI 91) ∧ ((93 : Int32) = nI 93) ∧ ((97 : Int32) = nI 97) ∧ ((99 : Int32) = nI 99) ∧ ((100 : Int32) = nI 100) ∧ ((107 : Int32) = nI 107) ∧ ((109 : Int32) = nI 109) ∧ ((114 : Int32) = nI 114) ∧ ((118 : Int32) = nI 118) ∧ ((120 : Int32) = nI 120) ∧ ((122 : Int32) = nI 122) ∧ ((123 : Int32) = nI 123) ∧ ((125 : Int32) = nI 125) ∧ ((128 : Int32) = nI 128) ∧ ((160 : Int32) = nI 160) ∧ ((200 : Int32) = nI 200) ∧ ((240 : Int32) = nI 240) ∧ ((255 : Int32) = nI 255) ∧ ((256 : Int32) = nI 256) ∧ ((300 : Int32) = nI 300) ∧ ((320 : Int32) = nI 320) ∧ ((400 : Int32) = nI 400) ∧ ((410 : Int32) = nI 410) ∧ ((420 : Int32) = nI 420) ∧ ((500 : Int32) = nI 500) ∧ ((560 : Int32) = nI 560) ∧ ((600 : Int32) = nI 600) ∧ ((640 : Int32) = nI 640) ∧ ((800 : Int32) = nI 800) ∧ ((1000 : Int32) = nI 1000) ∧ ((1001 : Int32) = nI 1001) ∧ ((1100 : Int32) = nI 1100) ∧ ((1230 : Int32) = nI 1230) ∧ ((1260 : Int32) = nI 1260) ∧ ((1280 : Int32) = nI 1280) ∧ ((2000 : Int32) = nI 2000) ∧ ((2200 : Int32) = nI 2200) ∧ ((2560 : Int32) = nI 2560) ∧ ((5040 : Int32) = nI 5040) ∧ ((15120 : Int32) = nI 15120) := ⟨rfl, rfl, rfl, rfl, rfl, rfl, rfl, rfl, rfl, rfl, rfl, rfl, rfl, rfl, rfl, rfl, rfl, rfl, rfl, rfl, rfl, rfl, rfl, rfl, rfl, rfl, rfl, rfl, rfl, rfl, rfl, rfl, rfl, rfl, rfl, rfl, rfl, rfl, rfl, rfl, rfl, rfl, rfl, rfl, rfl, rfl, rfl, rfl, rfl, rfl, rfl, rfl, rfl, rfl, rfl, rfl, rfl, rfl, rfl, rfl, rfl, rfl, rfl, rfl, rfl, rfl, rfl, rfl, rfl, rfl, rfl, rfl, rfl, rfl, rfl, rfl, rfl, rfl, rfl, rfl, rfl, rfl, rfl, rfl, rfl, rfl, rfl, rfl, rfl, rfl, rfl, rfl, rfl, rfl⟩
theorem uS : (∀ (ms : Nat → XM) (d k : Nat) (as : List Value) (G : XG) (Q : (Option Value ⊕ Nat) → XG → Prop), XC ms (d + 1) k as G Q = (xwt as ≤ xmL (ms k) ∧ XL ms d k 0 (xent as (xmL (ms k))) [] G Q)) ∧
  (∀ (x : Int32) (r : List Value), xex (.int x :: r) = .int x :: xex r) ∧
  (∀ (a : Nat) (r : List Value), xex (.ref a :: r) = .ref a :: xex r) ∧
  (∀ (r : List Value), xex (.null :: r) = .null :: xex r) ∧
  (∀ (x : Int64) (r : List Value), xex (.long x :: r) = .long x :: xjk :: xex r) ∧
  (∀ (o : Option Nat) (r : List Value), xex (va_rf o :: r) = va_rf o :: xex r) ∧
  (xex [] = []) ∧
  (∀ (as : List Value) (n : Nat), xent as n = xex as ++ List.replicate (n - (xex as).length) xjk) ∧
  (∀ (a : Nat), va_rf (some a) = .ref a) ∧
  (va_rf none = .null) ∧
  (∀ (v : Value) (r : List Value), (v :: r).length = r.length + 1) ∧
  (([] : List Value).length = 0) ∧
  (∀ (v : Value) (r s : List Value), (v :: r) ++ s = v :: (r ++ s)) ∧
  (∀ (s : List Value), [] ++ s = s) ∧
  (∀ (x a : Nat) (r : List Nat), (x ∈ a :: r) = (x = a ∨ x ∈ r)) ∧
  (∀ (x : Nat), (x ∈ ([] : List Nat)) = False) ∧
  (∀ (p : Prop), (True ∧ p) = p) ∧
  (∀ (p : Prop), (p ∧ True) = p) ∧
  (∀ (p : Prop), (True ∨ p) = True) ∧
  (∀ (p : Prop), (p ∨ True) = True) ∧
  (∀ (p : Prop), (False ∨ p) = p) ∧
  (∀ (p : Prop), (p ∨ False) = p) ∧
  (∀ (p : Prop), (False ∧ p) = False) ∧
  (∀ (p : Prop), (p ∧ False) = False) ∧
  (∀ (α : Sort 1) (a : α), (a = a) = True) ∧
  (∀ (n : Nat), (n ≤ n) = True) ∧
  ((¬ True) = False) ∧
  ((¬ False) = True) ∧
  (∀ (α : Type) (a b : α), (if True then a else b) = a) ∧
  (∀ (α : Type) (a b : α), (if False then a else b) = b) ∧
  ((xthk 7 = true) = True) ∧
  ((xthk 8 = true) = True) ∧
  ((xthk 11 = true) = True) ∧
  (∀ (v : Value), (some v).toList = [v]) ∧
  ((none : Option Value).toList = []) ∧
  (List.replicate 0 xjk = []) ∧
  (List.replicate 1 xjk = [xjk]) ∧
  (List.replicate 2 xjk = [xjk, xjk]) ∧
  (List.replicate 3 xjk = [xjk, xjk, xjk]) ∧
  (List.replicate 4 xjk = [xjk, xjk, xjk, xjk]) ∧
  (List.replicate 5 xjk = [xjk, xjk, xjk, xjk, xjk]) ∧
  (List.replicate 6 xjk = [xjk, xjk, xjk, xjk, xjk, xjk]) ∧
  (List.replicate 7 xjk = [xjk, xjk, xjk, xjk, xjk, xjk, xjk]) ∧
  (List.replicate 8 xjk = [xjk, xjk, xjk, xjk, xjk, xjk, xjk, xjk]) ∧
  (List.replicate 9 xjk = [xjk, xjk, xjk, xjk, xjk, xjk, xjk, xjk, xjk]) ∧
  (List.replicate 10 xjk = [xjk, xjk, xjk, xjk, xjk, xjk, xjk, xjk, xjk, xjk]) ∧
  (List.replicate 11 xjk = [xjk, xjk, xjk, xjk, xjk, xjk, xjk, xjk, xjk, xjk, xjk]) ∧
  (List.replicate 12 xjk = [xjk, xjk, xjk, xjk, xjk, xjk, xjk, xjk, xjk, xjk, xjk, xjk]) ∧
  (List.replicate 13 xjk = [xjk, xjk, xjk, xjk, xjk, xjk, xjk, xjk, xjk, xjk, xjk, xjk, xjk]) ∧
  (List.replicate 14 xjk = [xjk, xjk, xjk, xjk, xjk, xjk, xjk, xjk, xjk, xjk, xjk, xjk, xjk, xjk]) ∧
  (List.replicate 15 xjk = [xjk, xjk, xjk, xjk, xjk, xjk, xjk, xjk, xjk, xjk, xjk, xjk, xjk, xjk, xjk]) := ⟨fun _ _ _ _ _ _ => XC_s, fun _ _ => rfl, fun _ _ => rfl, fun _ => rfl, fun _ _ => rfl, fun o _ => by cases o <;> rfl, rfl, fun _ _ => rfl, fun _ => rfl, rfl, fun _ _ => rfl, rfl, fun _ _ _ => rfl, fun _ => rfl, fun _ _ _ => propext List.mem_cons, fun x => eq_false List.not_mem_nil, true_and, and_true, true_or, or_true, false_or, or_false, false_and, and_false, fun _ a => eq_self a, fun n => propext ⟨fun _ => trivial, fun _ => Nat.le_refl n⟩, not_true_eq_false, not_false_eq_true, fun _ a b => if_pos trivial, fun _ a b => if_neg id, eq_true rfl, eq_true rfl, eq_true rfl, fun _ => rfl, rfl, rfl, rfl, rfl, rfl, rfl, rfl, rfl, rfl, rfl, rfl, rfl, rfl, rfl, rfl, rfl, rfl⟩
theorem nS : (∀ (a b : Nat), nI a + nI b = nI (a + b)) ∧
  (∀ (a b : Nat), b ≤ a → nI a - nI b = nI (a - b)) ∧
  (∀ (a b : Nat), nI a * nI b = nI (a * b)) ∧
  (∀ (a : Nat), a < 2147483648 → (nI a).toNatClampNeg = a) ∧
  (∀ (a b : Nat), a < 2147483648 → b < 2147483648 → (nI a = nI b) = (a = b)) ∧
  (∀ (a b : Nat), a < 2147483648 → b < 2147483648 → (nI a < nI b) = (a < b)) ∧
  (∀ (a b : Nat), a < 2147483648 → b < 2147483648 → (nI a ≤ nI b) = (a ≤ b)) ∧
  (∀ (a : Nat), a < 2147483648 → (nI a = NN) = False) ∧
  (∀ (a : Nat), a < 2147483648 → (NN = nI a) = False) ∧
  (∀ (a n : Nat), a < 2147483648 → xin (nI a) n = (a < n)) ∧
  ((-nI 9) = NN) := ⟨fun _ _ => n_add, fun _ _ h => n_sub h, fun _ _ => n_mul, fun _ h => n_clamp h, fun _ _ h g => n_eq h g, fun _ _ h g => n_lt h g, fun _ _ h g => n_le h g, fun _ h => n_NN h, fun _ h => n_NN' h, fun _ _ h => n_xin h, rfl⟩
theorem cI (x : Int32) : (Value.int x).category = 1 := rfl
theorem cR (x : Nat) : (Value.ref x).category = 1 := rfl
theorem cU : Value.null.category = 1 := rfl
theorem cO (o : Option Nat) : (va_rf o).category = 1 := va_rf_cat o
theorem cK : xjk.category = 1 := rfl
theorem cL (x : Int64) : (Value.long x).category = 2 := rfl
theorem dS : (∀ (a b : Nat), a ≠ b → (a = b) = False) ∧
  (∀ (a b : Nat), a = b → (a = b) = True) ∧
  (∀ (a b : Nat), a < b → (a < b) = True) ∧
  (∀ (a b : Nat), b ≤ a → (a < b) = False) ∧
  (∀ (a b : Nat), a ≤ b → (a ≤ b) = True) ∧
  (∀ (a b : Nat), b < a → (a ≤ b) = False) := ⟨fun _ _ h => eq_false h, fun _ _ h => eq_true h, fun _ _ h => eq_true h, fun _ _ h => eq_false (Nat.not_lt.mpr h), fun _ _ h => eq_true h, fun _ _ h => eq_false (Nat.not_le.mpr h)⟩
/-- the run's lay: what never changes -/
def RL0 (G : XG) (r : Nat) : Prop := Gkd G r = 6 ∧ Gfr G 1031 r = some (r + 1) ∧ Gkd G (r + 1) = 108 ∧ Gln G (r + 1) = 12 ∧ Gfr G 1046 r = some (r + 16) ∧ Gkd G (r + 16) = 7 ∧ Gfr G 1047 r = some (r + 17) ∧ Gkd G (r + 17) = 8 ∧ Gfr G 1032 r = some (r + 2) ∧ Gkd G (r + 2) = 100 ∧ Gln G (r + 2) = 400 ∧ Gfr G 1033 r = some (r + 3) ∧ Gkd G (r + 3) = 100 ∧ Gln G (r + 3) = 401 ∧ Gfr G 1034 r = some (r + 4) ∧ Gkd G (r + 4) = 100 ∧ Gln G (r + 4) = 401 ∧ Gfr G 1035 r = some (r + 5) ∧ Gkd G (r + 5) = 100 ∧ Gln G (r + 5) = 401 ∧ Gfr G 1036 r = some (r + 6) ∧ Gkd G (r + 6) = 100 ∧ Gln G (r + 6) = 401 ∧ Gfr G 1037 r = some (r + 7) ∧ Gkd G (r + 7) = 100 ∧ Gln G (r + 7) = 401 ∧ Gfr G 1038 r = some (r + 8) ∧ Gkd G (r + 8) = 100 ∧ Gln G (r + 8) = 401 ∧ Gfr G 1039 r = some (r + 9) ∧ Gkd G (r + 9) = 100 ∧ Gln G (r + 9) = 4812 ∧ Gfr G 1040 r = some (r + 10) ∧ Gkd G (r + 10) = 100 ∧ Gln G (r + 10) = 400 ∧ Gfr G 1041 r = some (r + 11) ∧ Gkd G (r + 11) = 100 ∧ Gln G (r + 11) = 80 ∧ Gfr G 1042 r = some (r + 12) ∧ Gkd G (r + 12) = 100 ∧ Gln G (r + 12) = 560 ∧ Gfr G 1043 r = some (r + 13) ∧ Gkd G (r + 13) = 100 ∧ Gln G (r + 13) = 120 ∧ Gfr G 1044 r = some (r + 14) ∧ Gkd G (r + 14) = 100 ∧ Gln G (r + 14) = 401 ∧ Gfr G 1045 r = some (r + 15) ∧ Gkd G (r + 15) = 100 ∧ Gln G (r + 15) = 3208
def RL1 (G : XG) (r : Nat) : Prop := ∀ k, k < 12 → Gar G (r + 1) k = some (r + 18 + 4 * k) ∧ Gkd G (r + 18 + 4 * k) = 9 ∧ Gfr G 1053 (r + 18 + 4 * k) = some (r + 19 + 4 * k) ∧ Gfr G 1054 (r + 18 + 4 * k) = some (r + 20 + 4 * k) ∧ Gfr G 1055 (r + 18 + 4 * k) = some (r + 21 + 4 * k) ∧ Gkd G (r + 19 + 4 * k) = 100 ∧ Gln G (r + 19 + 4 * k) = 6 ∧ Gkd G (r + 20 + 4 * k) = 100 ∧ Gln G (r + 20 + 4 * k) = 3 ∧ Gkd G (r + 21 + 4 * k) = 100 ∧ Gln G (r + 21 + 4 * k) = 640
def RL (G : XG) (r : Nat) : Prop := RL0 G r ∧ RL1 G r
