set_option maxRecDepth 100000
/-! TOKENS, plain: bytes by, n of them -/
def sx (b : Nat) : Int32 := (nI b).toInt8.toInt32
theorem sx_and : ∀ b, b < 256 → sx b &&& nI 255 = nI b := by decide +kernel
theorem sx_32 : ∀ b, b < 256 → (sx b = nI 32 ↔ b = 32) := by decide +kernel
theorem sx_10 : ∀ b, b < 256 → (sx b = nI 10 ↔ b = 10) := by decide +kernel
theorem sx_c : ∀ b, b < 256 → ∀ c, c < 128 → (nI c = sx b ↔ c = b) := by decide +kernel
def bz (bf : Nat → Nat) (n i : Nat) : Nat := if i < n then bf i else 0
def isL (c : Nat) : Prop := 97 ≤ c ∧ c ≤ 122
def isD (c : Nat) : Prop := 48 ≤ c ∧ c ≤ 57
def isSg (c : Nat) : Bool := c == 43 || c == 45 || c == 42 || c == 47 || c == 37 || c == 40 || c == 41 || c == 91 || c == 93 || c == 123 || c == 125 || c == 61 || c == 60 || c == 62 || c == 44 || c == 59
/-- the first that does not fit, from a on -/
def lgo (bf : Nat → Nat) (n : Nat) : Nat → Nat → Nat
  | 0, a => a
  | f + 1, a => if 97 ≤ bz bf n a ∧ bz bf n a ≤ 122 then lgo bf n f (a + 1) else a
def dgo (bf : Nat → Nat) (n : Nat) : Nat → Nat → Nat
  | 0, a => a
  | f + 1, a => if 48 ≤ bz bf n a ∧ bz bf n a ≤ 57 then dgo bf n f (a + 1) else a
def sgo (bf : Nat → Nat) (n : Nat) : Nat → Nat → Nat
  | 0, a => a
  | f + 1, a => if a < n ∧ (bf a = 32 ∨ bf a = 10) then sgo bf n f (a + 1) else a
/-- the number of the first k digits from a on -/
def dva (bf : Nat → Nat) (n a : Nat) : Nat → Nat
  | 0 => 0
  | k + 1 => 10 * dva bf n a k + (bz bf n (a + k) - 48)
/-- the code of k letters -/
def cdv (bf : Nat → Nat) (n a : Nat) : Nat → Nat
  | 0 => 0
  | k + 1 => cdv bf n a k * 32 + (bz bf n (a + k) - 96)
/-- words by their codes, in the scanner's order -/
def wcs : List Nat := [370116, 22483122, 442114532, 427595, 99724, 18935, 474565, 609900110, 294, 176741, 409072, 12748485, 464660, 21252599, 772144, 1279278, 8029764, 763528, 3199080, 6759166361, 632645]
def wix (l : List Nat) (c k : Nat) : Option Nat := match l with
  | [] => none
  | x :: r => if c = x then some k else wix r c (k + 1)
/-- a token at a place: kind (the scanner's), place, value, where the next may begin -/
abbrev Tok : Type := Nat × Nat × Nat × Nat
def nmK (c : Nat) : Nat := if c = 107 then 3 else if c = 109 then 4 else if c = 118 then 5 else if c = 114 then 6 else 1
def tkA (bf : Nat → Nat) (n p : Nat) : Tok :=
  if n ≤ p then (0, p, 0, p)
  else if 97 ≤ bf p ∧ bf p ≤ 122 then
    let e := lgo bf n (n - p) p
    if 48 ≤ bz bf n e ∧ bz bf n e ≤ 57 then
      let f := dgo bf n (n - e) e
      (if 2 < f - e then 1 else if 1 < e - p then 1 else nmK (bf p), p, dva bf n e (min 2 (f - e)), f)
    else match (if e - p ≤ 12 then wix wcs (cdv bf n p (e - p)) 0 else none) with
      | some w => (2, p, w, e)
      | none => (1, p, 0, e)
  else if 48 ≤ bf p ∧ bf p ≤ 57 then
    let f := dgo bf n (n - p) p
    (if 4 < f - p then 1 else 7, p, dva bf n p (min 4 (f - p)), f)
  else (if isSg (bf p) = true then bf p else 1, p, 0, p + 1)
def tps (bf : Nat → Nat) (n : Nat) : Nat → Nat
  | 0 => sgo bf n n 0
  | j + 1 => sgo bf n n (tkA bf n (tps bf n j)).2.2.2
def tok (bf : Nat → Nat) (n j : Nat) : Tok := tkA bf n (tps bf n j)
