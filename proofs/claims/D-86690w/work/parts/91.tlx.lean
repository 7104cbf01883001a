set_option maxRecDepth 100000
/-! the twin's object M, its arrays M + 1 .. M + 60 (field 1056 + i is array i) -/
def MA (G : XG) (M : Nat) : Prop := Gkd G M = 10 ∧ Gfr G 1057 M = some (M + 1) ∧ Gkd G (M + 1) = 103 ∧ Gln G (M + 1) = 21 ∧ Gfr G 1058 M = some (M + 2) ∧ Gkd G (M + 2) = 101 ∧ Gln G (M + 2) = 1000
def MB (G : XG) (M : Nat) : Prop := Gkd G M = 10 ∧ Gfr G 1059 M = some (M + 3) ∧ Gkd G (M + 3) = 100 ∧ Gln G (M + 3) = 2560 ∧ Gfr G 1060 M = some (M + 4) ∧ Gkd G (M + 4) = 100 ∧ Gln G (M + 4) = 2 ∧ Gfr G 1061 M = some (M + 5) ∧ Gkd G (M + 5) = 100 ∧ Gln G (M + 5) = 2200 ∧ Gfr G 1062 M = some (M + 6) ∧ Gkd G (M + 6) = 100 ∧ Gln G (M + 6) = 2200 ∧ Gfr G 1063 M = some (M + 7) ∧ Gkd G (M + 7) = 100 ∧ Gln G (M + 7) = 800 ∧ Gfr G 1064 M = some (M + 8) ∧ Gkd G (M + 8) = 100 ∧ Gln G (M + 8) = 320 ∧ Gfr G 1065 M = some (M + 9) ∧ Gkd G (M + 9) = 100 ∧ Gln G (M + 9) = 320 ∧ Gfr G 1066 M = some (M + 10) ∧ Gkd G (M + 10) = 100 ∧ Gln G (M + 10) = 320 ∧ Gfr G 1067 M = some (M + 11) ∧ Gkd G (M + 11) = 100 ∧ Gln G (M + 11) = 2 ∧ Gfr G 1068 M = some (M + 12) ∧ Gkd G (M + 12) = 100 ∧ Gln G (M + 12) = 16 ∧ Gfr G 1069 M = some (M + 13) ∧ Gkd G (M + 13) = 100 ∧ Gln G (M + 13) = 2 ∧ Gfr G 1070 M = some (M + 14) ∧ Gkd G (M + 14) = 100 ∧ Gln G (M + 14) = 32 ∧ Gfr G 1071 M = some (M + 15) ∧ Gkd G (M + 15) = 100 ∧ Gln G (M + 15) = 2
def MC (G : XG) (M : Nat) : Prop := Gkd G M = 10 ∧ Gfr G 1072 M = some (M + 16) ∧ Gkd G (M + 16) = 100 ∧ Gln G (M + 16) = 500 ∧ Gfr G 1073 M = some (M + 17) ∧ Gkd G (M + 17) = 100 ∧ Gln G (M + 17) = 500 ∧ Gfr G 1074 M = some (M + 18) ∧ Gkd G (M + 18) = 100 ∧ Gln G (M + 18) = 500 ∧ Gfr G 1075 M = some (M + 19) ∧ Gkd G (M + 19) = 100 ∧ Gln G (M + 19) = 1000 ∧ Gfr G 1076 M = some (M + 20) ∧ Gkd G (M + 20) = 100 ∧ Gln G (M + 20) = 1000 ∧ Gfr G 1077 M = some (M + 21) ∧ Gkd G (M + 21) = 100 ∧ Gln G (M + 21) = 12 ∧ Gfr G 1078 M = some (M + 22) ∧ Gkd G (M + 22) = 100 ∧ Gln G (M + 22) = 12 ∧ Gfr G 1079 M = some (M + 23) ∧ Gkd G (M + 23) = 100 ∧ Gln G (M + 23) = 12 ∧ Gfr G 1080 M = some (M + 24) ∧ Gkd G (M + 24) = 100 ∧ Gln G (M + 24) = 12
def MD (G : XG) (M : Nat) : Prop := Gkd G M = 10 ∧ Gfr G 1081 M = some (M + 25) ∧ Gkd G (M + 25) = 100 ∧ Gln G (M + 25) = 30 ∧ Gfr G 1082 M = some (M + 26) ∧ Gkd G (M + 26) = 100 ∧ Gln G (M + 26) = 30 ∧ Gfr G 1083 M = some (M + 27) ∧ Gkd G (M + 27) = 100 ∧ Gln G (M + 27) = 30 ∧ Gfr G 1084 M = some (M + 28) ∧ Gkd G (M + 28) = 100 ∧ Gln G (M + 28) = 30 ∧ Gfr G 1085 M = some (M + 29) ∧ Gkd G (M + 29) = 102 ∧ Gln G (M + 29) = 2 ∧ Gfr G 1086 M = some (M + 30) ∧ Gkd G (M + 30) = 100 ∧ Gln G (M + 30) = 30
def ME (G : XG) (M : Nat) : Prop := Gkd G M = 10 ∧ Gfr G 1087 M = some (M + 31) ∧ Gkd G (M + 31) = 100 ∧ Gln G (M + 31) = 1230 ∧ Gfr G 1088 M = some (M + 32) ∧ Gkd G (M + 32) = 100 ∧ Gln G (M + 32) = 1260 ∧ Gfr G 1089 M = some (M + 33) ∧ Gkd G (M + 33) = 100 ∧ Gln G (M + 33) = 1260 ∧ Gfr G 1090 M = some (M + 34) ∧ Gkd G (M + 34) = 100 ∧ Gln G (M + 34) = 1260 ∧ Gfr G 1091 M = some (M + 35) ∧ Gkd G (M + 35) = 100 ∧ Gln G (M + 35) = 1260 ∧ Gfr G 1092 M = some (M + 36) ∧ Gkd G (M + 36) = 100 ∧ Gln G (M + 36) = 1260 ∧ Gfr G 1093 M = some (M + 37) ∧ Gkd G (M + 37) = 100 ∧ Gln G (M + 37) = 1260 ∧ Gfr G 1094 M = some (M + 38) ∧ Gkd G (M + 38) = 100 ∧ Gln G (M + 38) = 15120 ∧ Gfr G 1095 M = some (M + 39) ∧ Gkd G (M + 39) = 100 ∧ Gln G (M + 39) = 1230 ∧ Gfr G 1096 M = some (M + 40) ∧ Gkd G (M + 40) = 100 ∧ Gln G (M + 40) = 240
def MF (G : XG) (M : Nat) : Prop := Gkd G M = 10 ∧ Gfr G 1097 M = some (M + 41) ∧ Gkd G (M + 41) = 100 ∧ Gln G (M + 41) = 400 ∧ Gfr G 1098 M = some (M + 42) ∧ Gkd G (M + 42) = 100 ∧ Gln G (M + 42) = 400 ∧ Gfr G 1099 M = some (M + 43) ∧ Gkd G (M + 43) = 100 ∧ Gln G (M + 43) = 400 ∧ Gfr G 1100 M = some (M + 44) ∧ Gkd G (M + 44) = 100 ∧ Gln G (M + 44) = 400 ∧ Gfr G 1101 M = some (M + 45) ∧ Gkd G (M + 45) = 100 ∧ Gln G (M + 45) = 400 ∧ Gfr G 1102 M = some (M + 46) ∧ Gkd G (M + 46) = 100 ∧ Gln G (M + 46) = 400 ∧ Gfr G 1103 M = some (M + 47) ∧ Gkd G (M + 47) = 100 ∧ Gln G (M + 47) = 400 ∧ Gfr G 1104 M = some (M + 48) ∧ Gkd G (M + 48) = 100 ∧ Gln G (M + 48) = 400 ∧ Gfr G 1105 M = some (M + 49) ∧ Gkd G (M + 49) = 100 ∧ Gln G (M + 49) = 72 ∧ Gfr G 1106 M = some (M + 50) ∧ Gkd G (M + 50) = 100 ∧ Gln G (M + 50) = 36 ∧ Gfr G 1107 M = some (M + 51) ∧ Gkd G (M + 51) = 100 ∧ Gln G (M + 51) = 12 ∧ Gfr G 1108 M = some (M + 52) ∧ Gkd G (M + 52) = 100 ∧ Gln G (M + 52) = 12 ∧ Gfr G 1109 M = some (M + 53) ∧ Gkd G (M + 53) = 100 ∧ Gln G (M + 53) = 420 ∧ Gfr G 1110 M = some (M + 54) ∧ Gkd G (M + 54) = 100 ∧ Gln G (M + 54) = 3360 ∧ Gfr G 1111 M = some (M + 55) ∧ Gkd G (M + 55) = 100 ∧ Gln G (M + 55) = 560 ∧ Gfr G 1112 M = some (M + 56) ∧ Gkd G (M + 56) = 100 ∧ Gln G (M + 56) = 60
def MG (G : XG) (M : Nat) : Prop := Gkd G M = 10 ∧ Gfr G 1113 M = some (M + 57) ∧ Gkd G (M + 57) = 100 ∧ Gln G (M + 57) = 60 ∧ Gfr G 1114 M = some (M + 58) ∧ Gkd G (M + 58) = 100 ∧ Gln G (M + 58) = 60 ∧ Gfr G 1115 M = some (M + 59) ∧ Gkd G (M + 59) = 100 ∧ Gln G (M + 59) = 1100 ∧ Gfr G 1116 M = some (M + 60) ∧ Gkd G (M + 60) = 100 ∧ Gln G (M + 60) = 244
def ML (G : XG) (M : Nat) : Prop := MA G M ∧ MB G M ∧ MC G M ∧ MD G M ∧ ME G M ∧ MF G M ∧ MG G M
theorem ML.same {G G' : XG} {M : Nat} (h : ML G M) (h1 : Gfr G' = Gfr G) (h3 : Gkd G' = Gkd G) (h4 : Gln G' = Gln G) : ML G' M := by
  unfold ML MA MB MC MD ME MF MG at *
  rw [h1, h3, h4]
  exact h
theorem ML.xi {P : Nat → Prop} {G G' : XG} {M : Nat} (h : ML G M) (k : YI P G G') : ML G' M := h.same k.1 k.2.2.2.1 k.2.2.2.2.1
/-! small things: who is called; truth values; -1 -/
def N1 : Int32 := -1
theorem n_N1 {a : Nat} (h : a < 2147483648) : (nI a = N1) = False := by
  refine eq_false fun q => ?_
  have := nI_toInt h
  rw [q] at this
  have e : N1.toInt = -1 := by decide +kernel
  omega
theorem n_lN {a : Nat} (h : a < 2147483648) : (N1 < nI a) = True := eq_true (by
  rw [Int32.lt_iff_toInt_lt, nI_toInt h]
  have e : N1.toInt = -1 := by decide +kernel
  omega)
theorem n_Nl {a : Nat} (h : a < 2147483648) : (nI a < N1) = False := eq_false (by
  rw [Int32.lt_iff_toInt_lt, nI_toInt h]
  have e : N1.toInt = -1 := by decide +kernel
  omega)
theorem n_leN {a : Nat} (h : a < 2147483648) : (nI a ≤ N1) = False := eq_false (by
  rw [Int32.le_iff_toInt_le, nI_toInt h]
  have e : N1.toInt = -1 := by decide +kernel
  omega)
theorem n_Nle {a : Nat} (h : a < 2147483648) : (N1 ≤ nI a) = True := eq_true (by
  rw [Int32.le_iff_toInt_le, nI_toInt h]
  have e : N1.toInt = -1 := by decide +kernel
  omega)
theorem n_b0 {c : Prop} [Decidable c] : ((if c then nI 1 else nI 0) = nI 0) = ¬ c := by
  by_cases h : c
  · rw [if_pos h]; exact propext ⟨fun e => absurd e (by decide), fun e => absurd h e⟩
  · rw [if_neg h]; exact propext ⟨fun _ => h, fun _ => rfl⟩
theorem n_b1 {c : Prop} [Decidable c] : ((if c then nI 1 else nI 0) = nI 1) = c := by
  by_cases h : c
  · rw [if_pos h]; exact propext ⟨fun _ => h, fun _ => rfl⟩
  · rw [if_neg h]; exact propext ⟨fun e => absurd e (by decide), fun e => absurd e h⟩
theorem oS : (∀ (k v : Nat) (r : List (Nat × Nat)), xlo ((k, v) :: r) k = some v) ∧
  (∀ (j v k : Nat) (r : List (Nat × Nat)), k ≠ j → xlo ((j, v) :: r) k = xlo r k) ∧
  ((-1 : Int32) = N1) ∧ ((-nI 1) = N1) ∧ ((41 : Int32) = nI 41) ∧
  (∀ (a : Nat), a < 2147483648 → (nI a = N1) = False) ∧
  (∀ (a : Nat), a < 2147483648 → (N1 = nI a) = False) ∧
  (∀ (a : Nat), a < 2147483648 → (N1 < nI a) = True) ∧
  (∀ (a : Nat), a < 2147483648 → (nI a < N1) = False) ∧
  (∀ (a : Nat), a < 2147483648 → (nI a ≤ N1) = False) ∧
  (∀ (a : Nat), a < 2147483648 → (N1 ≤ nI a) = True) ∧
  (∀ (c : Prop) [Decidable c], ((if c then nI 1 else nI 0) = nI 0) = ¬ c) ∧
  (∀ (c : Prop) [Decidable c], ((if c then nI 1 else nI 0) = nI 1) = c) ∧ (∀ (c : Prop), (¬ c ∨ c) = True) ∧ (∀ (c : Prop), (¬ ¬ c) = c) ∧ (∀ (α : Type) (c : Prop) [Decidable c] (x : α), (if c then x else x) = x) := ⟨fun _ _ _ => if_pos rfl, fun _ _ _ _ h => if_neg h, rfl, rfl, rfl, fun _ h => n_N1 h, fun a h => (propext eq_comm).trans (n_N1 h), fun _ h => n_lN h, fun _ h => n_Nl h, fun _ h => n_leN h, fun _ h => n_Nle h, fun _ _ => n_b0, fun _ _ => n_b1, fun c => eq_true (Classical.em c).symm, fun _ => propext Classical.not_not, fun _ _ _ _ => ite_self _⟩
/-- the text -/
def TX (G : XG) (M n : Nat) (bf : Nat → Nat) : Prop := Gfi G 38 M = nI n ∧ n ≤ 1000 ∧ ∀ i, i < n → Gai G (M + 2) i = sx (bf i) ∧ bf i < 256
theorem bz_lt {bf : Nat → Nat} {n i : Nat} (h : ∀ i, i < n → bf i < 256) : bz bf n i < 256 := by
  unfold bz
  split
  · next c => exact h i c
  · omega
theorem lgo_b {bf : Nat → Nat} {n : Nat} : ∀ (f a : Nat), a ≤ lgo bf n f a ∧ (a ≤ n → lgo bf n f a ≤ n) ∧ lgo bf n f a ≤ a + f := by
  intro f
  induction f with
  | zero => intro a; exact ⟨Nat.le_refl _, fun h => h, Nat.le_refl _⟩
  | succ f ih =>
    intro a
    unfold lgo
    split
    · next h =>
      have h1 : a < n := by
        unfold bz at h
        by_cases c : a < n
        · exact c
        · rw [if_neg c] at h; omega
      obtain ⟨i1, i2, i3⟩ := ih (a + 1)
      exact ⟨by omega, fun _ => i2 h1, by omega⟩
    · exact ⟨Nat.le_refl _, fun h => h, by omega⟩
theorem dgo_b {bf : Nat → Nat} {n : Nat} : ∀ (f a : Nat), a ≤ dgo bf n f a ∧ (a ≤ n → dgo bf n f a ≤ n) ∧ dgo bf n f a ≤ a + f := by
  intro f
  induction f with
  | zero => intro a; exact ⟨Nat.le_refl _, fun h => h, Nat.le_refl _⟩
  | succ f ih =>
    intro a
    unfold dgo
    split
    · next h =>
      have h1 : a < n := by
        unfold bz at h
        by_cases c : a < n
        · exact c
        · rw [if_neg c] at h; omega
      obtain ⟨i1, i2, i3⟩ := ih (a + 1)
      exact ⟨by omega, fun _ => i2 h1, by omega⟩
    · exact ⟨Nat.le_refl _, fun h => h, by omega⟩
theorem bz_out {bf : Nat → Nat} {n a : Nat} (h : n ≤ a) : bz bf n a = 0 := by unfold bz; rw [if_neg (by omega)]
theorem dva_lt {bf : Nat → Nat} {n a : Nat} (h : ∀ i, bz bf n i < 256) : ∀ k, k ≤ 4 → dva bf n a k < 10000000 := by
  intro k hk
  have b0 := h a
  have b1 := h (a + 1)
  have b2 := h (a + 2)
  have b3 := h (a + 3)
  have e : k = 0 ∨ k = 1 ∨ k = 2 ∨ k = 3 ∨ k = 4 := by omega
  rcases e with rfl | rfl | rfl | rfl | rfl <;> simp only [dva, Nat.add_zero] <;> omega
section TLX
variable {d M n : Nat} {bf : Nat → Nat} {G : XG} {Q : (Option Value ⊕ Nat) → XG → Prop}
theorem t_byteAt {i : Nat} (hm : MA G M) (ht : TX G M n bf) (hi : i < 2000) : XC xms (d + 1) 104 [.ref M, .int (nI i)] G Q = Q (.inl (some (.int (nI (bz bf n i))))) G := by
  obtain ⟨h1, h2, h3⟩ := ht
  unfold MA at hm
  unfold bz
  by_cases c : i < n
  · obtain ⟨e1, e2⟩ := h3 i c
    have e3 := sx_and (bf i) e2
    rw [if_pos c]
    rw [XC_s]
    simp (disch := first | omega | exact cI _ | exact cR _ | exact cK | exact cU | exact cO _ | exact cL _) only [oS, uS.2, Nat.reduceAdd, Nat.reduceSub, Nat.reduceMul, Nat.reduceLeDiff, Nat.reduceEqDiff, Nat.add_sub_cancel, xS, gS, nL, nS, dS, FX9_byteAt, mX9_byteAt, zX9_byteAt, hm, h1, e1, e3]
  · rw [if_neg c]
    rw [XC_s]
    simp (disch := first | omega | exact cI _ | exact cR _ | exact cK | exact cU | exact cO _ | exact cL _) only [oS, uS.2, Nat.reduceAdd, Nat.reduceSub, Nat.reduceMul, Nat.reduceLeDiff, Nat.reduceEqDiff, Nat.add_sub_cancel, xS, gS, nL, nS, dS, FX9_byteAt, mX9_byteAt, zX9_byteAt, hm, h1]
theorem t_in {x y z : Nat} (hx : x < 2147483648) (hy : y < 2147483648) (hz : z < 2147483648) : XC xms (d + 1) 99 [.int (nI x), .int (nI y), .int (nI z)] G Q = Q (.inl (some (.int (if y ≤ x ∧ x ≤ z then nI 1 else nI 0)))) G := by
  rw [XC_s]
  simp (disch := first | omega | exact cI _ | exact cR _ | exact cK | exact cU | exact cO _ | exact cL _) only [oS, uS.2, Nat.reduceAdd, Nat.reduceSub, Nat.reduceMul, Nat.reduceLeDiff, Nat.reduceEqDiff, Nat.add_sub_cancel, xS, gS, nL, nS, dS, FX9_in, mX9_in, zX9_in]
  by_cases c1 : x < y <;> by_cases c2 : z < x <;> simp [c1, c2] <;> (try rw [if_neg (by omega)]) <;> (try rw [if_pos (by omega)])
theorem t_isLetter {i : Nat} (hm : MA G M) (ht : TX G M n bf) (hi : i < 2000) : XC xms (d + 1 + 1) 103 [.ref M, .int (nI i)] G Q = Q (.inl (some (.int (if 97 ≤ bz bf n i ∧ bz bf n i ≤ 122 then nI 1 else nI 0)))) G := by
  have h256 := bz_lt (i := i) (fun i hi => (ht.2.2 i hi).2)
  rw [XC_s]
  simp (disch := first | omega | exact cI _ | exact cR _ | exact cK | exact cU | exact cO _ | exact cL _) only [oS, uS.2, Nat.reduceAdd, Nat.reduceSub, Nat.reduceMul, Nat.reduceLeDiff, Nat.reduceEqDiff, Nat.add_sub_cancel, xS, gS, nL, nS, dS, FX9_isLetter, mX9_isLetter, zX9_isLetter, t_byteAt hm ht hi, hm.1, t_in (show bz bf n i < 2147483648 by omega) (show 97 < 2147483648 by omega) (show 122 < 2147483648 by omega)]
theorem t_isDigit {i : Nat} (hm : MA G M) (ht : TX G M n bf) (hi : i < 2000) : XC xms (d + 1 + 1) 106 [.ref M, .int (nI i)] G Q = Q (.inl (some (.int (if 48 ≤ bz bf n i ∧ bz bf n i ≤ 57 then nI 1 else nI 0)))) G := by
  have h256 := bz_lt (i := i) (fun i hi => (ht.2.2 i hi).2)
  rw [XC_s]
  simp (disch := first | omega | exact cI _ | exact cR _ | exact cK | exact cU | exact cO _ | exact cL _) only [oS, uS.2, Nat.reduceAdd, Nat.reduceSub, Nat.reduceMul, Nat.reduceLeDiff, Nat.reduceEqDiff, Nat.add_sub_cancel, xS, gS, nL, nS, dS, FX9_isDigit, mX9_isDigit, zX9_isDigit, t_byteAt hm ht hi, hm.1, t_in (show bz bf n i < 2147483648 by omega) (show 48 < 2147483648 by omega) (show 57 < 2147483648 by omega)]
theorem Sfi_i {G : XG} {g a : Nat} {v : Int32} (h : Gfi G g a = v) : Sfi G g a v = G := by
  unfold Sfi xu2
  refine Prod.ext ?_ rfl
  funext x y
  show (if x = g ∧ y = a then v else Gfi G x y) = Gfi G x y
  split
  · next e => rw [e.1, e.2, h]
  · rfl
theorem Sfi_s {G : XG} {g a : Nat} {v w : Int32} : Sfi (Sfi G g a v) g a w = Sfi G g a w := by
  unfold Sfi xu2
  refine Prod.ext ?_ rfl
  funext x y
  show (if x = g ∧ y = a then w else if x = g ∧ y = a then v else Gfi G x y) = if x = g ∧ y = a then w else Gfi G x y
  split <;> rfl
theorem Sfi_c {G : XG} {g h a : Nat} {v w : Int32} (n : g ≠ h) : Sfi (Sfi G g a v) h a w = Sfi (Sfi G h a w) g a v := by
  unfold Sfi xu2
  refine Prod.ext ?_ rfl
  funext x y
  show (if x = h ∧ y = a then w else if x = g ∧ y = a then v else Gfi G x y) = if x = g ∧ y = a then v else if x = h ∧ y = a then w else Gfi G x y
  by_cases c1 : x = h ∧ y = a
  · rw [if_pos c1, if_neg (by omega), if_pos c1]
  · rw [if_neg c1, if_neg c1]
theorem Sfi_2 {G : XG} {g h a : Nat} {v w v' w' : Int32} (n : g ≠ h) : Sfi (Sfi (Sfi (Sfi G g a v) h a w) g a v') h a w' = Sfi (Sfi G g a v') h a w' := by
  rw [Sfi_c (g := h) (h := g) (Ne.symm n), Sfi_s, Sfi_s]
theorem t_digits {a : Nat} (hm : MA G M) (ht : TX G M n bf) (ha : Gfi G 39 M = nI a) (han : a ≤ n) : XC xms (d + 1 + 1 + 1) 107 [.ref M] G Q = Q (.inl (some (.int (nI (dgo bf n (n - a) a - a))))) (Sfi (Sfi G 43 M (nI (dva bf n a (min 4 (dgo bf n (n - a) a - a))))) 39 M (nI (dgo bf n (n - a) a))) := by
  have h1000 := ht.2.1
  have h256 : ∀ i, bz bf n i < 256 := fun i => bz_lt (fun i hi => (ht.2.2 i hi).2)
  have lp : ∀ f k, a + k + f = n → XL xms (d + 1 + 1) 107 7 [.ref M, .int (nI k)] [] (Sfi (Sfi G 43 M (nI (dva bf n a (min 4 k)))) 39 M (nI (a + k))) Q = Q (.inl (some (.int (nI (dgo bf n f (a + k) - a))))) (Sfi (Sfi G 43 M (nI (dva bf n a (min 4 (dgo bf n f (a + k) - a))))) 39 M (nI (dgo bf n f (a + k)))) := by
    intro f
    induction f with
    | zero =>
      intro k hk
      have hm' : MA (Sfi (Sfi G 43 M (nI (dva bf n a (min 4 k)))) 39 M (nI (a + k))) M := hm
      have ht' : TX (Sfi (Sfi G 43 M (nI (dva bf n a (min 4 k)))) 39 M (nI (a + k))) M n bf := ht
      have e : bz bf n (a + k) = 0 := bz_out (by omega)
      rw [fX9_digits_7]
      simp (disch := first | omega | exact cI _ | exact cR _ | exact cK | exact cU | exact cO _ | exact cL _) only [oS, uS.2, Nat.reduceAdd, Nat.reduceSub, Nat.reduceMul, Nat.reduceLeDiff, Nat.reduceEqDiff, Nat.add_sub_cancel, xS, gS, nL, nS, dS, FX9_digits, mX9_digits, zX9_digits, t_isDigit hm' ht' (show a + k < 2000 by omega), hm.1, e, dgo]
      rw [Nat.add_sub_cancel_left]
    | succ f ih =>
      intro k hk
      have hm' : MA (Sfi (Sfi G 43 M (nI (dva bf n a (min 4 k)))) 39 M (nI (a + k))) M := hm
      have ht' : TX (Sfi (Sfi G 43 M (nI (dva bf n a (min 4 k)))) 39 M (nI (a + k))) M n bf := ht
      rw [fX9_digits_7]
      have e := h256 (a + k)
      have ih' := ih (k + 1) (by omega)
      by_cases c : 48 ≤ bz bf n (a + k) ∧ bz bf n (a + k) ≤ 57
      · by_cases k4 : k < 4
        · have d4 := dva_lt (a := a) h256 k (by omega)
          have m1 : min 4 k = k := by omega
          have m2 : min 4 (k + 1) = k + 1 := by omega
          rw [m1] at hm' ht' ⊢
          rw [m2] at ih'
          simp (disch := first | omega | exact cI _ | exact cR _ | exact cK | exact cU | exact cO _ | exact cL _) only [oS, uS.2, Nat.reduceAdd, Nat.reduceSub, Nat.reduceMul, Nat.reduceLeDiff, Nat.reduceEqDiff, Nat.add_sub_cancel, xS, gS, nL, nS, dS, FX9_digits, mX9_digits, zX9_digits, t_isDigit hm' ht' (show a + k < 2000 by omega), t_byteAt hm' ht' (show a + k < 2000 by omega), hm.1, c, dgo]
          have e2 : dva bf n a k * 10 + bz bf n (a + k) - 48 = dva bf n a (k + 1) := by show _ = 10 * dva bf n a k + (bz bf n (a + k) - 48); omega
          rw [Sfi_2 (by decide), show 10 * dva bf n a k + bz bf n (a + k) - 48 = dva bf n a (k + 1) from by omega]
          exact ih'
        · have m1 : min 4 k = 4 := by omega
          have m2 : min 4 (k + 1) = 4 := by omega
          rw [m1] at hm' ht' ⊢
          rw [m2] at ih'
          simp (disch := first | omega | exact cI _ | exact cR _ | exact cK | exact cU | exact cO _ | exact cL _) only [oS, uS.2, Nat.reduceAdd, Nat.reduceSub, Nat.reduceMul, Nat.reduceLeDiff, Nat.reduceEqDiff, Nat.add_sub_cancel, xS, gS, nL, nS, dS, FX9_digits, mX9_digits, zX9_digits, t_isDigit hm' ht' (show a + k < 2000 by omega), hm.1, c, dgo]
          rw [Sfi_2 (by decide)]
          exact ih'
      · simp (disch := first | omega | exact cI _ | exact cR _ | exact cK | exact cU | exact cO _ | exact cL _) only [oS, uS.2, Nat.reduceAdd, Nat.reduceSub, Nat.reduceMul, Nat.reduceLeDiff, Nat.reduceEqDiff, Nat.add_sub_cancel, xS, gS, nL, nS, dS, FX9_digits, mX9_digits, zX9_digits, t_isDigit hm' ht' (show a + k < 2000 by omega), hm.1, c, dgo]
        rw [Nat.add_sub_cancel_left]
  have l0 := lp (n - a) 0 (by omega)
  rw [XC_s]
  simp (disch := first | omega | exact cI _ | exact cR _ | exact cK | exact cU | exact cO _ | exact cL _) only [oS, uS.2, Nat.reduceAdd, Nat.reduceSub, Nat.reduceMul, Nat.reduceLeDiff, Nat.reduceEqDiff, Nat.add_sub_cancel, xS, gS, nL, nS, dS, FX9_digits, mX9_digits, zX9_digits, hm.1]
  have e0 : min 4 0 = 0 := rfl
  rw [e0] at l0
  have e1 : Sfi (Sfi G 43 M (nI (dva bf n a 0))) 39 M (nI (a + 0)) = Sfi G 43 M (nI 0) := Sfi_i ha
  rw [e1] at l0
  exact l0
end TLX
