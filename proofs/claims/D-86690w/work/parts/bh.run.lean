set_option maxRecDepth 100000
section RUN
variable {r kk lo hi nm : Nat} {mA : Nat → Nat} {pl : Nat → Int32 → Int32} {B : Bk} {G G' G2 : XG}
/-- what a walk in frame kk of statements lo .. hi keeps -/
def KT (r kk lo hi : Nat) (G G' : XG) : Prop := YE r G G' ∧ (∀ j, j < kk → ∀ y, Gai G' (r + 21 + 4 * j) y = Gai G (r + 21 + 4 * j) y) ∧ (∀ y, (y < 8 * lo ∨ 8 * hi ≤ y) → Gai G' (r + 21 + 4 * kk) y = Gai G (r + 21 + 4 * kk) y) ∧ ∀ j, j < kk → Gfi G' 34 (r + 18 + 4 * j) = Gfi G 34 (r + 18 + 4 * j)
theorem KT.refl : KT r kk lo hi G G := ⟨YE.refl, fun _ _ _ => rfl, fun _ _ => rfl, fun _ _ => rfl⟩
theorem KT.trans (h : KT r kk lo hi G G') (k : KT r kk lo hi G' G2) : KT r kk lo hi G G2 := ⟨h.1.trans k.1, fun j hj y => (k.2.1 j hj y).trans (h.2.1 j hj y), fun y hy => (k.2.2.1 y hy).trans (h.2.2.1 y hy), fun j hj => (k.2.2.2 j hj).trans (h.2.2.2 j hj)⟩
theorem KT.mono {lo' hi' : Nat} (h : KT r kk lo hi G G') (h1 : lo' ≤ lo) (h2 : hi ≤ hi') : KT r kk lo' hi' G G' := ⟨h.1, h.2.1, fun y hy => h.2.2.1 y (by omega), h.2.2.2⟩
theorem YV.kt (h : YV r kk G G') (hk : kk < 12) : KT r kk lo hi G G' := by
  have s : ∀ j y, Gai G' (r + 21 + 4 * j) y = Gai G (r + 21 + 4 * j) y := fun j y => h.2.2.2.2.2.2.2.2.2.1 _ y (fun q => by
    rcases q with q | q | q
    · have := q.2
      omega
    · omega
    · omega)
  exact ⟨YZ.ye (h.mono (fun a q => by
    rcases q with q | q | q
    · exact ⟨q.1, by have := q.2; omega⟩
    · exact ⟨by omega, by omega⟩
    · exact ⟨by omega, by omega⟩)), fun j _ y => s j y, fun y _ => s kk y, fun j _ => h.2.2.2.2.2.2.2.2.1 34 _ (fun q => by
    rcases q with q | q | q
    · have := q.2
      omega
    · omega
    · omega)⟩
theorem YZ.kt (h : YZ (rgb r) G G') (hk : kk < 12) : KT r kk lo hi G G' := YV.kt h.yv hk
/-- what a walk comes to -/
def oW (r kk lo hi nm : Nat) (mA : Nat → Nat) (pl : Nat → Int32 → Int32) (G : XG) (q : Rs) (z : Option Value ⊕ Nat) (G' : XG) : Prop := KT r kk lo hi G G' ∧ ((q.1 = 0 ∧ z = .inl (some (.int (nI 0))) ∧ RU G' r mA nm pl q.2.2) ∨ (q.1 = 1 ∧ z = .inl (some (.int (nI 1))) ∧ Gfi G' 34 (r + 18 + 4 * kk) = q.2.1 ∧ RU G' r mA nm pl q.2.2) ∨ (q.1 = 2 ∧ (∃ j, q.2.1 = nI j ∧ 1 ≤ j ∧ j < 100 ∧ z = .inl (some (.int (nI (100 + j))))) ∧ RU G' r mA nm pl q.2.2) ∨ (q.1 = 3 ∧ (∃ j, q.2.1 = nI j ∧ 1 ≤ j ∧ j < 100 ∧ z = .inl (some (.int (nI (200 + j))))) ∧ RU G' r mA nm pl q.2.2) ∨ (q.1 = 4 ∧ z = .inr (r + 16) ∧ Gfi G' 33 (r + 16) = q.2.1 ∧ RU G' r mA nm pl q.2.2) ∨ (q.1 = 5 ∧ z = .inr (r + 17) ∧ RU G' r mA nm pl (b1 q.2.2 10 (kk + 1))))
theorem oW.of {lo' hi' : Nat} {q : Rs} {z : Option Value ⊕ Nat} (k : KT r kk lo hi G G') (h : oW r kk lo' hi' nm mA pl G' q z G2) (h1 : lo ≤ lo') (h2 : hi' ≤ hi) : oW r kk lo hi nm mA pl G q z G2 := ⟨k.trans (h.1.mono h1 h2), h.2⟩
theorem oW.fail {k : Int32} (h : RU G' r mA nm pl (bMakes k NN B)) (h3 : Gfi G' 33 (r + 16) = nI (B.1 4)) (y : YZ (rgb r) G G') (hk : kk < 12) : oW r kk lo hi nm mA pl G (sFail k B) (.inr (r + 16)) G' := ⟨y.kt hk, .inr (.inr (.inr (.inr (.inl ⟨rfl, rfl, h3, h⟩))))⟩
theorem oW.spent (h : RU G r mA nm pl B) (h10 : B.1 10 = kk + 1) : oW r kk lo hi nm mA pl G (5, 0, B) (.inr (r + 17)) G := by
  have e : b1 B 10 (kk + 1) = B := by
    refine Prod.ext (funext fun x => ?_) rfl
    show (if x = 10 then kk + 1 else B.1 x) = B.1 x
    by_cases c : x = 10
    · rw [if_pos c, c, h10]
    · rw [if_neg c]
  refine ⟨KT.refl, .inr (.inr (.inr (.inr (.inr ⟨rfl, rfl, ?_⟩))))⟩
  show RU G r mA nm pl (b1 B 10 (kk + 1))
  rw [e]
  exact h
end RUN
