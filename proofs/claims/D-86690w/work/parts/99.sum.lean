set_option maxRecDepth 100000
/-! sums in the heap: a node holds what it does, parts first -/
def nop (k : Nat) : Nat := if k = 42 ∨ k = 47 ∨ k = 37 then mop k else aop k
def NO (G : XG) (lo : Nat) : Nat → Nat → List En → Prop
  | 0, _, _ => False
  | f + 1, a, es => lo ≤ a ∧ a < Gtp G ∧ ((Gkd G a = 15 ∧ es = [(0, Gfi G 79 a)]) ∨ (Gkd G a = 16 ∧ es = [(1, Gfi G 80 a)]) ∨ (Gkd G a = 17 ∧ Gfr G 1120 a = none ∧ es = [(3, Gfi G 81 a)]) ∨ (Gkd G a = 17 ∧ ∃ b eb, Gfr G 1120 a = some b ∧ NO G lo f b eb ∧ es = eb ++ [(2, Gfi G 81 a)]) ∨ (Gkd G a = 14 ∧ Gfr G 1118 a = none ∧ Gfi G 78 a = nI 45 ∧ ∃ b eb, Gfr G 1119 a = some b ∧ NO G lo f b eb ∧ es = eb ++ [(4, 0)]) ∨ (Gkd G a = 14 ∧ ∃ b eb c ec k, Gfr G 1118 a = some b ∧ Gfr G 1119 a = some c ∧ NO G lo f b eb ∧ NO G lo f c ec ∧ Gfi G 78 a = nI k ∧ (k = 42 ∨ k = 47 ∨ k = 37 ∨ k = 43 ∨ k = 45) ∧ es = eb ++ ec ++ [(nop k, 0)]))
theorem NO.kq {P : Nat → Prop} {c u : Nat} {G G' : XG} {lo : Nat} (k : KQ P c u G G') (hp : ∀ a, lo ≤ a → ¬ P a) : ∀ f a es, NO G lo f a es → NO G' lo f a es := by
  intro f
  induction f with
  | zero => intro a es h; exact h
  | succ f ih =>
    intro a es h
    obtain ⟨h1, h2, h⟩ := h
    have e := (k.2.2.2.2.1 a h2).1
    have q := (k.2.2.2.2.2 a h2 (hp a h1)).1
    have kt := k.2.1
    refine ⟨h1, by omega, ?_⟩
    rw [e, (q 79).1, (q 80).1, (q 81).1, (q 78).1, (q 1120).2, (q 1118).2, (q 1119).2]
    rcases h with h | h | h | ⟨h3, b, eb, h4, h5, h6⟩ | ⟨h3, h4, h5, b, eb, h6, h7, h8⟩ | ⟨h3, b, eb, c, ec, k, h4, h5, h6, h7, h8⟩
    · exact .inl h
    · exact .inr (.inl h)
    · exact .inr (.inr (.inl h))
    · exact .inr (.inr (.inr (.inl ⟨h3, b, eb, h4, ih b eb h5, h6⟩)))
    · exact .inr (.inr (.inr (.inr (.inl ⟨h3, h4, h5, b, eb, h6, ih b eb h7, h8⟩))))
    · exact .inr (.inr (.inr (.inr (.inr ⟨h3, b, eb, c, ec, k, h4, h5, ih b eb h6, ih c ec h7, h8⟩))))
theorem NO.mono {G : XG} {lo : Nat} : ∀ f f' a es, f ≤ f' → NO G lo f a es → NO G lo f' a es := by
  intro f
  induction f with
  | zero => intro f' a es _ h; exact h.elim
  | succ f ih =>
    intro f' a es hf h
    obtain ⟨f2, rfl⟩ : ∃ f2, f' = f2 + 1 := ⟨f' - 1, by omega⟩
    have ih := ih f2
    obtain ⟨h1, h2, h⟩ := h
    refine ⟨h1, h2, ?_⟩
    rcases h with h | h | h | ⟨h3, b, eb, h4, h5, h6⟩ | ⟨h3, h4, h5, b, eb, h6, h7, h8⟩ | ⟨h3, b, eb, c, ec, k, h4, h5, h6, h7, h8⟩
    · exact .inl h
    · exact .inr (.inl h)
    · exact .inr (.inr (.inl h))
    · exact .inr (.inr (.inr (.inl ⟨h3, b, eb, h4, ih b eb (by omega) h5, h6⟩)))
    · exact .inr (.inr (.inr (.inr (.inl ⟨h3, h4, h5, b, eb, h6, ih b eb (by omega) h7, h8⟩))))
    · exact .inr (.inr (.inr (.inr (.inr ⟨h3, b, eb, c, ec, k, h4, h5, ih b eb (by omega) h6, ih c ec (by omega) h7, h8⟩))))
section SUM
variable {D S R p : Nat} {t : Tks} {j J : Nat} {g : Nat → Option Nat} {G : XG} {Q : (Option Value ⊕ Nat) → XG → Prop}
theorem d_sign {z : Nat} {k : Int32} {l r : Option Nat} (hD : 2 ≤ D) (hk : Gkd G z = 14) : XC xms D 204 [.ref z, .int k, va_rf l, va_rf r] G Q = Q (.inl none) (Sfr (Sfr (Sfi G 78 z k) 1118 z l) 1119 z r) := by
  obtain ⟨d, rfl⟩ : ∃ d, D = d + 1 + 1 := ⟨D - 2, by omega⟩
  rw [XC_s]
  simp (disch := first | omega | exact cI _ | exact cR _ | exact cK | exact cU | exact cO _ | exact cL _) only [oS, uS.2, Nat.reduceAdd, Nat.reduceSub, Nat.reduceMul, Nat.reduceLeDiff, Nat.reduceEqDiff, Nat.add_sub_cancel, xS, gS, nL, nS, dS, FX13_init, mX13_init, zX13_init, FX12_init, mX12_init, zX12_init, XC_s (k := 203), hk, va_rf_cat]
theorem d_num {z : Nat} {k : Int32} (hD : 2 ≤ D) (hk : Gkd G z = 15) : XC xms D 206 [.ref z, .int k] G Q = Q (.inl none) (Sfi G 79 z k) := by
  obtain ⟨d, rfl⟩ : ∃ d, D = d + 1 + 1 := ⟨D - 2, by omega⟩
  rw [XC_s]
  simp (disch := first | omega | exact cI _ | exact cR _ | exact cK | exact cU | exact cO _ | exact cL _) only [oS, uS.2, Nat.reduceAdd, Nat.reduceSub, Nat.reduceMul, Nat.reduceLeDiff, Nat.reduceEqDiff, Nat.add_sub_cancel, xS, gS, nL, nS, dS, FX14_init, mX14_init, zX14_init, FX12_init, mX12_init, zX12_init, XC_s (k := 203), hk]
theorem d_var {z : Nat} {k : Int32} (hD : 2 ≤ D) (hk : Gkd G z = 16) : XC xms D 208 [.ref z, .int k] G Q = Q (.inl none) (Sfi G 80 z k) := by
  obtain ⟨d, rfl⟩ : ∃ d, D = d + 1 + 1 := ⟨D - 2, by omega⟩
  rw [XC_s]
  simp (disch := first | omega | exact cI _ | exact cR _ | exact cK | exact cU | exact cO _ | exact cL _) only [oS, uS.2, Nat.reduceAdd, Nat.reduceSub, Nat.reduceMul, Nat.reduceLeDiff, Nat.reduceEqDiff, Nat.add_sub_cancel, xS, gS, nL, nS, dS, FX15_init, mX15_init, zX15_init, FX12_init, mX12_init, zX12_init, XC_s (k := 203), hk]
theorem d_place {z : Nat} {k : Int32} {l : Option Nat} (hD : 2 ≤ D) (hk : Gkd G z = 17) : XC xms D 210 [.ref z, .int k, va_rf l] G Q = Q (.inl none) (Sfr (Sfi G 81 z k) 1120 z l) := by
  obtain ⟨d, rfl⟩ : ∃ d, D = d + 1 + 1 := ⟨D - 2, by omega⟩
  rw [XC_s]
  simp (disch := first | omega | exact cI _ | exact cR _ | exact cK | exact cU | exact cO _ | exact cL _) only [oS, uS.2, Nat.reduceAdd, Nat.reduceSub, Nat.reduceMul, Nat.reduceLeDiff, Nat.reduceEqDiff, Nat.add_sub_cancel, xS, gS, nL, nS, dS, FX16_init, mX16_init, zX16_init, FX12_init, mX12_init, zX12_init, XC_s (k := 203), hk, va_rf_cat]
theorem d_kind (h : RE G S R p t J g j) (hD : 1 ≤ D) : XC xms D 42 [.ref R] G Q = Q (.inl (some (.int (nI (zK t j))))) G := by
  obtain ⟨d, rfl⟩ : ∃ d, D = d + 1 := ⟨D - 1, by omega⟩
  exact c_kind h
theorem d_isWord {w : Nat} (h : RE G S R p t J g j) (hD : 2 ≤ D) (hw : w < 100) : XC xms D 41 [.ref R, .int (nI w)] G Q = Q (.inl (some (.int (if zK t j = 2 ∧ zV t j = w then nI 1 else nI 0)))) G := by
  obtain ⟨d, rfl⟩ : ∃ d, D = d + 1 + 1 := ⟨D - 2, by omega⟩
  exact c_isWord h hw
theorem d_need (c : Prop) [Decidable c] (h : RE G S R p t J g j) (hD : 4 ≤ D) : XC xms D 46 [.ref R, .int (if c then nI 1 else nI 0)] G Q = qN Q g G c 1 (zP t j) (Q (.inl none) G) := by
  obtain ⟨d, rfl⟩ : ∃ d, D = d + 1 + 1 + 1 + 1 := ⟨D - 4, by omega⟩
  by_cases e : c
  · rw [if_pos e, qN_1 e]
    exact c_need1 h
  · rw [if_neg e, qN_0 e]
    exact c_need0 h
theorem d_room (c : Prop) [Decidable c] (h : RE G S R p t J g j) (hD : 4 ≤ D) : XC xms D 43 [.ref R, .int (if c then nI 1 else nI 0)] G Q = qN Q g G c 2 (zP t j) (Q (.inl none) G) := by
  obtain ⟨d, rfl⟩ : ∃ d, D = d + 1 + 1 + 1 + 1 := ⟨D - 4, by omega⟩
  by_cases e : c
  · rw [if_pos e, qN_1 e]
    exact c_room1 h
  · rw [if_neg e, qN_0 e]
    exact c_room0 h
theorem d_take {k : Nat} (h : RE G S R p t J g j) (hD : 5 ≤ D) (hk : 1 < k) (hk2 : k < 256) : XC xms D 48 [.ref R, .int (nI k)] G Q = qN Q g G (zK t j = k) 1 (zP t j) (Q (.inl (some (.int (nI (zV t j))))) (Sfi G 5 R (nI (j + 1)))) := by
  obtain ⟨d, rfl⟩ : ∃ d, D = d + 1 + 1 + 1 + 1 + 1 := ⟨D - 5, by omega⟩
  exact c_take h hk hk2
theorem d_name {k m : Nat} (h : RE G S R p t J g j) (hD : 6 ≤ D) (hk : 1 < k) (hk2 : k < 256) (hm : m < 256) : XC xms D 55 [.ref R, .int (nI k), .int (nI m)] G Q = qN Q g G (zK t j = k) 1 (zP t j) (qN Q g G (zV t j < m) 2 (zP t j) (Q (.inl (some (.int (nI (zV t j))))) (Sfi G 5 R (nI (j + 1))))) := by
  obtain ⟨d, rfl⟩ : ∃ d, D = d + 1 + 1 + 1 + 1 + 1 + 1 := ⟨D - 6, by omega⟩
  exact c_name h hk hk2 hm
theorem d_enter {n : Nat} (h : RE G S R p t J g j) (hD : 5 ≤ D) (hn : Gfi G 7 R = nI n) (hn2 : n ≤ 8) : XC xms D 60 [.ref R] G Q = qN Q g G (n < 8) 2 (zP t j) (Q (.inl none) (Sfi (Sfi G 7 R (nI (n + 1))) 5 R (nI (j + 1)))) := by
  obtain ⟨d, rfl⟩ : ∃ d, D = d + 1 + 1 + 1 + 1 + 1 := ⟨D - 5, by omega⟩
  exact c_enter h hn hn2
end SUM
