set_option maxRecDepth 100000
/-! SHAPE of what is read. Tables are the same at a place -/
def tS (T T' : Pg) (x : Nat) : Prop := Tk T' x = Tk T x ∧ Ta T' x = Ta T x ∧ Tb T' x = Tb T x ∧ T1 T' x = T1 T x ∧ T2 T' x = T2 T x ∧ Tl T' x = Tl T x ∧ To T' x = To T x ∧ Tc T' x = Tc T x
def tF (T T' : Pg) (n : Nat) : Prop := (∀ x, x < n → tS T T' x) ∧ Tm T' = Tm T ∧ Tu T' = Tu T
theorem tS.refl {T : Pg} {x : Nat} : tS T T x := ⟨rfl, rfl, rfl, rfl, rfl, rfl, rfl, rfl⟩
theorem tS.trans {T T' T'' : Pg} {x : Nat} (h : tS T T' x) (k : tS T' T'' x) : tS T T'' x := ⟨k.1.trans h.1, k.2.1.trans h.2.1, k.2.2.1.trans h.2.2.1, k.2.2.2.1.trans h.2.2.2.1, k.2.2.2.2.1.trans h.2.2.2.2.1, k.2.2.2.2.2.1.trans h.2.2.2.2.2.1, k.2.2.2.2.2.2.1.trans h.2.2.2.2.2.2.1, k.2.2.2.2.2.2.2.trans h.2.2.2.2.2.2.2⟩
theorem tF.refl {T : Pg} {n : Nat} : tF T T n := ⟨fun _ _ => tS.refl, rfl, rfl⟩
theorem tF.trans {T T' T'' : Pg} {n m : Nat} (h : tF T T' n) (k : tF T' T'' m) (hn : n ≤ m) : tF T T'' n := ⟨fun x q => (h.1 x q).trans (k.1 x (by omega)), k.2.1.trans h.2.1, k.2.2.trans h.2.2⟩
theorem tset_o {T : Pg} {s k x : Nat} {a b : Int32} {e1 e2 : List En} {l : List Nat} {o : Option (List Nat)} {c : List (Int32 × List Nat)} (h : x ≠ s) : tS T (tset T s k a b e1 e2 l o c) x := ⟨if_neg h, if_neg h, if_neg h, if_neg h, if_neg h, if_neg h, if_neg h, if_neg h⟩
theorem tset_s {T : Pg} {s k : Nat} {a b : Int32} {e1 e2 : List En} {l : List Nat} {o : Option (List Nat)} {c : List (Int32 × List Nat)} : Tk (tset T s k a b e1 e2 l o c) s = k ∧ Ta (tset T s k a b e1 e2 l o c) s = a ∧ Tb (tset T s k a b e1 e2 l o c) s = b ∧ T1 (tset T s k a b e1 e2 l o c) s = e1 ∧ T2 (tset T s k a b e1 e2 l o c) s = e2 ∧ Tl (tset T s k a b e1 e2 l o c) s = l ∧ To (tset T s k a b e1 e2 l o c) s = o ∧ Tc (tset T s k a b e1 e2 l o c) s = c := ⟨if_pos rfl, if_pos rfl, if_pos rfl, if_pos rfl, if_pos rfl, if_pos rfl, if_pos rfl, if_pos rfl⟩
/-! well shaped: by other tables, with more fuel -/
theorem wC_up {bk bk' : WB} (hle : wLe bk) {lo hi : Nat} (h : ∀ tg lp dp ss x y, lo ≤ x → y ≤ hi → bk tg lp dp ss x y → bk' tg lp dp ss x y) {s lp dp : Nat} : ∀ {l : List (Int32 × List Nat)} {x y : Nat}, lo ≤ x → y ≤ hi → wC bk s lp dp l x y → wC bk' s lp dp l x y := by
  intro l
  induction l with
  | nil => intro x y _ _ w; exact w
  | cons c r ih =>
    intro x y hx hy w
    obtain ⟨z, h1, h2⟩ := w
    have e1 := hle _ _ _ _ _ _ h1
    have e2 := wC_le hle h2
    exact ⟨z, h _ _ _ _ _ _ hx (by omega) h1, ih (by omega) hy h2⟩
theorem wO_up {bk bk' : WB} {lo hi : Nat} (h : ∀ tg lp dp ss x y, lo ≤ x → y ≤ hi → bk tg lp dp ss x y → bk' tg lp dp ss x y) {tg lp dp x y : Nat} {o : Option (List Nat)} (hx : lo ≤ x) (hy : y ≤ hi) (w : wO bk tg lp dp o x y) : wO bk' tg lp dp o x y := by
  cases o with
  | none => exact w
  | some b => exact h _ _ _ _ _ _ hx hy w
theorem wP_same {T T' : Pg} {nm s : Nat} (h : tS T T' s) (w : wP T nm s) : wP T' nm s := by
  obtain ⟨h1, h2, h3, h4, h5, h6, h7, h8⟩ := h
  unfold wP at *
  rw [h1, h2, h3, h4, h5, h8]
  exact w
theorem wS_up {T T' : Pg} {nm : Nat} {bk bk' : WB} (hle : wLe bk) {tg lp dp s e : Nat} (ht : tS T T' s) (h : ∀ tg lp dp ss x y, s + 1 ≤ x → y ≤ e → bk tg lp dp ss x y → bk' tg lp dp ss x y) (w : wS T nm bk tg lp dp s e) : wS T' nm bk' tg lp dp s e := by
  obtain ⟨w1, w2⟩ := w
  refine ⟨wP_same ht w1, ?_⟩
  obtain ⟨h1, h2, h3, h4, h5, h6, h7, h8⟩ := ht
  rw [h1, h2, h3, h6, h7, h8]
  split at w2
  · next c =>
    rw [if_pos c]
    obtain ⟨d, x, e1, e2, e3⟩ := w2
    have l1 := hle _ _ _ _ _ _ e2
    have l2 := wO_le hle e3
    exact ⟨d, x, e1, h _ _ _ _ _ _ (Nat.le_refl _) l2 e2, wO_up h l1 (Nat.le_refl _) e3⟩
  · next c =>
    rw [if_neg c]
    split at w2
    · next c2 =>
      rw [if_pos c2]
      obtain ⟨d, e1, e2⟩ := w2
      exact ⟨d, e1, h _ _ _ _ _ _ (Nat.le_refl _) (Nat.le_refl _) e2⟩
    · next c2 =>
      rw [if_neg c2]
      split at w2
      · next c3 =>
        rw [if_pos c3]
        obtain ⟨d, x, y, e1, e2, e3, e4, e5⟩ := w2
        have l1 := hle _ _ _ _ _ _ e2
        have l2 := wC_le hle e3
        have l3 := wO_le hle e4
        exact ⟨d, x, y, e1, h _ _ _ _ _ _ (Nat.le_refl _) (by omega) e2, wC_up hle h l1 l3 e3, wO_up h (by omega) (Nat.le_refl _) e4, e5⟩
      · next c3 =>
        rw [if_neg c3]
        exact w2
theorem wB_up {T T' : Pg} {nm : Nat} : ∀ m m' tg lp dp ss lo hi, m ≤ m' → (∀ x, lo ≤ x → x < hi → tS T T' x) → wB T nm m tg lp dp ss lo hi → wB T' nm m' tg lp dp ss lo hi := by
  intro m
  induction m with
  | zero =>
    intro m' tg lp dp ss lo hi _ _ w
    obtain ⟨rfl, rfl⟩ := w
    cases m' with
    | zero => exact ⟨rfl, rfl⟩
    | succ m' => exact rfl
  | succ m ih =>
    intro m' tg lp dp ss lo hi hm ht w
    obtain ⟨m', rfl⟩ : ∃ k, m' = k + 1 := ⟨m' - 1, by omega⟩
    match ss, w with
    | [], w => exact w
    | s :: r, w =>
      obtain ⟨rfl, e, h1, h2, h3⟩ := w
      have l := wB_le T nm m _ _ _ _ _ _ h3
      exact ⟨rfl, e, h1, wS_up (wB_le T nm m) (ht s (Nat.le_refl _) (by omega)) (fun tg lp dp ss x y hx hy q => ih m' tg lp dp ss x y (by omega) (fun z h4 h5 => ht z (by omega) (by omega)) q) h2, ih m' tg lp dp r e hi (by omega) (fun z h4 h5 => ht z (by omega) h5) h3⟩
/-! sums -/
def sE (es : List En) : Prop := (∀ e, e ∈ es → vE e) ∧ ∀ d, dE es d = some (d + 1)
theorem dE_app : ∀ (a b : List En) (d : Nat), dE (a ++ b) d = (dE a d).bind (dE b) := by
  intro a
  induction a with
  | nil => intro b d; rfl
  | cons e r ih =>
    intro b d
    show dE (e :: (r ++ b)) d = (dE (e :: r) d).bind (dE b)
    unfold dE
    split
    · exact ih b _
    · split
      · split
        · rfl
        · exact ih b _
      · split
        · rfl
        · exact ih b _
theorem sE.one {e : En} (h : vE e) (h0 : e.1 = 0 ∨ e.1 = 1 ∨ e.1 = 3) : sE [e] := ⟨fun x hx => by rw [List.mem_singleton.mp hx]; exact h, fun d => if_pos h0⟩
theorem sE.un {a : List En} {e : En} (ha : sE a) (h : vE e) (h0 : e.1 = 2 ∨ e.1 = 4) : sE (a ++ [e]) := by
  refine ⟨fun x hx => ?_, fun d => ?_⟩
  · rcases List.mem_append.mp hx with hx | hx
    · exact ha.1 x hx
    · rw [List.mem_singleton.mp hx]; exact h
  · rw [dE_app, ha.2 d]
    show dE [e] (d + 1) = _
    unfold dE
    rw [if_neg (by omega), if_pos h0, if_neg (by omega)]
    rfl
theorem sE.bi {a b : List En} {e : En} (ha : sE a) (hb : sE b) (h : vE e) (h0 : 5 ≤ e.1) : sE (a ++ b ++ [e]) := by
  refine ⟨fun x hx => ?_, fun d => ?_⟩
  · rcases List.mem_append.mp hx with hx | hx
    · rcases List.mem_append.mp hx with hx | hx
      · exact ha.1 x hx
      · exact hb.1 x hx
    · rw [List.mem_singleton.mp hx]; exact h
  · rw [dE_app, dE_app, ha.2 d]
    show (dE b (d + 1)).bind (dE [e]) = _
    rw [hb.2]
    show dE [e] (d + 1 + 1) = _
    unfold dE
    rw [if_neg (by omega), if_neg (by omega), if_neg (by omega)]
    rfl
theorem vE_o {e : En} (h : e.1 ≤ 9) (h1 : e.1 ≠ 1) (h2 : e.1 ≠ 2) (h3 : e.1 ≠ 3) : vE e := ⟨h, fun q => absurd q h1, fun q => q.elim (fun q => absurd q h2) (fun q => absurd q h3)⟩
theorem zb_ok {α β : Type} {r : Ft ⊕ α} {f : α → Ft ⊕ β} {b : β} (h : zb r f = .inr b) : ∃ a, r = .inr a ∧ f a = .inr b := by
  cases r with
  | inl e => cases h
  | inr a => exact ⟨a, rfl, h⟩
theorem zN_ok {α : Type} {t : Tks} {j k : Nat} {r : Ft ⊕ α} {b : α} (h : zN t j k r = .inr b) : zK t j = k ∧ r = .inr b := by
  unfold zN at h
  split at h
  · next c => exact ⟨c, h⟩
  · cases h
theorem zI_ok {α : Type} {c : Prop} [Decidable c] {t : Tks} {k j : Nat} {r : Ft ⊕ α} {b : α} (h : (if c then zF t k j else r) = .inr b) : ¬ c ∧ r = .inr b := by
  split at h
  · cases h
  · next c => exact ⟨c, h⟩
theorem zI_ok' {α : Type} {c : Prop} [Decidable c] {t : Tks} {k j : Nat} {r : Ft ⊕ α} {b : α} (h : (if c then r else zF t k j) = .inr b) : c ∧ r = .inr b := by
  split at h
  · next c => exact ⟨c, h⟩
  · cases h
section SUMS
variable {t : Tks}
def FS (fac : SumF) : Prop := ∀ d j q, fac d j = .inr q → sE q.2 ∧ j < q.1
theorem mop_v {k : Nat} : 5 ≤ mop k ∧ mop k ≤ 9 := by
  unfold mop
  split
  · omega
  · split <;> omega
theorem aop_v {k : Nat} : 5 ≤ aop k ∧ aop k ≤ 9 := by
  unfold aop
  split <;> omega
theorem pTl_sh {fac : SumF} (hf : FS fac) {d : Nat} : ∀ g j es q, sE es → pTl t fac d g j es = .inr q → sE q.2 ∧ j ≤ q.1 := by
  intro g
  induction g with
  | zero => intro j es q _ h; cases h
  | succ g ih =>
    intro j es q he h
    unfold pTl at h
    split at h
    · obtain ⟨r, h1, h2⟩ := zb_ok h
      obtain ⟨k1, k2⟩ := hf _ _ _ h1
      have mv := mop_v (k := zK t j)
      obtain ⟨i1, i2⟩ := ih _ _ _ (he.bi k1 (vE_o (e := (mop (zK t j), 0)) mv.2 (by show mop _ ≠ 1; omega) (by show mop _ ≠ 2; omega) (by show mop _ ≠ 3; omega)) mv.1) h2
      exact ⟨i1, by omega⟩
    · cases h
      exact ⟨he, Nat.le_refl _⟩
theorem pTerm_sh {fac : SumF} (hf : FS fac) {g d j : Nat} {q : Nat × List En} (h : pTerm t fac g d j = .inr q) : sE q.2 ∧ j < q.1 := by
  obtain ⟨r, h1, h2⟩ := zb_ok h
  obtain ⟨k1, k2⟩ := hf _ _ _ h1
  obtain ⟨i1, i2⟩ := pTl_sh hf _ _ _ _ k1 h2
  exact ⟨i1, by omega⟩
theorem pSl_sh {fac : SumF} (hf : FS fac) {g d : Nat} : ∀ h' j es q, sE es → pSl t fac g d h' j es = .inr q → sE q.2 ∧ j ≤ q.1 := by
  intro h'
  induction h' with
  | zero => intro j es q _ h; cases h
  | succ h' ih =>
    intro j es q he h
    unfold pSl at h
    split at h
    · obtain ⟨r, h1, h2⟩ := zb_ok h
      obtain ⟨k1, k2⟩ := pTerm_sh hf h1
      have mv := aop_v (k := zK t j)
      obtain ⟨i1, i2⟩ := ih _ _ _ (he.bi k1 (vE_o (e := (aop (zK t j), 0)) mv.2 (by show aop _ ≠ 1; omega) (by show aop _ ≠ 2; omega) (by show aop _ ≠ 3; omega)) mv.1) h2
      exact ⟨i1, by omega⟩
    · cases h
      exact ⟨he, Nat.le_refl _⟩
theorem pSm_sh {fac : SumF} (hf : FS fac) {g d j : Nat} {q : Nat × List En} (h : pSm t fac g d j = .inr q) : sE q.2 ∧ j < q.1 := by
  obtain ⟨r, h1, h2⟩ := zb_ok h
  obtain ⟨k1, k2⟩ := pTerm_sh hf h1
  obtain ⟨i1, i2⟩ := pSl_sh hf _ _ _ _ k1 h2
  exact ⟨i1, by omega⟩
theorem pFac_sh : ∀ f, FS (pFac t f) := by
  intro f
  induction f with
  | zero => intro d j q h; cases h
  | succ f ih =>
    intro d j q h
    unfold pFac at h
    split at h
    · obtain ⟨-, h⟩ := zI_ok h
      obtain ⟨r, h1, h2⟩ := zb_ok h
      obtain ⟨k1, k2⟩ := ih _ _ _ h1
      cases h2
      exact ⟨k1.un (vE_o (e := (4, 0)) (by decide) (by decide) (by decide) (by decide)) (.inr rfl), by show j < r.1; omega⟩
    split at h
    · obtain ⟨-, h⟩ := zI_ok h
      obtain ⟨r, h1, h2⟩ := zb_ok h
      obtain ⟨k1, k2⟩ := pSm_sh ih h1
      obtain ⟨-, h2⟩ := zN_ok h2
      cases h2
      exact ⟨k1, by show j < r.1 + 1; omega⟩
    split at h
    · cases h
      exact ⟨sE.one (vE_o (e := (0, _)) (Nat.zero_le _) (by simp) (by simp) (by simp)) (.inl rfl), Nat.lt_succ_self _⟩
    split at h
    · obtain ⟨c, h⟩ := zI_ok' h
      cases h
      exact ⟨sE.one ⟨by simp, fun _ => ⟨_, rfl, c⟩, fun q => q.elim (fun q => absurd q (by simp)) (fun q => absurd q (by simp))⟩ (.inr (.inl rfl)), Nat.lt_succ_self _⟩
    split at h
    · obtain ⟨c, h⟩ := zI_ok h
      obtain ⟨-, h⟩ := zI_ok h
      obtain ⟨-, h⟩ := zI_ok h
      obtain ⟨r, h1, h2⟩ := zb_ok h
      obtain ⟨k1, k2⟩ := pSm_sh ih h1
      obtain ⟨-, h2⟩ := zN_ok h2
      cases h2
      exact ⟨k1.un ⟨by simp, fun q => absurd q (by simp), fun _ => ⟨_, rfl, by omega⟩⟩ (.inl rfl), by show j < r.1 + 1; omega⟩
    split at h
    · obtain ⟨-, h⟩ := zI_ok h
      obtain ⟨-, h⟩ := zI_ok h
      obtain ⟨c, h⟩ := zI_ok h
      cases h
      exact ⟨sE.one ⟨by simp, fun q => absurd q (by simp), fun _ => ⟨_, rfl, by omega⟩⟩ (.inr (.inr rfl)), by show j < j + 2; omega⟩
    · cases h
theorem pSum_sh {f j : Nat} {q : Nat × List En} (h : pSum t f j = .inr q) : sE q.2 ∧ j < q.1 := pSm_sh (pFac_sh f) h
theorem sE.w {es : List En} (h : sE es) : wE es := ⟨h.1, h.2 0⟩
end SUMS
