set_option maxRecDepth 100000
/-! what holds at every time: rows end by now, gaps are in order, a jump waits at one scope -/
def cJ (i : Nat) (K : List Lc) : Nat := match K with
  | [] => 0
  | c :: K => (cJs c).count i + cJ i K
def wX (X : LX) : Prop := (∀ r, r ∈ Xr X → r.2.1 ≤ Xn X) ∧ (∀ c, c ∈ X.2 → srt 0 (cGs c) (Xn X) ∧ ∀ j, j ∈ cJs c → j < Xn X) ∧ ∀ i, cJ i X.2 ≤ 1
theorem count_0 {i : Nat} {l : List Nat} (h : ∀ j, j ∈ l → j ≠ i) : l.count i = 0 := List.count_eq_zero.mpr (fun q => h i q rfl)
theorem cJ_0 {i : Nat} : ∀ {K : List Lc}, (∀ c, c ∈ K → ∀ j, j ∈ cJs c → j < i) → cJ i K = 0 := by
  intro K
  induction K with
  | nil => intro _; rfl
  | cons c K ih =>
    intro h
    unfold cJ
    rw [count_0 (fun j hj => by have := h c List.mem_cons_self j hj; omega), ih (fun c' hc => h c' (List.mem_cons_of_mem _ hc))]
theorem cJ_kx {n i : Nat} (hi : i < n) : ∀ {K K' : List Lc}, kx n K K' → cJ i K' = cJ i K := by
  intro K
  induction K with
  | nil => intro K' h; cases K' with
    | nil => rfl
    | cons => exact h.elim
  | cons c K ih => intro K' h; cases K' with
    | nil => exact h.elim
    | cons c' K' =>
      obtain ⟨-, -, -, -, ⟨j, h5, h5'⟩, h6⟩ := h
      unfold cJ
      rw [h5, List.count_append, count_0 (l := j) (fun x hx => by have := h5' x hx; omega), ih h6]
      rfl
theorem wX.fresh {X : LX} (w : wX X) {i : Nat} (h : Xn X ≤ i) : cJ i X.2 = 0 := cJ_0 (fun c hc j hj => by have := (w.2.1 c hc).2 j hj; omega)
theorem wX.a {o a b : Nat} {X : LX} (w : wX X) : wX (aX o a b X) := ⟨fun r hr => Nat.le_succ_of_le (w.1 r hr), fun c hc => ⟨srt_to (w.2.1 c hc).1 (Nat.le_succ _), fun j hj => Nat.lt_succ_of_lt ((w.2.1 c hc).2 j hj)⟩, w.2.2⟩
theorem wX.ln {j t : Nat} {X : LX} (w : wX X) : wX (lnX j t X) := w
theorem wX.lns {t : Nat} : ∀ {js : List Nat} {X : LX}, wX X → wX (lnsX js t X) := by
  intro js
  induction js with
  | nil => intro X w; exact w
  | cons j r ih => intro X w; exact ih w.ln
theorem wX.co {c s : Nat} {X : LX} (w : wX X) : wX (coX c s X) := w
theorem wX.rw {gs : List (Nat × Nat)} {f t b sl : Nat} {kd : Int32} {X : LX} (w : wX X) (hs : srt f gs t) (ht : t ≤ Xn X) : wX (rwX gs f t b kd sl X) := by
  obtain ⟨e1, e2, e3, e4⟩ := @rwX_n t b sl kd gs f X
  unfold wX
  rw [e1, e3, e4]
  refine ⟨fun r hr => ?_, w.2⟩
  rcases List.mem_append.mp hr with hr | hr
  · exact w.1 r hr
  · have := rwL_in hs r hr
    omega
theorem wX.pu {so s g : Nat} {X : LX} (w : wX X) : wX (puX so s g X) := by
  refine ⟨w.1, fun c hc => ?_, fun i => ?_⟩
  · rcases List.mem_cons.mp hc with rfl | hc
    · exact ⟨Nat.zero_le _, fun _ h => nomatch h⟩
    · exact w.2.1 c hc
  · show ([] : List Nat).count i + cJ i X.2 ≤ 1
    rw [List.count_nil, Nat.zero_add]
    exact w.2.2 i
theorem wX.po {X : LX} (w : wX X) : wX (poX X) := by
  obtain ⟨w1, w2, w3⟩ := w
  refine ⟨w1, fun c hc => w2 c (List.mem_of_mem_tail hc), fun i => ?_⟩
  have := w3 i
  show cJ i X.2.tail ≤ 1
  cases hX : X.2 with
  | nil => exact Nat.zero_le _
  | cons c K =>
    rw [hX] at this
    unfold cJ at this
    show cJ i K ≤ 1
    omega
theorem wX.ju {i : Nat} {X : LX} (w : wX X) (hi : i < Xn X) (h0 : cJ i X.2 = 0) : wX (juX i X) := by
  unfold juX
  cases hX : X.2 with
  | nil => exact w
  | cons c K =>
    obtain ⟨w1, w2, w3⟩ := w
    rw [hX] at w2 w3 h0
    refine ⟨w1, fun c' hc => ?_, fun k => ?_⟩
    · rcases List.mem_cons.mp hc with rfl | hc
      · refine ⟨(w2 c List.mem_cons_self).1, fun j hj => ?_⟩
        rcases List.mem_append.mp (show j ∈ cJs c ++ [i] from hj) with hj | hj
        · exact (w2 c List.mem_cons_self).2 j hj
        · rcases List.mem_singleton.mp hj with rfl
          exact hi
      · exact w2 c' (List.mem_cons_of_mem _ hc)
    · show (cJs c ++ [i]).count k + cJ k K ≤ 1
      have := w3 k
      unfold cJ at this h0
      rw [List.count_append]
      by_cases e : k = i
      · subst e
        rw [List.count_singleton_self]
        omega
      · rw [count_0 (l := [i]) (fun j hj => by rcases List.mem_singleton.mp hj with rfl; exact fun q => e q.symm)]
        omega
theorem wX.ga {f t : Nat} {X : LX} (w : wX X) (h : srt 0 (cGs (toX X)) f) (hf : f ≤ t) (ht : t ≤ Xn X) : wX (gaX f t X) := by
  unfold gaX
  unfold toX at h
  cases hX : X.2 with
  | nil => exact w
  | cons c K =>
    obtain ⟨w1, w2, w3⟩ := w
    rw [hX] at w2 w3 h
    refine ⟨w1, fun c' hc => ?_, fun k => w3 k⟩
    rcases List.mem_cons.mp hc with rfl | hc
    · exact ⟨srt_to (srt_add h (Nat.le_refl _) hf) ht, (w2 c List.mem_cons_self).2⟩
    · exact w2 c' (List.mem_cons_of_mem _ hc)
theorem Ex.ju {a i : Nat} {X Y : LX} (h : Ex a X Y) (hi : Xn X ≤ i) : Ex a X (juX i Y) := by
  unfold juX
  cases hY : Y.2 with
  | nil => exact h
  | cons c K =>
    obtain ⟨h1, h2, h3, h4⟩ := h
    refine ⟨h1, h2, h3, h4.trans hi ?_⟩
    rw [hY]
    exact ⟨rfl, rfl, rfl, ⟨[], (List.append_nil _).symm, fun _ h => nomatch h⟩, ⟨[i], rfl, fun x hx => by rcases List.mem_singleton.mp hx with rfl; exact Nat.le_refl _⟩, kx.refl⟩
theorem Ex.ga {a f t : Nat} {X Y : LX} (h : Ex a X Y) (hf : Xn X ≤ f) : Ex a X (gaX f t Y) := by
  unfold gaX
  cases hY : Y.2 with
  | nil => exact h
  | cons c K =>
    obtain ⟨h1, h2, h3, h4⟩ := h
    refine ⟨h1, h2, h3, h4.trans hf ?_⟩
    rw [hY]
    exact ⟨rfl, rfl, rfl, ⟨[(f, t)], rfl, fun x hx => by rcases List.mem_singleton.mp hx with rfl; exact Nat.le_refl _⟩, ⟨[], (List.append_nil _).symm, fun _ h => nomatch h⟩, kx.refl⟩
/-- a piece of lowering keeps the order -/
def fE (f : LX → LX) : Prop := ∀ X, wX X → wX (f X) ∧ Ex 0 X (f X)
theorem unX_E {f : LX → LX} (hf : fE f) : fE (unX f) := by
  intro X w
  unfold unX
  cases hX : X.2 with
  | nil => exact ⟨w, Ex.refl⟩
  | cons c K =>
    obtain ⟨w1, w2, w3⟩ := w
    rw [hX] at w2 w3
    have wK : wX (X.1, K) := ⟨w1, fun c' hc => w2 c' (List.mem_cons_of_mem _ hc), fun i => by have := w3 i; unfold cJ at this; show cJ i K ≤ 1; omega⟩
    obtain ⟨⟨v1, v2, v3⟩, e1, e2, e3, e4⟩ := hf (X.1, K) wK
    have en : Xn (X.1, K) = Xn X := rfl
    refine ⟨⟨v1, fun c' hc => ?_, fun i => ?_⟩, e1, e2, e3, ?_⟩
    · rcases List.mem_cons.mp hc with rfl | hc
      · exact ⟨srt_to (w2 c' List.mem_cons_self).1 e1, fun j hj => Nat.lt_of_lt_of_le ((w2 c' List.mem_cons_self).2 j hj) e1⟩
      · exact v2 c' hc
    · show (cJs c).count i + cJ i (f (X.1, K)).2 ≤ 1
      by_cases hi : i < Xn X
      · rw [cJ_kx hi e4]
        exact w3 i
      · rw [count_0 (fun j hj => by have := (w2 c List.mem_cons_self).2 j hj; omega), Nat.zero_add]
        exact v3 i
    · rw [hX]
      exact ⟨rfl, rfl, rfl, ⟨[], (List.append_nil _).symm, fun _ h => nomatch h⟩, ⟨[], (List.append_nil _).symm, fun _ h => nomatch h⟩, e4⟩
/-- a run within a new scope -/
theorem scp {f : LX → LX} (hf : fE f) {so s g : Nat} {X : LX} (w : wX X) : ∃ c K2, (f (puX so s g X)).2 = c :: K2 ∧ toX (f (puX so s g X)) = c ∧ c.1 = so ∧ c.2.1 = s ∧ c.2.2.1 = g ∧ srt (Xn X) (cGs c) (Xn (f (puX so s g X))) ∧ (∀ j, j ∈ cJs c → Xn X ≤ j ∧ j < Xn (f (puX so s g X))) ∧ wX (poX (f (puX so s g X))) ∧ Ex 0 X (poX (f (puX so s g X))) ∧ wX (f (puX so s g X)) := by
  obtain ⟨v, e1, e2, e3, e4⟩ := hf (puX so s g X) w.pu
  have en : Xn (puX so s g X) = Xn X := rfl
  cases h2 : (f (puX so s g X)).2 with
  | nil =>
    rw [h2] at e4
    exact e4.elim
  | cons c K2 =>
    rw [h2] at e4
    have e4 : kx (Xn X) ((so, s, g, [], 8, [], 4) :: X.2) (c :: K2) := e4
    obtain ⟨k1, k2, k3, ⟨gg, k4, k4'⟩, ⟨j, k5, k5'⟩, k6⟩ := e4
    have hv := v.2.1 c (by rw [h2]; exact List.mem_cons_self)
    have k4 : cGs c = gg := k4
    have k5 : cJs c = j := k5
    refine ⟨c, K2, rfl, by unfold toX; rw [h2]; rfl, k1, k2, k3, srt_from hv.1 (fun x hx => k4' x (by rw [← k4]; exact hx)) e1, fun x hx => ⟨k5' x (by rw [← k5]; exact hx), hv.2 x hx⟩, v.po, ⟨e1, e2, e3, ?_⟩, v⟩
    show kx (Xn X) X.2 (f (puX so s g X)).2.tail
    rw [h2]
    exact k6
theorem fE.then {f g : LX → LX} (hf : fE f) (hg : fE g) : fE (fun X => g (f X)) := fun X w => ⟨(hg _ (hf X w).1).1, (hf X w).2.trans (hg _ (hf X w).1).2 (Nat.le_refl _)⟩
theorem aX_E {o a b : Nat} : fE (aX o a b) := fun X w => ⟨w.a, Ex.refl.a⟩
section LOWE
variable {T : Pg} {sh : Bool} {bk : LB}
/-- what paX does to the scope on top -/
theorem paX_top {w : Nat} {X : LX} {c : Lc} {K : List Lc} (h : X.2 = c :: K) : ∃ c' K', (paX T sh bk w X).2 = c' :: K' ∧ c'.1 = c.1 ∧ c'.2.1 = c.2.1 ∧ c'.2.2.1 = c.2.2.1 ∧ cGs c' = cGs c := by
  have ht : toX X = c := by unfold toX; rw [h]; rfl
  unfold paX
  dsimp only
  rw [ht]
  split
  · exact ⟨c, K, h, rfl, rfl, rfl, rfl⟩
  split
  · exact ⟨c, K, h, rfl, rfl, rfl, rfl⟩
  split
  · exact ⟨c, K, h, rfl, rfl, rfl, rfl⟩
  split
  · have h1 : (if w = 1 then aX 13 0 (8 * c.2.1 + 2) X else X).2 = c :: K := by split <;> exact h
    generalize (if w = 1 then aX 13 0 (8 * c.2.1 + 2) X else X) = X1 at *
    have h2 : ∃ c' K', (if sh = true then lnX (Xn X1 + 1) (Xn (aX 5 0 0 (aX 19 (8 * c.2.1 + 3) 0 (aX 18 0 (8 * c.2.1 + 1) X1)))) (juX (Xn X1 + 2) (aX 5 0 0 (aX 19 (8 * c.2.1 + 3) 0 (aX 18 0 (8 * c.2.1 + 1) X1)))) else unX (bk (finB T c.2.1)) (aX 12 c.2.1 0 X1)).2 = c' :: K' ∧ c'.1 = c.1 ∧ c'.2.1 = c.2.1 ∧ c'.2.2.1 = c.2.2.1 ∧ cGs c' = cGs c := by
      split
      · have h3 : (aX 5 0 0 (aX 19 (8 * c.2.1 + 3) 0 (aX 18 0 (8 * c.2.1 + 1) X1))).2 = c :: K := h1
        unfold juX
        rw [h3]
        exact ⟨_, _, rfl, rfl, rfl, rfl, rfl⟩
      · have h3 : (aX 12 c.2.1 0 X1).2 = c :: K := h1
        unfold unX
        rw [h3]
        exact ⟨_, _, rfl, rfl, rfl, rfl, rfl⟩
    generalize (if sh = true then lnX (Xn X1 + 1) (Xn (aX 5 0 0 (aX 19 (8 * c.2.1 + 3) 0 (aX 18 0 (8 * c.2.1 + 1) X1)))) (juX (Xn X1 + 2) (aX 5 0 0 (aX 19 (8 * c.2.1 + 3) 0 (aX 18 0 (8 * c.2.1 + 1) X1)))) else unX (bk (finB T c.2.1)) (aX 12 c.2.1 0 X1)) = X2 at *
    split <;> exact h2
  · exact ⟨c, K, h, rfl, rfl, rfl, rfl⟩
theorem paX_E {w : Nat} (hb : ∀ ss, fE (bk ss)) : fE (paX T sh bk w) := by
  intro X wx
  unfold paX
  dsimp only
  generalize toX X = c
  split
  · exact aX_E X wx
  split
  · exact aX_E X wx
  split
  · exact aX_E X wx
  split
  · have h1 : wX (if w = 1 then aX 13 0 (8 * c.2.1 + 2) X else X) ∧ Ex 0 X (if w = 1 then aX 13 0 (8 * c.2.1 + 2) X else X) := by
      split
      · exact aX_E X wx
      · exact ⟨wx, Ex.refl⟩
    generalize (if w = 1 then aX 13 0 (8 * c.2.1 + 2) X else X) = X1 at *
    have h2 : wX (if sh = true then lnX (Xn X1 + 1) (Xn (aX 5 0 0 (aX 19 (8 * c.2.1 + 3) 0 (aX 18 0 (8 * c.2.1 + 1) X1)))) (juX (Xn X1 + 2) (aX 5 0 0 (aX 19 (8 * c.2.1 + 3) 0 (aX 18 0 (8 * c.2.1 + 1) X1)))) else unX (bk (finB T c.2.1)) (aX 12 c.2.1 0 X1)) ∧ Ex 0 X1 (if sh = true then lnX (Xn X1 + 1) (Xn (aX 5 0 0 (aX 19 (8 * c.2.1 + 3) 0 (aX 18 0 (8 * c.2.1 + 1) X1)))) (juX (Xn X1 + 2) (aX 5 0 0 (aX 19 (8 * c.2.1 + 3) 0 (aX 18 0 (8 * c.2.1 + 1) X1)))) else unX (bk (finB T c.2.1)) (aX 12 c.2.1 0 X1)) := by
      split
      · exact ⟨((h1.1.a.a.a).ju (by show Xn X1 + 2 < Xn X1 + 3; omega) (h1.1.fresh (by omega))).ln, ((Ex.refl.a.a.a).ju (by omega)).ln (Or.inr (by omega))⟩
      · exact ⟨(unX_E (hb _) _ h1.1.a).1, (Ex.refl.a).trans (unX_E (hb _) _ h1.1.a).2 (Nat.le_refl _)⟩
    generalize (if sh = true then lnX (Xn X1 + 1) (Xn (aX 5 0 0 (aX 19 (8 * c.2.1 + 3) 0 (aX 18 0 (8 * c.2.1 + 1) X1)))) (juX (Xn X1 + 2) (aX 5 0 0 (aX 19 (8 * c.2.1 + 3) 0 (aX 18 0 (8 * c.2.1 + 1) X1)))) else unX (bk (finB T c.2.1)) (aX 12 c.2.1 0 X1)) = X2 at *
    have h3 := h1.2.trans h2.2 (Nat.le_refl _)
    split
    · exact ⟨h2.1.a, h3.a⟩
    · exact ⟨h2.1, h3⟩
  · exact ⟨wx, Ex.refl⟩
theorem lvX_E {w : Nat} (hb : ∀ ss, fE (bk ss)) : ∀ d n, fE (lvX T sh bk w d n) := by
  intro d
  induction d with
  | zero => intro n X wx; exact aX_E X wx
  | succ d ih =>
    intro n X wx
    unfold lvX
    dsimp only
    split
    · exact ⟨wx.a.ju (by show Xn X < Xn X + 1; omega) (wx.fresh (Nat.le_refl _)), Ex.refl.a.ju (Nat.le_refl _)⟩
    split
    · exact aX_E X wx
    · cases hX : X.2 with
      | nil =>
        obtain ⟨p1, p2⟩ := paX_E (T := T) (sh := sh) (w := w) hb X wx
        obtain ⟨u1, u2⟩ := unX_E (ih (if (toX X).1 = 0 then n - 1 else n)) _ p1
        have e : ∀ Y : LX, kx (Xn X) X.2 Y.2 → Y.2 = [] := by
          intro Y h
          rw [hX] at h
          cases hY : Y.2 with
          | nil => rfl
          | cons c K => rw [hY] at h; exact h.elim
        have e2 := e _ (p2.trans u2 (Nat.le_refl _)).2.2.2
        have eg : ∀ f t (Y : LX), Y.2 = [] → gaX f t Y = Y := by
          intro f t Y h
          unfold gaX
          rw [h]
        rw [eg _ _ _ e2]
        exact ⟨u1, p2.trans u2 (Nat.le_refl _)⟩
      | cons c K =>
        obtain ⟨p1, p2⟩ := paX_E (T := T) (sh := sh) (w := w) hb X wx
        obtain ⟨c', K', t1, t2, t3, t4, t5⟩ := paX_top (T := T) (sh := sh) (bk := bk) (w := w) hX
        generalize paX T sh bk w X = X1 at *
        obtain ⟨u1, u2⟩ := unX_E (ih (if (toX X).1 = 0 then n - 1 else n)) _ p1
        have hc := (wx.2.1 c (by rw [hX]; exact List.mem_cons_self)).1
        have e3 : cGs (toX (unX (lvX T sh bk w d (if (toX X).1 = 0 then n - 1 else n)) X1)) = cGs c := by
          unfold unX toX
          rw [t1]
          exact t5
        have e4 := p2.trans u2 (Nat.le_refl _)
        exact ⟨u1.ga (by rw [e3]; exact hc) e4.1 (Nat.le_refl _), e4.ga (Nat.le_refl _)⟩
theorem leX_E {w n : Nat} (hb : ∀ ss, fE (bk ss)) : fE (leX T sh bk w n) := fun X wx => lvX_E hb _ _ (coX 1 40 X) wx
end LOWE
