set_option maxRecDepth 100000
section RUN
variable {D r nm kk : Nat} {mA : Nat → Nat} {pl : Nat → Int32 → Int32} {B B' : Bk} {G G' : XG} {Q : (Option Value ⊕ Nat) → XG → Prop}
/-- a sum's entries come to: a failure's kind (0: none), a value -/
def EV (B : Bk) (es : List En) (k v : Int32) : Prop := ∀ st, (k = 0 → evs B es st = (0, v :: st)) ∧ (k ≠ 0 → (evs B es st).1 = k)
theorem evs_app : ∀ (a b : List En) (st : List Int32), evs B (a ++ b) st = if (evs B a st).1 = 0 then evs B b (evs B a st).2 else evs B a st := by
  intro a
  induction a with
  | nil => intro b st; exact (if_pos rfl).symm
  | cons e r ih =>
    intro b st
    show (if (ev1 B e st).1 = 0 then evs B (r ++ b) (ev1 B e st).2 else ev1 B e st) = _
    have e2 : evs B (e :: r) st = if (ev1 B e st).1 = 0 then evs B r (ev1 B e st).2 else ev1 B e st := rfl
    rw [e2]
    by_cases c : (ev1 B e st).1 = 0
    · rw [if_pos c, if_pos c, ih]
    · rw [if_neg c, if_neg c, if_neg c]
theorem evs_1 {e : En} {st : List Int32} {k v : Int32} {s : List Int32} (h0 : k = 0 → ev1 B e st = (0, v :: s)) (h1 : k ≠ 0 → (ev1 B e st).1 = k) : (k = 0 → evs B [e] st = (0, v :: s)) ∧ (k ≠ 0 → (evs B [e] st).1 = k) := by
  have e2 : evs B [e] st = if (ev1 B e st).1 = 0 then (0, (ev1 B e st).2) else ev1 B e st := rfl
  rw [e2]
  refine ⟨fun q => ?_, fun q => ?_⟩
  · rw [h0 q, if_pos rfl]
  · rw [if_neg (by rw [h1 q]; exact q)]
    exact h1 q
theorem EV.one {e : En} {k v : Int32} (h : ∀ st, (k = 0 → ev1 B e st = (0, v :: st)) ∧ (k ≠ 0 → (ev1 B e st).1 = k)) : EV B [e] k v := fun st => evs_1 (h st).1 (h st).2
theorem EV.un {e : En} {eb : List En} {k v k' v' : Int32} (h : EV B eb k v) (h1 : k ≠ 0 → k' = k) (h2 : k = 0 → ∀ st, (k' = 0 → ev1 B e (v :: st) = (0, v' :: st)) ∧ (k' ≠ 0 → (ev1 B e (v :: st)).1 = k')) : EV B (eb ++ [e]) k' v' := by
  intro st
  rw [evs_app]
  by_cases c : k = 0
  · rw [(h st).1 c, if_pos rfl]
    exact evs_1 (h2 c st).1 (h2 c st).2
  · have e := (h st).2 c
    rw [if_neg (by rw [e]; exact c), h1 c]
    exact ⟨fun q => absurd q c, fun _ => e⟩
theorem EV.bi {e : En} {ea eb : List En} {k1 v1 k2 v2 k' v' : Int32} (h : EV B ea k1 v1) (g : EV B eb k2 v2) (h1 : k1 ≠ 0 → k' = k1) (h2 : k1 = 0 → k2 ≠ 0 → k' = k2) (h3 : k1 = 0 → k2 = 0 → ∀ st, (k' = 0 → ev1 B e (v2 :: v1 :: st) = (0, v' :: st)) ∧ (k' ≠ 0 → (ev1 B e (v2 :: v1 :: st)).1 = k')) : EV B (ea ++ eb ++ [e]) k' v' := by
  intro st
  rw [List.append_assoc, evs_app]
  by_cases c : k1 = 0
  · rw [(h st).1 c, if_pos rfl, evs_app]
    by_cases c2 : k2 = 0
    · rw [(g (v1 :: st)).1 c2, if_pos rfl]
      exact evs_1 (h3 c c2 st).1 (h3 c c2 st).2
    · have e := (g (v1 :: st)).2 c2
      rw [if_neg (by rw [e]; exact c2), h2 c c2]
      exact ⟨fun q => absurd q c2, fun _ => e⟩
  · have e := (h st).2 c
    rw [if_neg (by rw [e]; exact c), h1 c]
    exact ⟨fun q => absurd q c, fun _ => e⟩
theorem EV.k {es : List En} {k v : Int32} (h : EV B es k v) : (evE B es).1 = k := by
  show (evs B es []).1 = k
  by_cases c : k = 0
  · rw [(h []).1 c, c]
  · exact (h []).2 c
theorem EV.v {es : List En} {v : Int32} (h : EV B es 0 v) : (evE B es).2 = v := by
  show (evs B es []).2.headD 0 = v
  rw [(h []).1 rfl]
  rfl
theorem s_isIn {x y z : Int32} (hD : 1 ≤ D) : XC xms D 3 [.int x, .int y, .int z] G Q = Q (.inl (some (.int (if y ≤ x ∧ x ≤ z then nI 1 else nI 0)))) G := by
  obtain ⟨d, rfl⟩ : ∃ d, D = d + 1 := ⟨D - 1, by omega⟩
  rw [XC_s]
  by_cases c1 : x < y
  · rw [if_neg (fun q => Int32.not_le.mpr c1 q.1)]
    have c1' := eq_true c1
    simp (disch := first | omega | exact cI _ | exact cR _ | exact cK | exact cU | exact cO _ | exact cL _) only [oS, uS.2, Nat.reduceAdd, Nat.reduceSub, Nat.reduceMul, Nat.reduceLeDiff, Nat.reduceEqDiff, Nat.add_sub_cancel, xS, gS, nL, nS, dS, fX0_isIn_0, fX0_isIn_14, fX0_isIn_15, mX0_isIn, zX0_isIn, c1']
  · have c1' : (x < y) = False := eq_false c1
    by_cases c2 : z < x
    · rw [if_neg (fun q => Int32.not_le.mpr c2 q.2)]
      have c2' := eq_true c2
      simp (disch := first | omega | exact cI _ | exact cR _ | exact cK | exact cU | exact cO _ | exact cL _) only [oS, uS.2, Nat.reduceAdd, Nat.reduceSub, Nat.reduceMul, Nat.reduceLeDiff, Nat.reduceEqDiff, Nat.add_sub_cancel, xS, gS, nL, nS, dS, fX0_isIn_0, fX0_isIn_14, fX0_isIn_15, mX0_isIn, zX0_isIn, c1', c2']
    · have c2' : (z < x) = False := eq_false c2
      rw [if_pos ⟨Int32.not_lt.mp c1, Int32.not_lt.mp c2⟩]
      simp (disch := first | omega | exact cI _ | exact cR _ | exact cK | exact cU | exact cO _ | exact cL _) only [oS, uS.2, Nat.reduceAdd, Nat.reduceSub, Nat.reduceMul, Nat.reduceLeDiff, Nat.reduceEqDiff, Nat.add_sub_cancel, xS, gS, nL, nS, dS, fX0_isIn_0, fX0_isIn_14, fX0_isIn_15, mX0_isIn, zX0_isIn, c1', c2']
theorem n_rng {x : Int32} {z : Nat} (hz : z ≤ 8) (h : nI 0 ≤ x ∧ x ≤ nI z - nI 1) : ∃ w, x = nI w ∧ w < 8 := by
  obtain ⟨h1, h2⟩ := h
  rw [Int32.le_iff_toInt_le] at h1 h2
  have e0 : (nI 0).toInt = 0 := rfl
  have e1 : (nI z - nI 1).toInt ≤ 7 := by
    cases z with
    | zero =>
      have e : (nI 0 - nI 1).toInt = -1 := by decide +kernel
      rw [e]
      decide
    | succ z =>
      rw [n_sub (Nat.le_add_left 1 z), Nat.add_sub_cancel, nI_toInt (by omega)]
      omega
  refine ⟨x.toInt.toNat, ?_, by omega⟩
  apply Int32.toInt_inj.mp
  rw [nI_toInt (by omega)]
  omega
/-- the machine fails by a kind -/
def FK (r : Nat) (mA : Nat → Nat) (nm : Nat) (pl : Nat → Int32 → Int32) (B : Bk) (G : XG) (k : Int32) (Q : (Option Value ⊕ Nat) → XG → Prop) : Prop := ∀ G', RU G' r mA nm pl (bMakes k NN B) → Gfi G' 33 (r + 16) = nI (B.1 4) → YZ (rgb r) G G' → Q (.inr (r + 16)) G'
/-- a book that sums are taken by -/
def BV (B : Bk) (kk : Nat) : Prop := CB B ∧ B.1 4 < 401 ∧ B.1 10 = kk + 1 ∧ (∀ i, i < 3 → vR B (B.2 (20 + 4 * kk) i)) ∧ ∀ n, n < B.1 12 → ∃ z, B.2 14 n = nI z ∧ z ≤ 8
theorem k_cell {a j : Nat} {x : Int32} (h : RU G r mA nm pl B) (hB : BV B kk) (hk : Gkd G a = 17) (hj : Gfi G 81 a = nI j) (hj3 : j < 3) (hD : 5 ≤ D) (h0 : B.2 (20 + 4 * kk) j = NN → FK r mA nm pl B G 4 Q)
    (h1 : ∀ n, B.2 (20 + 4 * kk) j = nI n → n < B.1 12 → inRow B (nI n) x = false → FK r mA nm pl B G 3 Q) (h2 : ∀ n, B.2 (20 + 4 * kk) j = nI n → n < B.1 12 → inRow B (nI n) x = true → cellOf (nI n) x < 8 * B.1 12 → Q (.inl (some (.int (nI (cellOf (nI n) x))))) G) : XC xms D 212 [.ref a, .ref r, .ref (r + 18 + 4 * kk), .int x] G Q := by
  obtain ⟨d, rfl⟩ : ∃ d, D = d + 1 + 1 + 1 + 1 := ⟨D - 4, by omega⟩
  obtain ⟨hc, h4, h10, hrow, hsz⟩ := hB
  have l0 := h.1.1.1
  unfold RL0 at l0
  have hk12 : kk < 12 := by have := hc.2.2.2.2.2.2.2.2.2.1; omega
  have hc12 := hc.2.2.2.2.2.2.1
  obtain ⟨q1, q2, q3, q4, q5, q6, q7, q8, q9, -⟩ := h.1.1.2 _ hk12
  have er : Gai G (r + 20 + 4 * kk) j = B.2 (20 + 4 * kk) j := by
    have := h.1.2.2.1 (20 + 4 * kk) j (.inr (.inr (.inr (.inr (.inr (.inr (.inr (.inr (.inr ⟨by omega, by omega, .inr ⟨by omega, hj3⟩⟩)))))))))
    rw [← this]
    congr 1
    omega
  rw [XC_s]
  rcases hrow j hj3 with e | ⟨n, e, hn⟩
  · rw [e] at er
    simp (disch := first | omega | exact cI _ | exact cR _ | exact cK | exact cU | exact cO _ | exact cL _) only [oS, uS.2, Nat.reduceAdd, Nat.reduceSub, Nat.reduceMul, Nat.reduceLeDiff, Nat.reduceEqDiff, Nat.add_sub_cancel, xS, gS, nL, nS, dS, fX16_cell_0, mX16_cell, zX16_cell, l0, hk, hj, hj3, q2, q4, q8, q9, er]
    refine k_fails (D := d + 3) h hc h4 (by omega) (fun G3 h3 f3 y3 => ?_)
    have l3 := h3.1.1.1
    unfold RL0 at l3
    have fin := h0 e G3 h3 f3 y3
    simp (disch := first | omega | exact cI _ | exact cR _ | exact cK | exact cU | exact cO _ | exact cL _) only [oS, uS.2, Nat.reduceAdd, Nat.reduceSub, Nat.reduceMul, Nat.reduceLeDiff, Nat.reduceEqDiff, Nat.add_sub_cancel, xS, gS, nL, nS, dS, mX16_cell, zX16_cell, l3, fin]
  · rw [e] at er
    have hn1 : n < 401 := by omega
    have hn2 : n < 2147483648 := by omega
    have g14 : Gai G (r + 14) n = B.2 14 n := h.1.2.2.1 14 n (.inr (.inr (.inr (.inr (.inr (.inr (.inr (.inl ⟨rfl, hn⟩))))))))
    obtain ⟨z, ez, hz⟩ := hsz n hn
    have is : ∀ Q, XC xms (d + 3) 3 [.int x, .int (nI 0), .int (B.2 14 n - nI 1)] G Q = Q (.inl (some (.int (if nI 0 ≤ x ∧ x ≤ B.2 14 n - nI 1 then nI 1 else nI 0)))) G := fun Q => s_isIn (by omega)
    have ein : inRow B (nI n) x = true ↔ (nI 0 ≤ x ∧ x ≤ B.2 14 n - nI 1) := by
      unfold inRow
      rw [n_clamp hn2, Bool.and_eq_true, decide_eq_true_iff, decide_eq_true_iff]
      exact Iff.rfl
    by_cases c : nI 0 ≤ x ∧ x ≤ B.2 14 n - nI 1
    · have hin := ein.mpr c
      obtain ⟨w, ew, hw⟩ : ∃ w, x = nI w ∧ w < 8 := by
        have c2 := c
        rw [ez] at c2
        exact n_rng hz c2
      have ec : cellOf (nI n) x = 8 * n + w := by
        unfold cellOf
        rw [n_clamp hn2, ew, n_clamp (by omega)]
      have fin := h2 n e hn hin (by rw [ec]; omega)
      rw [ec] at fin
      rw [if_pos c] at is
      subst ew
      have hw2 : w < 2147483648 := by omega
      simp (disch := first | omega | exact cI _ | exact cR _ | exact cK | exact cU | exact cO _ | exact cL _) only [oS, uS.2, Nat.reduceAdd, Nat.reduceSub, Nat.reduceMul, Nat.reduceLeDiff, Nat.reduceEqDiff, Nat.add_sub_cancel, xS, gS, nL, nS, dS, fX16_cell_0, fX16_cell_24, fX16_cell_47, mX16_cell, zX16_cell, l0, hk, hj, hj3, q2, q4, q8, q9, er, hn1, hn2, g14, is, fin]
    · have hin : inRow B (nI n) x = false := by
        cases hb : inRow B (nI n) x with
        | false => rfl
        | true => exact absurd (ein.mp hb) c
      rw [if_neg c] at is
      simp (disch := first | omega | exact cI _ | exact cR _ | exact cK | exact cU | exact cO _ | exact cL _) only [oS, uS.2, Nat.reduceAdd, Nat.reduceSub, Nat.reduceMul, Nat.reduceLeDiff, Nat.reduceEqDiff, Nat.add_sub_cancel, xS, gS, nL, nS, dS, fX16_cell_0, fX16_cell_24, mX16_cell, zX16_cell, l0, hk, hj, hj3, q2, q4, q8, q9, er, hn1, hn2, g14, is]
      refine k_fails (D := d + 3) h hc h4 (by omega) (fun G3 h3 f3 y3 => ?_)
      have l3 := h3.1.1.1
      unfold RL0 at l3
      have fin := h1 n e hn hin G3 h3 f3 y3
      simp (disch := first | omega | exact cI _ | exact cR _ | exact cK | exact cU | exact cO _ | exact cL _) only [oS, uS.2, Nat.reduceAdd, Nat.reduceSub, Nat.reduceMul, Nat.reduceLeDiff, Nat.reduceEqDiff, Nat.add_sub_cancel, xS, gS, nL, nS, dS, mX16_cell, zX16_cell, l3, fin]
end RUN
