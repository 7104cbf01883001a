set_option maxRecDepth 100000
theorem NO.lo {G : XG} {lo lo' : Nat} (hl : lo' ≤ lo) : ∀ f a es, NO G lo f a es → NO G lo' f a es := by
  intro f
  induction f with
  | zero => intro a es h; exact h.elim
  | succ f ih =>
    intro a es h
    obtain ⟨h1, h2, h⟩ := h
    refine ⟨Nat.le_trans hl h1, h2, ?_⟩
    rcases h with h | h | h | ⟨h3, b, eb, h4, h5, h6⟩ | ⟨h3, h4, h5, b, eb, h6, h7, h8⟩ | ⟨h3, b, eb, c, ec, k, h4, h5, h6, h7, h8⟩
    · exact .inl h
    · exact .inr (.inl h)
    · exact .inr (.inr (.inl h))
    · exact .inr (.inr (.inr (.inl ⟨h3, b, eb, h4, ih b eb h5, h6⟩)))
    · exact .inr (.inr (.inr (.inr (.inl ⟨h3, h4, h5, b, eb, h6, ih b eb h7, h8⟩))))
    · exact .inr (.inr (.inr (.inr (.inr ⟨h3, b, eb, c, ec, k, h4, h5, ih b eb h6, ih c ec h7, h8⟩))))
/-- from G0 to G', the reader's cell R: its token may have changed, new cells -/
def sK (R c u : Nat) (G0 G' : XG) : Prop := KQ (fun a => a = R) c u G0 G' ∧ (∀ f, f ≠ 5 → Gfi G' f R = Gfi G0 f R) ∧ ∀ f, Gfr G' f R = Gfr G0 f R
theorem sK.trans {R c u c' u' : Nat} {G G' G'' : XG} (h : sK R c u G G') (k : sK R c' u' G' G'') : sK R (c + c') (u + u') G G'' := ⟨h.1.trans k.1, fun f hf => (k.2.1 f hf).trans (h.2.1 f hf), fun f => (k.2.2 f).trans (h.2.2 f)⟩
theorem sK.mono {R c u c' u' : Nat} {G G' : XG} (h : sK R c u G G') (hc : c ≤ c') (hu : u ≤ u') : sK R c' u' G G' := ⟨h.1.mono (fun _ q => q) hc hu, h.2⟩
theorem sK.refl {R : Nat} {G : XG} : sK R 0 0 G G := ⟨KQ.refl, fun _ _ => rfl, fun _ => rfl⟩
theorem sK.at {R : Nat} {G : XG} {v : Int32} : sK R 0 0 G (Sfi G 5 R v) := ⟨KQ.fi rfl, fun f hf => if_neg (fun q : f = 5 ∧ R = R => hf q.1), fun _ => rfl⟩
/-- what reading a sum comes to -/
def sOut (S R p : Nat) (t : Tks) (J : Nat) (g : Nat → Option Nat) (G0 : XG) (j : Nat) (r : Sr) (o : Option Value ⊕ Nat) (G' : XG) : Prop := match r with
  | .inl e => KQ (fun a => a = R) (J + 1 - j) (3 * (J - j) + 8) G0 G' ∧ ∃ z, o = .inr z ∧ FT G' z e.1 e.2
  | .inr q => sK R (q.1 - j) (3 * (q.1 - j)) G0 G' ∧ ∃ a, o = .inl (some (.ref a)) ∧ RE G' S R p t J g q.1 ∧ NO G' (Gtp G0) (q.1 - j) a q.2 ∧ j < q.1
def HF (S R p : Nat) (t : Tks) (J : Nat) (g : Nat → Option Nat) (f : Nat) : Prop := ∀ n j G D, RE G S R p t J g j → Gfi G 7 R = nI n → n ≤ 8 → J < j + f → 3 * (9 - n) + 8 ≤ D → XC xms D 59 [.ref R] G (sOut S R p t J g G j (pFac t f n j))
theorem RE.R {G : XG} {S R p : Nat} {t : Tks} {J : Nat} {g : Nat → Option Nat} {j : Nat} (h : RE G S R p t J g j) : R + 4 ≤ Gtp G := h.1.2.2.2.2.2.2.2.2.2.2.2.2.2.2
/-- a sign's node is made: G → (token) → new → G' → its fields -/
def sgN (G : XG) (z : Nat) (k : Int32) (l r : Option Nat) : XG := Sfr (Sfr (Sfi G 78 z k) 1118 z l) 1119 z r
theorem sgN_kq {P : Nat → Prop} {G : XG} {z : Nat} {k : Int32} {l r : Option Nat} (h : P z) : KQ P 0 0 G (sgN G z k l r) := ((KQ.fi h).trans (KQ.fr h)).trans (KQ.fr h)
theorem sgN_sk {R c u z : Nat} {G G' : XG} {k : Int32} {l r : Option Nat} (hz : z = Gtp G) (hR : R < Gtp G) (h : sK R c u (Sno G 13 3) G') : sK R (1 + c) (3 + u) G (sgN G' z k l r) := by
  refine ⟨KQ.new ?_, fun f hf => ?_, fun f => ?_⟩
  · have k1 : KQ (fun a => a = R ∨ Gtp G ≤ a) 1 3 G (Sno G 13 3) := KQ.no
    exact (k1.trans (h.1.mono (fun a q => .inl q) (Nat.le_refl _) (Nat.le_refl _))).trans (sgN_kq (.inr (by omega)))
  · have e : Gfi (sgN G' z k l r) f R = Gfi G' f R := if_neg (fun q => by have := q.2; omega)
    exact e.trans ((h.2.1 f hf).trans (if_neg (by omega)))
  · have e : Gfr (sgN G' z k l r) f R = Gfr G' f R := (if_neg (fun q => by have := q.2; omega)).trans (if_neg (fun q => by have := q.2; omega))
    exact e.trans ((h.2.2 f).trans (if_neg (by omega)))
section SUM
variable {D S R p : Nat} {t : Tks} {j J f : Nat} {g : Nat → Option Nat} {G : XG} {Q : (Option Value ⊕ Nat) → XG → Prop}
/-- a chain's step: what was read (a, es), a sign k, what comes (q, b) -/
theorem chain {j0 a b z k : Nat} {es : List En} {q : Nat × List En} {G0 G' : XG} (h : RE G S R p t J g j) (hk : sK R (j - j0) (3 * (j - j0)) G0 G) (hR0 : R < Gtp G0) (hj : j0 < j) (hn : NO G (Gtp G0) (j - j0) a es) (hz : z = Gtp G) (k1 : sK R (q.1 - (j + 1)) (3 * (q.1 - (j + 1))) (Sno (Sfi G 5 R (nI (j + 1))) 13 3) G') (k2 : RE G' S R p t J g q.1) (k3 : NO G' (Gtp G + 1) (q.1 - (j + 1)) b q.2) (k4 : j + 1 < q.1) (hc : k = 42 ∨ k = 47 ∨ k = 37 ∨ k = 43 ∨ k = 45) : RE (sgN G' z (nI k) (some a) (some b)) S R p t J g q.1 ∧ sK R (q.1 - j0) (3 * (q.1 - j0)) G0 (sgN G' z (nI k) (some a) (some b)) ∧ NO (sgN G' z (nI k) (some a) (some b)) (Gtp G0) (q.1 - j0) z (es ++ q.2 ++ [(nop k, 0)]) := by
  have hR := h.R
  have ht0 := hk.1.2.1
  have s1 : sK R (1 + (q.1 - (j + 1))) (3 + 3 * (q.1 - (j + 1))) (Sfi G 5 R (nI (j + 1))) (sgN G' z (nI k) (some a) (some b)) := sgN_sk hz (by show R < Gtp G; omega) k1
  have s2 := sK.at.trans s1
  have s3 := hk.trans s2
  have hzk : Gkd G' z = 14 := ((k1.1.2.2.2.2.1 z (by rw [hz]; exact Nat.lt_succ_self _)).1).trans (if_pos hz)
  have hzt : z < Gtp G' := by have := k1.1.2.1; have e : Gtp (Sno (Sfi G 5 R (nI (j + 1))) 13 3) = Gtp G + 1 := rfl; omega
  refine ⟨k2.kq (P := fun a => a = z) (sgN_kq rfl) (fun a h1 _ e => by omega), s3.mono (by omega) (by omega), ?_⟩
  obtain ⟨m, hm⟩ : ∃ m, q.1 - j0 = m + 1 := ⟨q.1 - j0 - 1, by omega⟩
  rw [hm]
  refine ⟨by omega, hzt, .inr (.inr (.inr (.inr (.inr ⟨hzk, a, es, b, q.2, k, ?_, if_pos ⟨rfl, rfl⟩, ?_, ?_, if_pos ⟨rfl, rfl⟩, hc, rfl⟩))))⟩
  · unfold sgN
    simp (disch := first | omega | exact cI _ | exact cR _ | exact cK | exact cU | exact cO _ | exact cL _) only [uS, Nat.reduceAdd, Nat.reduceSub, Nat.reduceMul, Nat.reduceLeDiff, Nat.reduceEqDiff, Nat.add_sub_cancel, gS, nL, nS, dS, Nat.add_left_cancel_iff]
  · refine NO.mono (j - j0) m _ _ (by omega) (NO.kq s2.1 (fun a h1 e => ?_) _ _ _ hn)
    have := hk.1.2.1
    omega
  · exact NO.lo (lo := Gtp G + 1) (by omega) _ _ _ (NO.mono (q.1 - (j + 1)) m _ _ (by omega) (NO.kq (P := fun a => a = z) (sgN_kq rfl) (fun a h1 e => by omega) _ _ _ k3))
theorem d_term_lp {n j0 : Nat} {G0 : XG} (HH : HF S R p t J g f) (hn8 : n ≤ 8) (hD : 3 * (9 - n) + 8 ≤ D) (hR0 : R < Gtp G0) : ∀ h j G a es x, h ≤ f → J < j + h → RE G S R p t J g j → Gfi G 7 R = nI n → sK R (j - j0) (3 * (j - j0)) G0 G → j0 < j → NO G (Gtp G0) (j - j0) a es → ∀ Q, (∀ o G', sOut S R p t J g G0 j0 (pTl t (pFac t f) n h j es) o G' → Q o G') → XL xms D 58 5 [.ref R, .ref a, x] [] G Q := by
  intro h
  induction h with
  | zero =>
    intro j G a es x _ hJ hr
    have := hr.2.2.2.2
    omega
  | succ h ih =>
    intro j G a es x hf hJ hr h7 hk hj hno Q hQ
    have ck := fun Q => d_kind (D := D) (Q := Q) hr (by omega)
    have hg := hr.1.2.1
    have ha := hr.2.2.2.1
    have hjJ := hr.2.2.2.2
    have hb : zK t j < 256 := (hr.2.1.2.2 j hjJ).2.2.2.1
    have hJ1 := hr.2.1.1
    rw [fX2_term_5]
    by_cases c : zK t j = 42 ∨ zK t j = 47 ∨ zK t j = 37
    · have hnx := hr.nx (show zK t j ≠ 0 by omega)
      have hr1 := hr.at hnx
      have hr2 : RE (Sno (Sfi G 5 R (nI (j + 1))) 13 3) S R p t J g (j + 1) := hr1.kq (P := fun _ => False) KQ.no (fun _ _ _ q => q)
      have hRG := hr.R
      have h71 : Gfi (Sfi G 5 R (nI (j + 1))) 7 R = nI n := by simp (disch := first | omega | exact cI _ | exact cR _ | exact cK | exact cU | exact cO _ | exact cL _) only [uS, Nat.reduceAdd, Nat.reduceSub, Nat.reduceMul, Nat.reduceLeDiff, Nat.reduceEqDiff, Nat.add_sub_cancel, gS, nL, nS, dS, h7]
      have h72 : Gfi (Sno (Sfi G 5 R (nI (j + 1))) 13 3) 7 R = nI n := (if_neg (by show ¬ R = Gtp G; omega)).trans h71
      have hrec := HH n (j + 1) _ D hr2 h72 hn8 (by omega) hD
      have hun : pTl t (pFac t f) n (h + 1) j es = zb (pFac t f n (j + 1)) (fun r => pTl t (pFac t f) n h r.1 (es ++ r.2 ++ [(mop (zK t j), 0)])) := if_pos c
      rw [hun] at hQ
      have fin : XC xms D 59 [.ref R] (Sno (Sfi G 5 R (nI (j + 1))) 13 3) (XK xms D 58 54 [(57, i_cli 204 3), (60, i_ast 1), (61, i_got 5)] [.ref R, .ref a, .int (nI (zK t j))] [.ref a, .int (nI (zK t j)), .ref (Gtp G), .ref (Gtp G)] Q) := by
        refine hrec.mono (fun o G' hh => ?_)
        cases hp : pFac t f n (j + 1) with
        | inl e =>
          rw [hp] at hh hQ
          obtain ⟨k1, z, rfl, k2⟩ := hh
          have := hQ (.inr z) G' ⟨?_, z, rfl, k2⟩
          · simp (disch := first | omega | exact cI _ | exact cR _ | exact cK | exact cU | exact cO _ | exact cL _) only [oS, uS.2, Nat.reduceAdd, Nat.reduceSub, Nat.reduceMul, Nat.reduceLeDiff, Nat.reduceEqDiff, Nat.add_sub_cancel, xS, gS, nL, nS, dS, mX2_term, zX2_term, this]
          · have k0 : KQ (fun a => a = R) 1 3 (Sfi G 5 R (nI (j + 1))) (Sno (Sfi G 5 R (nI (j + 1))) 13 3) := KQ.no
            exact ((hk.1.trans (sK.at (v := nI (j + 1))).1).trans (k0.trans k1)).mono (fun _ q => q) (by omega) (by omega)
        | inr q =>
          rw [hp] at hh hQ
          obtain ⟨k1, b, rfl, k2, k3, k4⟩ := hh
          have k3 : NO G' (Gtp G + 1) (q.1 - (j + 1)) b q.2 := k3
          have hzk : Gkd G' (Gtp G) = 14 := ((k1.1.2.2.2.2.1 (Gtp G) (Nat.lt_succ_self _)).1).trans (if_pos rfl)
          obtain ⟨m1, m2, m3⟩ := chain (k := zK t j) hr hk hR0 hj hno rfl k1 k2 k3 k4 (by omega)
          have hop : nop (zK t j) = mop (zK t j) := if_pos c
          rw [hop] at m3
          have ih' := ih q.1 _ (Gtp G) _ (.int (nI (zK t j))) (by omega) (by omega) m1 ((m2.2.1 7 (by omega)).trans ((hk.2.1 7 (by omega)).symm.trans h7)) m2 (by omega) m3 Q hQ
          have hs : ∀ Q, XC xms D 204 [.ref (Gtp G), .int (nI (zK t j)), .ref a, .ref b] G' Q = Q (.inl none) (sgN G' (Gtp G) (nI (zK t j)) (some a) (some b)) := fun Q => d_sign (l := some a) (r := some b) (by omega) hzk
          simp (disch := first | omega | exact cI _ | exact cR _ | exact cK | exact cU | exact cO _ | exact cL _) only [oS, uS.2, Nat.reduceAdd, Nat.reduceSub, Nat.reduceMul, Nat.reduceLeDiff, Nat.reduceEqDiff, Nat.add_sub_cancel, xS, gS, nL, nS, dS, mX2_term, zX2_term, hs]
          exact ih'
      rcases c with c | c | c
      · rw [c] at fin
        simp (disch := first | omega | exact cI _ | exact cR _ | exact cK | exact cU | exact cO _ | exact cL _) only [oS, uS.2, Nat.reduceAdd, Nat.reduceSub, Nat.reduceMul, Nat.reduceLeDiff, Nat.reduceEqDiff, Nat.add_sub_cancel, xS, gS, nL, nS, dS, fX2_term_32, mX2_term, zX2_term, hg, ha, ck, c]
        exact fin
      · rw [c] at fin
        simp (disch := first | omega | exact cI _ | exact cR _ | exact cK | exact cU | exact cO _ | exact cL _) only [oS, uS.2, Nat.reduceAdd, Nat.reduceSub, Nat.reduceMul, Nat.reduceLeDiff, Nat.reduceEqDiff, Nat.add_sub_cancel, xS, gS, nL, nS, dS, fX2_term_32, mX2_term, zX2_term, hg, ha, ck, c]
        exact fin
      · rw [c] at fin
        simp (disch := first | omega | exact cI _ | exact cR _ | exact cK | exact cU | exact cO _ | exact cL _) only [oS, uS.2, Nat.reduceAdd, Nat.reduceSub, Nat.reduceMul, Nat.reduceLeDiff, Nat.reduceEqDiff, Nat.add_sub_cancel, xS, gS, nL, nS, dS, fX2_term_32, mX2_term, zX2_term, hg, ha, ck, c]
        exact fin
    · have hun : pTl t (pFac t f) n (h + 1) j es = .inr (j, es) := if_neg c
      rw [hun] at hQ
      have c1 : ¬ zK t j = 42 := by omega
      have c2 : ¬ zK t j = 47 := by omega
      have c3 : ¬ zK t j = 37 := by omega
      have := hQ (.inl (some (.ref a))) G ⟨hk, a, rfl, hr, hno, hj⟩
      simp (disch := first | omega | exact cI _ | exact cR _ | exact cK | exact cU | exact cO _ | exact cL _) only [oS, uS.2, Nat.reduceAdd, Nat.reduceSub, Nat.reduceMul, Nat.reduceLeDiff, Nat.reduceEqDiff, Nat.add_sub_cancel, xS, gS, nL, nS, dS, fX2_term_64, mX2_term, zX2_term, hg, ck, c1, c2, c3]
      exact this
theorem sOut_0 {e : Ft} {o : Option Value ⊕ Nat} {G' : XG} : sOut S R p t J g G j (.inl e) o G' = (KQ (fun a => a = R) (J + 1 - j) (3 * (J - j) + 8) G G' ∧ ∃ z, o = .inr z ∧ FT G' z e.1 e.2) := rfl
theorem d_term {n : Nat} (HH : HF S R p t J g f) (hr : RE G S R p t J g j) (h7 : Gfi G 7 R = nI n) (hn8 : n ≤ 8) (hJ : J < j + f) (hD : 3 * (9 - n) + 9 ≤ D) : XC xms D 58 [.ref R] G (sOut S R p t J g G j (pTerm t (pFac t f) f n j)) := by
  obtain ⟨D, rfl⟩ : ∃ d, D = d + 1 := ⟨D - 1, by omega⟩
  have hg := hr.1.2.1
  have hRG := hr.R
  have hrec := HH n j G D hr h7 hn8 hJ (by omega)
  unfold pTerm
  rw [XC_s]
  have fin : XC xms D 59 [.ref R] G (XK xms D 58 1 [(4, i_ast 1), (5, i_fal 5)] [.ref R, xjk, xjk] [] (sOut S R p t J g G j (zb (pFac t f n j) (fun r : Nat × List En => pTl t (pFac t f) n f r.1 r.2)))) := by
    refine hrec.mono (fun o G' hh => ?_)
    cases hp : pFac t f n j with
    | inl e =>
      rw [hp] at hh
      obtain ⟨k1, z, rfl, k2⟩ := hh
      have : sOut S R p t J g G j (zb (.inl e) (fun r : Nat × List En => pTl t (pFac t f) n f r.1 r.2)) (.inr z) G' := ⟨k1, z, rfl, k2⟩
      generalize sOut S R p t J g G j (zb (.inl e) (fun r : Nat × List En => pTl t (pFac t f) n f r.1 r.2)) = Q at *
      simp (disch := first | omega | exact cI _ | exact cR _ | exact cK | exact cU | exact cO _ | exact cL _) only [oS, uS.2, Nat.reduceAdd, Nat.reduceSub, Nat.reduceMul, Nat.reduceLeDiff, Nat.reduceEqDiff, Nat.add_sub_cancel, xS, gS, nL, nS, dS, mX2_term, zX2_term, this]
    | inr q =>
      rw [hp] at hh
      obtain ⟨k1, b, rfl, k2, k3, k4⟩ := hh
      have := d_term_lp (D := D) HH hn8 (by omega) (by omega) f q.1 G' b q.2 xjk (Nat.le_refl _) (by omega) k2 ((k1.2.1 7 (by omega)).trans h7) k1 k4 k3 (sOut S R p t J g G j (zb (.inr q) (fun r : Nat × List En => pTl t (pFac t f) n f r.1 r.2))) (fun _ _ q => q)
      generalize sOut S R p t J g G j (zb (.inr q) (fun r : Nat × List En => pTl t (pFac t f) n f r.1 r.2)) = Q at *
      simp (disch := first | omega | exact cI _ | exact cR _ | exact cK | exact cU | exact cO _ | exact cL _) only [oS, uS.2, Nat.reduceAdd, Nat.reduceSub, Nat.reduceMul, Nat.reduceLeDiff, Nat.reduceEqDiff, Nat.add_sub_cancel, xS, gS, nL, nS, dS, mX2_term, zX2_term, this]
  generalize sOut S R p t J g G j (zb (pFac t f n j) (fun r : Nat × List En => pTl t (pFac t f) n f r.1 r.2)) = Q at *
  simp (disch := first | omega | exact cI _ | exact cR _ | exact cK | exact cU | exact cO _ | exact cL _) only [oS, uS.2, Nat.reduceAdd, Nat.reduceSub, Nat.reduceMul, Nat.reduceLeDiff, Nat.reduceEqDiff, Nat.add_sub_cancel, xS, gS, nL, nS, dS, fX2_term_0, mX2_term, zX2_term, hg]
  exact fin
theorem d_sum_lp {n j0 : Nat} {G0 : XG} (HH : HF S R p t J g f) (hn8 : n ≤ 8) (hD : 3 * (9 - n) + 9 ≤ D) (hR0 : R < Gtp G0) : ∀ h j G a es x, h ≤ f → J < j + h → RE G S R p t J g j → Gfi G 7 R = nI n → sK R (j - j0) (3 * (j - j0)) G0 G → j0 < j → NO G (Gtp G0) (j - j0) a es → ∀ Q, (∀ o G', sOut S R p t J g G0 j0 (pSl t (pFac t f) f n h j es) o G' → Q o G') → XL xms D 57 5 [.ref R, .ref a, x] [] G Q := by
  intro h
  induction h with
  | zero =>
    intro j G a es x _ hJ hr
    have := hr.2.2.2.2
    omega
  | succ h ih =>
    intro j G a es x hf hJ hr h7 hk hj hno Q hQ
    have ck := fun Q => d_kind (D := D) (Q := Q) hr (by omega)
    have hg := hr.1.2.1
    have ha := hr.2.2.2.1
    have hjJ := hr.2.2.2.2
    have hb : zK t j < 256 := (hr.2.1.2.2 j hjJ).2.2.2.1
    have hJ1 := hr.2.1.1
    rw [fX2_sum_5]
    by_cases c : zK t j = 43 ∨ zK t j = 45
    · have hnx := hr.nx (show zK t j ≠ 0 by omega)
      have hr1 := hr.at hnx
      have hr2 : RE (Sno (Sfi G 5 R (nI (j + 1))) 13 3) S R p t J g (j + 1) := hr1.kq (P := fun _ => False) KQ.no (fun _ _ _ q => q)
      have hRG := hr.R
      have h71 : Gfi (Sfi G 5 R (nI (j + 1))) 7 R = nI n := by simp (disch := first | omega | exact cI _ | exact cR _ | exact cK | exact cU | exact cO _ | exact cL _) only [uS, Nat.reduceAdd, Nat.reduceSub, Nat.reduceMul, Nat.reduceLeDiff, Nat.reduceEqDiff, Nat.add_sub_cancel, gS, nL, nS, dS, h7]
      have h72 : Gfi (Sno (Sfi G 5 R (nI (j + 1))) 13 3) 7 R = nI n := (if_neg (by show ¬ R = Gtp G; omega)).trans h71
      have hrec := d_term HH hr2 h72 hn8 (by omega) hD
      have hun : pSl t (pFac t f) f n (h + 1) j es = zb (pTerm t (pFac t f) f n (j + 1)) (fun r => pSl t (pFac t f) f n h r.1 (es ++ r.2 ++ [(aop (zK t j), 0)])) := if_pos c
      rw [hun] at hQ
      have fin : XC xms D 58 [.ref R] (Sno (Sfi G 5 R (nI (j + 1))) 13 3) (XK xms D 57 45 [(48, i_cli 204 3), (51, i_ast 1), (52, i_got 5)] [.ref R, .ref a, .int (nI (zK t j))] [.ref a, .int (nI (zK t j)), .ref (Gtp G), .ref (Gtp G)] Q) := by
        refine hrec.mono (fun o G' hh => ?_)
        cases hp : pTerm t (pFac t f) f n (j + 1) with
        | inl e =>
          rw [hp] at hh hQ
          obtain ⟨k1, z, rfl, k2⟩ := hh
          have := hQ (.inr z) G' ⟨?_, z, rfl, k2⟩
          · simp (disch := first | omega | exact cI _ | exact cR _ | exact cK | exact cU | exact cO _ | exact cL _) only [oS, uS.2, Nat.reduceAdd, Nat.reduceSub, Nat.reduceMul, Nat.reduceLeDiff, Nat.reduceEqDiff, Nat.add_sub_cancel, xS, gS, nL, nS, dS, mX2_sum, zX2_sum, this]
          · have k0 : KQ (fun a => a = R) 1 3 (Sfi G 5 R (nI (j + 1))) (Sno (Sfi G 5 R (nI (j + 1))) 13 3) := KQ.no
            exact ((hk.1.trans (sK.at (v := nI (j + 1))).1).trans (k0.trans k1)).mono (fun _ q => q) (by omega) (by omega)
        | inr q =>
          rw [hp] at hh hQ
          obtain ⟨k1, b, rfl, k2, k3, k4⟩ := hh
          have k3 : NO G' (Gtp G + 1) (q.1 - (j + 1)) b q.2 := k3
          have hzk : Gkd G' (Gtp G) = 14 := ((k1.1.2.2.2.2.1 (Gtp G) (Nat.lt_succ_self _)).1).trans (if_pos rfl)
          obtain ⟨m1, m2, m3⟩ := chain (k := zK t j) hr hk hR0 hj hno rfl k1 k2 k3 k4 (by omega)
          have hop : nop (zK t j) = aop (zK t j) := (if_neg (by omega)).trans rfl
          rw [hop] at m3
          have ih' := ih q.1 _ (Gtp G) _ (.int (nI (zK t j))) (by omega) (by omega) m1 ((m2.2.1 7 (by omega)).trans ((hk.2.1 7 (by omega)).symm.trans h7)) m2 (by omega) m3 Q hQ
          have hs : ∀ Q, XC xms D 204 [.ref (Gtp G), .int (nI (zK t j)), .ref a, .ref b] G' Q = Q (.inl none) (sgN G' (Gtp G) (nI (zK t j)) (some a) (some b)) := fun Q => d_sign (l := some a) (r := some b) (by omega) hzk
          simp (disch := first | omega | exact cI _ | exact cR _ | exact cK | exact cU | exact cO _ | exact cL _) only [oS, uS.2, Nat.reduceAdd, Nat.reduceSub, Nat.reduceMul, Nat.reduceLeDiff, Nat.reduceEqDiff, Nat.add_sub_cancel, xS, gS, nL, nS, dS, mX2_sum, zX2_sum, hs]
          exact ih'
      rcases c with c | c
      · rw [c] at fin
        simp (disch := first | omega | exact cI _ | exact cR _ | exact cK | exact cU | exact cO _ | exact cL _) only [oS, uS.2, Nat.reduceAdd, Nat.reduceSub, Nat.reduceMul, Nat.reduceLeDiff, Nat.reduceEqDiff, Nat.add_sub_cancel, xS, gS, nL, nS, dS, fX2_sum_23, mX2_sum, zX2_sum, hg, ha, ck, c]
        exact fin
      · rw [c] at fin
        simp (disch := first | omega | exact cI _ | exact cR _ | exact cK | exact cU | exact cO _ | exact cL _) only [oS, uS.2, Nat.reduceAdd, Nat.reduceSub, Nat.reduceMul, Nat.reduceLeDiff, Nat.reduceEqDiff, Nat.add_sub_cancel, xS, gS, nL, nS, dS, fX2_sum_23, mX2_sum, zX2_sum, hg, ha, ck, c]
        exact fin
    · have hun : pSl t (pFac t f) f n (h + 1) j es = .inr (j, es) := if_neg c
      rw [hun] at hQ
      have c1 : ¬ zK t j = 43 := by omega
      have c2 : ¬ zK t j = 45 := by omega
      have := hQ (.inl (some (.ref a))) G ⟨hk, a, rfl, hr, hno, hj⟩
      simp (disch := first | omega | exact cI _ | exact cR _ | exact cK | exact cU | exact cO _ | exact cL _) only [oS, uS.2, Nat.reduceAdd, Nat.reduceSub, Nat.reduceMul, Nat.reduceLeDiff, Nat.reduceEqDiff, Nat.add_sub_cancel, xS, gS, nL, nS, dS, fX2_sum_55, mX2_sum, zX2_sum, hg, ck, c1, c2]
      exact this
theorem d_sum {n : Nat} (HH : HF S R p t J g f) (hr : RE G S R p t J g j) (h7 : Gfi G 7 R = nI n) (hn8 : n ≤ 8) (hJ : J < j + f) (hD : 3 * (9 - n) + 10 ≤ D) : XC xms D 57 [.ref R] G (sOut S R p t J g G j (pSm t (pFac t f) f n j)) := by
  obtain ⟨D, rfl⟩ : ∃ d, D = d + 1 := ⟨D - 1, by omega⟩
  have hg := hr.1.2.1
  have hRG := hr.R
  have hrec := d_term (D := D) HH hr h7 hn8 hJ (by omega)
  unfold pSm
  rw [XC_s]
  have fin : XC xms D 58 [.ref R] G (XK xms D 57 1 [(4, i_ast 1), (5, i_fal 5)] [.ref R, xjk, xjk] [] (sOut S R p t J g G j (zb (pTerm t (pFac t f) f n j) (fun r : Nat × List En => pSl t (pFac t f) f n f r.1 r.2)))) := by
    refine hrec.mono (fun o G' hh => ?_)
    cases hp : pTerm t (pFac t f) f n j with
    | inl e =>
      rw [hp] at hh
      obtain ⟨k1, z, rfl, k2⟩ := hh
      have : sOut S R p t J g G j (zb (.inl e) (fun r : Nat × List En => pSl t (pFac t f) f n f r.1 r.2)) (.inr z) G' := ⟨k1, z, rfl, k2⟩
      generalize sOut S R p t J g G j (zb (.inl e) (fun r : Nat × List En => pSl t (pFac t f) f n f r.1 r.2)) = Q at *
      simp (disch := first | omega | exact cI _ | exact cR _ | exact cK | exact cU | exact cO _ | exact cL _) only [oS, uS.2, Nat.reduceAdd, Nat.reduceSub, Nat.reduceMul, Nat.reduceLeDiff, Nat.reduceEqDiff, Nat.add_sub_cancel, xS, gS, nL, nS, dS, mX2_sum, zX2_sum, this]
    | inr q =>
      rw [hp] at hh
      obtain ⟨k1, b, rfl, k2, k3, k4⟩ := hh
      have := d_sum_lp (D := D) HH hn8 (by omega) (by omega) f q.1 G' b q.2 xjk (Nat.le_refl _) (by omega) k2 ((k1.2.1 7 (by omega)).trans h7) k1 k4 k3 (sOut S R p t J g G j (zb (.inr q) (fun r : Nat × List En => pSl t (pFac t f) f n f r.1 r.2))) (fun _ _ q => q)
      generalize sOut S R p t J g G j (zb (.inr q) (fun r : Nat × List En => pSl t (pFac t f) f n f r.1 r.2)) = Q at *
      simp (disch := first | omega | exact cI _ | exact cR _ | exact cK | exact cU | exact cO _ | exact cL _) only [oS, uS.2, Nat.reduceAdd, Nat.reduceSub, Nat.reduceMul, Nat.reduceLeDiff, Nat.reduceEqDiff, Nat.add_sub_cancel, xS, gS, nL, nS, dS, mX2_sum, zX2_sum, this]
  generalize sOut S R p t J g G j (zb (pTerm t (pFac t f) f n j) (fun r : Nat × List En => pSl t (pFac t f) f n f r.1 r.2)) = Q at *
  simp (disch := first | omega | exact cI _ | exact cR _ | exact cK | exact cU | exact cO _ | exact cL _) only [oS, uS.2, Nat.reduceAdd, Nat.reduceSub, Nat.reduceMul, Nat.reduceLeDiff, Nat.reduceEqDiff, Nat.add_sub_cancel, xS, gS, nL, nS, dS, fX2_sum_0, mX2_sum, zX2_sum, hg]
  exact fin
end SUM
