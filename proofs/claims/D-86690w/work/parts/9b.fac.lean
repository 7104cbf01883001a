set_option maxRecDepth 100000
theorem KQ.fR {R f : Nat} {G : XG} {v : Int32} : KQ (fun a => a = R) 0 0 G (Sfi G f R v) := KQ.fi rfl
theorem KQ.rR {R f : Nat} {G : XG} {v : Option Nat} : KQ (fun a => a = R) 0 0 G (Sfr G f R v) := KQ.fr rfl
theorem sK.nest {R c u n : Nat} {G G' : XG} {v : Int32} (h7 : Gfi G 7 R = nI n) (k : sK R c u (Sfi (Sfi G 7 R (nI (n + 1))) 5 R v) G') : sK R c u G (Sfi G' 7 R (nI n)) := by
  refine ⟨((KQ.fR.trans (KQ.fR.trans k.1)).trans KQ.fR).mono (fun _ q => q) (by omega) (by omega), fun f hf => ?_, fun f => k.2.2 f⟩
  by_cases e : f = 7
  · subst e
    rw [h7]
    exact if_pos ⟨rfl, rfl⟩
  · have e1 : Gfi (Sfi G' 7 R (nI n)) f R = Gfi G' f R := if_neg (fun q => e q.1)
    have e2 : Gfi (Sfi (Sfi G 7 R (nI (n + 1))) 5 R v) f R = Gfi G f R := (if_neg (fun q => hf q.1)).trans (if_neg (fun q => e q.1))
    exact e1.trans ((k.2.1 f hf).trans e2)
theorem sK.no {R c u k m : Nat} {G G' : XG} (hR : R < Gtp G) (h : sK R c u (Sno G k m) G') : sK R (1 + c) (m + u) G G' := by
  refine ⟨?_, fun f hf => (h.2.1 f hf).trans (if_neg (by omega)), fun f => (h.2.2 f).trans (if_neg (by omega))⟩
  have k0 : KQ (fun a => a = R) 1 m G (Sno G k m) := KQ.no
  exact k0.trans h.1
/-- a new cell's fields are set -/
theorem sK.nw {R c u z : Nat} {G G' G'' : XG} (h : sK R c u G G') (hz : Gtp G ≤ z) (hR : R < Gtp G) (k : KQ (fun a => a = z) 0 0 G' G'') : sK R c u G G'' := by
  have hR' := h.1.2.1
  have q := (k.2.2.2.2.2 R (by omega) (by omega)).1
  refine ⟨KQ.new ((h.1.mono (fun a q => .inl q) (Nat.le_refl _) (Nat.le_refl _)).trans (k.mono (fun a e => .inr (by omega)) (Nat.le_refl _) (Nat.le_refl _))), fun f hf => (q f).1.trans (h.2.1 f hf), fun f => (q f).2.trans (h.2.2 f)⟩
section FAC
variable {D S R p : Nat} {t : Tks} {j J f n : Nat} {g : Nat → Option Nat} {G : XG} {Q : (Option Value ⊕ Nat) → XG → Prop}
theorem sOut_f {c u k pl : Nat} {r : Sr} {G' : XG} (h : KQ (fun a => a = R) c u G G') (hc : c + 1 ≤ J + 1 - j) (hu : u ≤ 3 * (J - j)) (hr : r = .inl (k, pl)) : sOut S R p t J g G j r (.inr (Gtp G')) (fG g G' k pl) := by
  subst hr
  exact ⟨(h.trans fG_kq).mono (fun _ q => q) hc (by omega), _, rfl, fG_ft⟩
theorem f_neg (HH : HF S R p t J g f) (hr : RE G S R p t J g j) (h7 : Gfi G 7 R = nI n) (hn8 : n ≤ 8) (hJ : J < j + (f + 1)) (hD : 3 * (9 - n) + 8 ≤ D + 1) (hc : zK t j = 45) (hQ : ∀ o G', sOut S R p t J g G j (pFac t (f + 1) n j) o G' → Q o G') : XC xms (D + 1) 59 [.ref R] G Q := by
  have hg := hr.1.2.1
  have hRG := hr.R
  have ck := fun Q => d_kind (D := D) (Q := Q) hr (by omega)
  have cen := fun Q => d_enter (D := D) (Q := Q) hr (by omega) h7 hn8
  have hnx := hr.nx (show zK t j ≠ 0 by omega)
  have hun : pFac t (f + 1) n j = if 8 ≤ n then zF t 2 j else zb (pFac t f (n + 1) (j + 1)) (fun r : Nat × List En => .inr (r.1, r.2 ++ [(4, 0)])) := if_pos hc
  rw [hun] at hQ
  rw [XC_s]
  by_cases e : n < 8
  · simp only [qN_1 e] at cen
    rw [if_neg (by omega)] at hQ
    have hr1 : RE (Sfi (Sfi G 7 R (nI (n + 1))) 5 R (nI (j + 1))) S R p t J g (j + 1) := (hr.f (by omega)).at hnx
    have hr2 : RE (Sno (Sfi (Sfi G 7 R (nI (n + 1))) 5 R (nI (j + 1))) 13 3) S R p t J g (j + 1) := hr1.kq (P := fun _ => False) KQ.no (fun _ _ _ q => q)
    have h71 : Gfi (Sfi (Sfi G 7 R (nI (n + 1))) 5 R (nI (j + 1))) 7 R = nI (n + 1) := by simp (disch := first | omega | exact cI _ | exact cR _ | exact cK | exact cU | exact cO _ | exact cL _) only [uS, Nat.reduceAdd, Nat.reduceSub, Nat.reduceMul, Nat.reduceLeDiff, Nat.reduceEqDiff, Nat.add_sub_cancel, gS, nL, nS, dS, Nat.add_left_cancel_iff]
    have h72 : Gfi (Sno (Sfi (Sfi G 7 R (nI (n + 1))) 5 R (nI (j + 1))) 13 3) 7 R = nI (n + 1) := (if_neg (by show ¬ R = Gtp G; omega)).trans h71
    have hrec := HH (n + 1) (j + 1) _ D hr2 h72 (by omega) (by omega) (by omega)
    simp (disch := first | omega | exact cI _ | exact cR _ | exact cK | exact cU | exact cO _ | exact cL _) only [oS, uS.2, Nat.reduceAdd, Nat.reduceSub, Nat.reduceMul, Nat.reduceLeDiff, Nat.reduceEqDiff, Nat.add_sub_cancel, xS, gS, nL, nS, dS, fX2_factor_0, fX2_factor_56, mX2_factor, zX2_factor, hg, ck, hc, cen, show (nI 45).toInt = 45 from rfl, show xlsw 206 [(5, 129), (6, 144), (7, 115), (40, 87), (45, 56)] 45 = 56 from rfl]
    refine hrec.mono (fun o G' hh => ?_)
    cases hp : pFac t f (n + 1) (j + 1) with
    | inl e =>
      rw [hp] at hh hQ
      obtain ⟨k1, z, rfl, k2⟩ := hh
      have := hQ (.inr z) G' ⟨?_, z, rfl, k2⟩
      · simp (disch := first | omega | exact cI _ | exact cR _ | exact cK | exact cU | exact cO _ | exact cL _) only [oS, uS.2, Nat.reduceAdd, Nat.reduceSub, Nat.reduceMul, Nat.reduceLeDiff, Nat.reduceEqDiff, Nat.add_sub_cancel, xS, gS, nL, nS, dS, mX2_factor, zX2_factor, this]
      · have k0 : KQ (fun a => a = R) 1 3 (Sfi (Sfi G 7 R (nI (n + 1))) 5 R (nI (j + 1))) (Sno (Sfi (Sfi G 7 R (nI (n + 1))) 5 R (nI (j + 1))) 13 3) := KQ.no
        exact (KQ.fR.trans (KQ.fR.trans (k0.trans k1))).mono (fun _ q => q) (by omega) (by omega)
    | inr q =>
      rw [hp] at hh hQ
      obtain ⟨k1, b, rfl, k2, k3, k4⟩ := hh
      have k3 : NO G' (Gtp G + 1) (q.1 - (j + 1)) b q.2 := k3
      have hzk : Gkd G' (Gtp G) = 14 := ((k1.1.2.2.2.2.1 (Gtp G) (Nat.lt_succ_self _)).1).trans (if_pos rfl)
      have hzt : Gtp G < Gtp G' := Nat.lt_of_lt_of_le (Nat.lt_succ_self _) k1.1.2.1
      have hg' : Gkd G' R = 3 := k2.1.2.1
      have h7' : Gfi G' 7 R = nI (n + 1) := (k1.2.1 7 (by omega)).trans h72
      have hs : ∀ Q, XC xms D 204 [.ref (Gtp G), .int (nI 45), .null, .ref b] G' Q = Q (.inl none) (sgN G' (Gtp G) (nI 45) none (some b)) := fun Q => d_sign (l := none) (r := some b) (by omega) hzk
      have s1 := (sgN_sk (G := Sfi (Sfi G 7 R (nI (n + 1))) 5 R (nI (j + 1))) (k := nI 45) (l := none) (r := some b) (z := Gtp G) rfl (by show R < Gtp G; omega) k1).nest h7
      have r1 : RE (Sfi (sgN G' (Gtp G) (nI 45) none (some b)) 7 R (nI n)) S R p t J g q.1 := (k2.kq (P := fun a => a = Gtp G) (sgN_kq rfl) (fun a h1 _ e => by omega)).f (by omega)
      obtain ⟨m, hm⟩ : ∃ m, q.1 - j = m + 1 := ⟨q.1 - j - 1, by omega⟩
      have n1 : NO (Sfi (sgN G' (Gtp G) (nI 45) none (some b)) 7 R (nI n)) (Gtp G) (q.1 - j) (Gtp G) (q.2 ++ [(4, 0)]) := by
        rw [hm]
        refine ⟨Nat.le_refl _, hzt, .inr (.inr (.inr (.inr (.inl ⟨hzk, ?_, ?_, b, q.2, ?_, ?_, rfl⟩))))⟩
        · unfold sgN
          simp (disch := first | omega | exact cI _ | exact cR _ | exact cK | exact cU | exact cO _ | exact cL _) only [uS, Nat.reduceAdd, Nat.reduceSub, Nat.reduceMul, Nat.reduceLeDiff, Nat.reduceEqDiff, Nat.add_sub_cancel, gS, nL, nS, dS, Nat.add_left_cancel_iff]
        · unfold sgN
          simp (disch := first | omega | exact cI _ | exact cR _ | exact cK | exact cU | exact cO _ | exact cL _) only [uS, Nat.reduceAdd, Nat.reduceSub, Nat.reduceMul, Nat.reduceLeDiff, Nat.reduceEqDiff, Nat.add_sub_cancel, gS, nL, nS, dS, Nat.add_left_cancel_iff]
        · unfold sgN
          simp (disch := first | omega | exact cI _ | exact cR _ | exact cK | exact cU | exact cO _ | exact cL _) only [uS, Nat.reduceAdd, Nat.reduceSub, Nat.reduceMul, Nat.reduceLeDiff, Nat.reduceEqDiff, Nat.add_sub_cancel, gS, nL, nS, dS, Nat.add_left_cancel_iff]
        · have n2 := NO.lo (lo' := Gtp G) (by omega) _ _ _ (NO.mono (q.1 - (j + 1)) m _ _ (by omega) (NO.kq (P := fun a => a = Gtp G) (sgN_kq (k := nI 45) (l := none) (r := some b) rfl) (fun a h1 e => by omega) _ _ _ k3))
          exact NO.kq (P := fun a => a = R) (KQ.fi rfl) (fun a h1 e => by omega) _ _ _ n2
      have h7s : Gfi (sgN G' (Gtp G) (nI 45) none (some b)) 7 R = nI (n + 1) := by
        unfold sgN
        simp (disch := first | omega | exact cI _ | exact cR _ | exact cK | exact cU | exact cO _ | exact cL _) only [uS, Nat.reduceAdd, Nat.reduceSub, Nat.reduceMul, Nat.reduceLeDiff, Nat.reduceEqDiff, Nat.add_sub_cancel, gS, nL, nS, dS, h7']
      have hgs : Gkd (sgN G' (Gtp G) (nI 45) none (some b)) R = 3 := hg'
      have := hQ (.inl (some (.ref (Gtp G)))) (Sfi (sgN G' (Gtp G) (nI 45) none (some b)) 7 R (nI n)) ⟨s1.mono (show _ ≤ q.1 - j by omega) (show _ ≤ 3 * (q.1 - j) by omega), Gtp G, rfl, r1, n1, show j < q.1 by omega⟩
      simp (disch := first | omega | exact cI _ | exact cR _ | exact cK | exact cU | exact cO _ | exact cL _) only [oS, uS.2, Nat.reduceAdd, Nat.reduceSub, Nat.reduceMul, Nat.reduceLeDiff, Nat.reduceEqDiff, Nat.add_sub_cancel, xS, gS, nL, nS, dS, mX2_factor, zX2_factor, hs, h7s, hgs, this]
  · simp only [qN_0 e] at cen
    rw [if_pos (by omega)] at hQ
    have := hQ _ _ (sOut_f KQ.refl (by omega) (by omega) rfl)
    simp (disch := first | omega | exact cI _ | exact cR _ | exact cK | exact cU | exact cO _ | exact cL _) only [oS, uS.2, Nat.reduceAdd, Nat.reduceSub, Nat.reduceMul, Nat.reduceLeDiff, Nat.reduceEqDiff, Nat.add_sub_cancel, xS, gS, nL, nS, dS, fX2_factor_0, fX2_factor_56, mX2_factor, zX2_factor, hg, ck, hc, cen, this, show (nI 45).toInt = 45 from rfl, show xlsw 206 [(5, 129), (6, 144), (7, 115), (40, 87), (45, 56)] 45 = 56 from rfl]
theorem f_par (HH : HF S R p t J g f) (hr : RE G S R p t J g j) (h7 : Gfi G 7 R = nI n) (hn8 : n ≤ 8) (hJ : J < j + (f + 1)) (hD : 3 * (9 - n) + 8 ≤ D + 1) (hc : zK t j = 40) (hQ : ∀ o G', sOut S R p t J g G j (pFac t (f + 1) n j) o G' → Q o G') : XC xms (D + 1) 59 [.ref R] G Q := by
  have hg := hr.1.2.1
  have hRG := hr.R
  have ck := fun Q => d_kind (D := D) (Q := Q) hr (by omega)
  have cen := fun Q => d_enter (D := D) (Q := Q) hr (by omega) h7 hn8
  have hnx := hr.nx (show zK t j ≠ 0 by omega)
  have hun : pFac t (f + 1) n j = if 8 ≤ n then zF t 2 j else zb (pSm t (pFac t f) f (n + 1) (j + 1)) (fun r : Nat × List En => zN t r.1 41 (.inr (r.1 + 1, r.2))) := (if_neg (by omega)).trans (if_pos hc)
  rw [hun] at hQ
  rw [XC_s]
  by_cases e : n < 8
  · simp only [qN_1 e] at cen
    rw [if_neg (by omega)] at hQ
    have hr1 : RE (Sfi (Sfi G 7 R (nI (n + 1))) 5 R (nI (j + 1))) S R p t J g (j + 1) := (hr.f (by omega)).at hnx
    have h71 : Gfi (Sfi (Sfi G 7 R (nI (n + 1))) 5 R (nI (j + 1))) 7 R = nI (n + 1) := by simp (disch := first | omega | exact cI _ | exact cR _ | exact cK | exact cU | exact cO _ | exact cL _) only [uS, Nat.reduceAdd, Nat.reduceSub, Nat.reduceMul, Nat.reduceLeDiff, Nat.reduceEqDiff, Nat.add_sub_cancel, gS, nL, nS, dS, Nat.add_left_cancel_iff]
    have hrec := d_sum (D := D) HH hr1 h71 (by omega) (by omega) (by omega)
    simp (disch := first | omega | exact cI _ | exact cR _ | exact cK | exact cU | exact cO _ | exact cL _) only [oS, uS.2, Nat.reduceAdd, Nat.reduceSub, Nat.reduceMul, Nat.reduceLeDiff, Nat.reduceEqDiff, Nat.add_sub_cancel, xS, gS, nL, nS, dS, fX2_factor_0, fX2_factor_87, mX2_factor, zX2_factor, hg, ck, hc, cen, show (nI 40).toInt = 40 from rfl, show xlsw 206 [(5, 129), (6, 144), (7, 115), (40, 87), (45, 56)] 40 = 87 from rfl]
    refine hrec.mono (fun o G' hh => ?_)
    cases hp : pSm t (pFac t f) f (n + 1) (j + 1) with
    | inl e =>
      rw [hp] at hh hQ
      obtain ⟨k1, z, rfl, k2⟩ := hh
      have := hQ (.inr z) G' ⟨?_, z, rfl, k2⟩
      · simp (disch := first | omega | exact cI _ | exact cR _ | exact cK | exact cU | exact cO _ | exact cL _) only [oS, uS.2, Nat.reduceAdd, Nat.reduceSub, Nat.reduceMul, Nat.reduceLeDiff, Nat.reduceEqDiff, Nat.add_sub_cancel, xS, gS, nL, nS, dS, mX2_factor, zX2_factor, this]
      · exact (KQ.fR.trans (KQ.fR.trans k1)).mono (fun _ q => q) (by omega) (by omega)
    | inr q =>
      rw [hp] at hh hQ
      obtain ⟨k1, b, rfl, k2, k3, k4⟩ := hh
      have k3 : NO G' (Gtp G) (q.1 - (j + 1)) b q.2 := k3
      have hg' : Gkd G' R = 3 := k2.1.2.1
      have h7' : Gfi G' 7 R = nI (n + 1) := (k1.2.1 7 (by omega)).trans h71
      have ctk := fun Q => d_take (D := D) (k := 41) (Q := Q) k2 (by omega) (by omega) (by omega)
      have hqJ := k2.2.2.2.2
      by_cases c2 : zK t q.1 = 41
      · simp only [qN_1 c2] at ctk
        have hun2 : zb (Sum.inr q : Sr) (fun r : Nat × List En => zN t r.1 41 (.inr (r.1 + 1, r.2))) = .inr (q.1 + 1, q.2) := if_pos c2
        rw [hun2] at hQ
        have h7t : Gfi (Sfi G' 5 R (nI (q.1 + 1))) 7 R = nI (n + 1) := by simp (disch := first | omega | exact cI _ | exact cR _ | exact cK | exact cU | exact cO _ | exact cL _) only [uS, Nat.reduceAdd, Nat.reduceSub, Nat.reduceMul, Nat.reduceLeDiff, Nat.reduceEqDiff, Nat.add_sub_cancel, gS, nL, nS, dS, h7']
        have s1 := (k1.trans (sK.at (v := nI (q.1 + 1)))).nest h7
        have r1 : RE (Sfi (Sfi G' 5 R (nI (q.1 + 1))) 7 R (nI n)) S R p t J g (q.1 + 1) := (k2.at (k2.nx (by omega))).f (by omega)
        have n1 : NO (Sfi (Sfi G' 5 R (nI (q.1 + 1))) 7 R (nI n)) (Gtp G) (q.1 + 1 - j) b q.2 := by
          have n2 := NO.mono (q.1 - (j + 1)) (q.1 + 1 - j) _ _ (by omega) k3
          exact NO.kq (P := fun a => a = R) (KQ.fR.trans KQ.fR) (fun a h1 e => by omega) _ _ _ n2
        have := hQ (.inl (some (.ref b))) (Sfi (Sfi G' 5 R (nI (q.1 + 1))) 7 R (nI n)) ⟨s1.mono (show _ ≤ q.1 + 1 - j by omega) (show _ ≤ 3 * (q.1 + 1 - j) by omega), b, rfl, r1, n1, show j < q.1 + 1 by omega⟩
        simp (disch := first | omega | exact cI _ | exact cR _ | exact cK | exact cU | exact cO _ | exact cL _) only [oS, uS.2, Nat.reduceAdd, Nat.reduceSub, Nat.reduceMul, Nat.reduceLeDiff, Nat.reduceEqDiff, Nat.add_sub_cancel, xS, gS, nL, nS, dS, mX2_factor, zX2_factor, hg', ctk, h7t, this]
      · simp only [qN_0 c2] at ctk
        have hun2 : zb (Sum.inr q : Sr) (fun r : Nat × List En => zN t r.1 41 (.inr (r.1 + 1, r.2))) = .inl (1, zP t q.1) := if_neg c2
        rw [hun2] at hQ
        have := hQ _ _ (sOut_f (KQ.fR.trans (KQ.fR.trans k1.1)) (by omega) (by omega) rfl)
        simp (disch := first | omega | exact cI _ | exact cR _ | exact cK | exact cU | exact cO _ | exact cL _) only [oS, uS.2, Nat.reduceAdd, Nat.reduceSub, Nat.reduceMul, Nat.reduceLeDiff, Nat.reduceEqDiff, Nat.add_sub_cancel, xS, gS, nL, nS, dS, mX2_factor, zX2_factor, hg', ctk, this]
  · simp only [qN_0 e] at cen
    rw [if_pos (by omega)] at hQ
    have := hQ _ _ (sOut_f KQ.refl (by omega) (by omega) rfl)
    simp (disch := first | omega | exact cI _ | exact cR _ | exact cK | exact cU | exact cO _ | exact cL _) only [oS, uS.2, Nat.reduceAdd, Nat.reduceSub, Nat.reduceMul, Nat.reduceLeDiff, Nat.reduceEqDiff, Nat.add_sub_cancel, xS, gS, nL, nS, dS, fX2_factor_0, fX2_factor_87, mX2_factor, zX2_factor, hg, ck, hc, cen, this, show (nI 40).toInt = 40 from rfl, show xlsw 206 [(5, 129), (6, 144), (7, 115), (40, 87), (45, 56)] 40 = 87 from rfl]
theorem f_num (hr : RE G S R p t J g j) (hD : 10 ≤ D) (hc : zK t j = 7) (hQ : ∀ o G', sOut S R p t J g G j (pFac t (f + 1) n j) o G' → Q o G') : XC xms (D + 1) 59 [.ref R] G Q := by
  have hg := hr.1.2.1
  have hRG := hr.R
  have ck := fun Q => d_kind (D := D) (Q := Q) hr (by omega)
  have hnx := hr.nx (show zK t j ≠ 0 by omega)
  have hun : pFac t (f + 1) n j = .inr (j + 1, [(0, nI (zV t j))]) := (if_neg (by omega)).trans ((if_neg (by omega)).trans (if_pos hc))
  rw [hun] at hQ
  have hr2 : RE (Sno G 14 1) S R p t J g j := hr.kq (P := fun _ => False) KQ.no (fun _ _ _ q => q)
  have ctk := fun Q => d_take (D := D) (k := 7) (Q := Q) hr2 (by omega) (by omega) (by omega)
  simp only [qN_1 hc] at ctk
  have hzk : Gkd (Sfi (Sno G 14 1) 5 R (nI (j + 1))) (Gtp G) = 15 := if_pos rfl
  have hs : ∀ Q, XC xms D 206 [.ref (Gtp G), .int (nI (zV t j))] (Sfi (Sno G 14 1) 5 R (nI (j + 1))) Q = Q (.inl none) (Sfi (Sfi (Sno G 14 1) 5 R (nI (j + 1))) 79 (Gtp G) (nI (zV t j))) := fun Q => d_num (by omega) hzk
  have s1 := (sK.no (show R < Gtp G by omega) (sK.at (G := Sno G 14 1) (v := nI (j + 1)))).nw (Nat.le_refl _) (by omega) (KQ.fi (f := 79) (a := Gtp G) (v := nI (zV t j)) rfl)
  have r1 : RE (Sfi (Sfi (Sno G 14 1) 5 R (nI (j + 1))) 79 (Gtp G) (nI (zV t j))) S R p t J g (j + 1) := (hr2.at hnx).f (by omega)
  have n1 : NO (Sfi (Sfi (Sno G 14 1) 5 R (nI (j + 1))) 79 (Gtp G) (nI (zV t j))) (Gtp G) (j + 1 - j) (Gtp G) [(0, nI (zV t j))] := by
    rw [show j + 1 - j = 0 + 1 by omega]
    refine ⟨Nat.le_refl _, Nat.lt_succ_self _, .inl ⟨hzk, ?_⟩⟩
    simp (disch := first | omega | exact cI _ | exact cR _ | exact cK | exact cU | exact cO _ | exact cL _) only [uS, Nat.reduceAdd, Nat.reduceSub, Nat.reduceMul, Nat.reduceLeDiff, Nat.reduceEqDiff, Nat.add_sub_cancel, gS, nL, nS, dS, Nat.add_left_cancel_iff]
  have := hQ (.inl (some (.ref (Gtp G)))) _ ⟨s1.mono (show _ ≤ j + 1 - j by omega) (show _ ≤ 3 * (j + 1 - j) by omega), Gtp G, rfl, r1, n1, show j < j + 1 by omega⟩
  have hg2 := hr2.1.2.1
  rw [XC_s]
  simp (disch := first | omega | exact cI _ | exact cR _ | exact cK | exact cU | exact cO _ | exact cL _) only [oS, uS.2, Nat.reduceAdd, Nat.reduceSub, Nat.reduceMul, Nat.reduceLeDiff, Nat.reduceEqDiff, Nat.add_sub_cancel, xS, gS, nL, nS, dS, fX2_factor_0, fX2_factor_115, mX2_factor, zX2_factor, hg, hg2, ck, hc, ctk, hs, this, show (nI 7).toInt = 7 from rfl, show xlsw 206 [(5, 129), (6, 144), (7, 115), (40, 87), (45, 56)] 7 = 115 from rfl]
theorem f_var (hr : RE G S R p t J g j) (hD : 10 ≤ D) (hc : zK t j = 5) (hQ : ∀ o G', sOut S R p t J g G j (pFac t (f + 1) n j) o G' → Q o G') : XC xms (D + 1) 59 [.ref R] G Q := by
  have hg := hr.1.2.1
  have hRG := hr.R
  have ck := fun Q => d_kind (D := D) (Q := Q) hr (by omega)
  have hnx := hr.nx (show zK t j ≠ 0 by omega)
  have hun : pFac t (f + 1) n j = if zV t j < 6 then .inr (j + 1, [(1, nI (zV t j))]) else zF t 2 j := (if_neg (by omega)).trans ((if_neg (by omega)).trans ((if_neg (by omega)).trans (if_pos hc)))
  rw [hun] at hQ
  have hr2 : RE (Sno G 15 1) S R p t J g j := hr.kq (P := fun _ => False) KQ.no (fun _ _ _ q => q)
  have ctk := fun Q => d_name (D := D) (k := 5) (m := 6) (Q := Q) hr2 (by omega) (by omega) (by omega) (by omega)
  simp only [qN_1 hc] at ctk
  have hg2 := hr2.1.2.1
  rw [XC_s]
  by_cases e : zV t j < 6
  · simp only [qN_1 e] at ctk
    rw [if_pos e] at hQ
    have hzk : Gkd (Sfi (Sno G 15 1) 5 R (nI (j + 1))) (Gtp G) = 16 := if_pos rfl
    have hs : ∀ Q, XC xms D 208 [.ref (Gtp G), .int (nI (zV t j))] (Sfi (Sno G 15 1) 5 R (nI (j + 1))) Q = Q (.inl none) (Sfi (Sfi (Sno G 15 1) 5 R (nI (j + 1))) 80 (Gtp G) (nI (zV t j))) := fun Q => d_var (by omega) hzk
    have s1 := (sK.no (show R < Gtp G by omega) (sK.at (G := Sno G 15 1) (v := nI (j + 1)))).nw (Nat.le_refl _) (by omega) (KQ.fi (f := 80) (a := Gtp G) (v := nI (zV t j)) rfl)
    have r1 : RE (Sfi (Sfi (Sno G 15 1) 5 R (nI (j + 1))) 80 (Gtp G) (nI (zV t j))) S R p t J g (j + 1) := (hr2.at hnx).f (by omega)
    have n1 : NO (Sfi (Sfi (Sno G 15 1) 5 R (nI (j + 1))) 80 (Gtp G) (nI (zV t j))) (Gtp G) (j + 1 - j) (Gtp G) [(1, nI (zV t j))] := by
      rw [show j + 1 - j = 0 + 1 by omega]
      refine ⟨Nat.le_refl _, Nat.lt_succ_self _, .inr (.inl ⟨hzk, ?_⟩)⟩
      simp (disch := first | omega | exact cI _ | exact cR _ | exact cK | exact cU | exact cO _ | exact cL _) only [uS, Nat.reduceAdd, Nat.reduceSub, Nat.reduceMul, Nat.reduceLeDiff, Nat.reduceEqDiff, Nat.add_sub_cancel, gS, nL, nS, dS, Nat.add_left_cancel_iff]
    have := hQ (.inl (some (.ref (Gtp G)))) _ ⟨s1.mono (show _ ≤ j + 1 - j by omega) (show _ ≤ 3 * (j + 1 - j) by omega), Gtp G, rfl, r1, n1, show j < j + 1 by omega⟩
    simp (disch := first | omega | exact cI _ | exact cR _ | exact cK | exact cU | exact cO _ | exact cL _) only [oS, uS.2, Nat.reduceAdd, Nat.reduceSub, Nat.reduceMul, Nat.reduceLeDiff, Nat.reduceEqDiff, Nat.add_sub_cancel, xS, gS, nL, nS, dS, fX2_factor_0, fX2_factor_129, mX2_factor, zX2_factor, hg, hg2, ck, hc, ctk, hs, this, show (nI 5).toInt = 5 from rfl, show xlsw 206 [(5, 129), (6, 144), (7, 115), (40, 87), (45, 56)] 5 = 129 from rfl]
  · simp only [qN_0 e] at ctk
    rw [if_neg e] at hQ
    have k0 : KQ (fun a => a = R) 1 1 G (Sno G 15 1) := KQ.no
    have : Q (.inr (Gtp G + 1)) (fG g (Sno G 15 1) 2 (zP t j)) := hQ _ _ (sOut_f k0 (by omega) (by omega) rfl)
    simp (disch := first | omega | exact cI _ | exact cR _ | exact cK | exact cU | exact cO _ | exact cL _) only [oS, uS.2, Nat.reduceAdd, Nat.reduceSub, Nat.reduceMul, Nat.reduceLeDiff, Nat.reduceEqDiff, Nat.add_sub_cancel, xS, gS, nL, nS, dS, fX2_factor_0, fX2_factor_129, mX2_factor, zX2_factor, hg, hg2, ck, hc, ctk, this, show (nI 5).toInt = 5 from rfl, show xlsw 206 [(5, 129), (6, 144), (7, 115), (40, 87), (45, 56)] 5 = 129 from rfl]
theorem f_row (HH : HF S R p t J g f) (hr : RE G S R p t J g j) (h7 : Gfi G 7 R = nI n) (hn8 : n ≤ 8) (hJ : J < j + (f + 1)) (hD : 3 * (9 - n) + 8 ≤ D + 1) (hc : zK t j = 6) (hQ : ∀ o G', sOut S R p t J g G j (pFac t (f + 1) n j) o G' → Q o G') : XC xms (D + 1) 59 [.ref R] G Q := by
  have hg := hr.1.2.1
  have hRG := hr.R
  have ck := fun Q => d_kind (D := D) (Q := Q) hr (by omega)
  have cnm := fun Q => d_name (D := D) (k := 6) (m := 3) (Q := Q) hr (by omega) (by omega) (by omega) (by omega)
  have hnx := hr.nx (show zK t j ≠ 0 by omega)
  have hun : pFac t (f + 1) n j = if 3 ≤ zV t j then zF t 2 j else if zK t (j + 1) ≠ 91 then zF t 1 (j + 1) else if 8 ≤ n then zF t 2 (j + 1) else zb (pSm t (pFac t f) f (n + 1) (j + 2)) (fun r : Nat × List En => zN t r.1 93 (.inr (r.1 + 1, r.2 ++ [(2, nI (zV t j))]))) := (if_neg (by omega)).trans ((if_neg (by omega)).trans ((if_neg (by omega)).trans ((if_neg (by omega)).trans (if_pos hc))))
  rw [hun] at hQ
  simp only [qN_1 hc] at cnm
  rw [XC_s]
  by_cases e3 : zV t j < 3
  · simp only [qN_1 e3] at cnm
    rw [if_neg (by omega)] at hQ
    have hr1 := hr.at hnx
    have ck1 := fun Q => d_kind (D := D) (Q := Q) hr1 (by omega)
    have h71 : Gfi (Sfi G 5 R (nI (j + 1))) 7 R = nI n := by simp (disch := first | omega | exact cI _ | exact cR _ | exact cK | exact cU | exact cO _ | exact cL _) only [uS, Nat.reduceAdd, Nat.reduceSub, Nat.reduceMul, Nat.reduceLeDiff, Nat.reduceEqDiff, Nat.add_sub_cancel, gS, nL, nS, dS, h7]
    have cnd := fun (c : Prop) [Decidable c] Q => d_need (D := D) (Q := Q) c hr1 (by omega)
    have cen := fun Q => d_enter (D := D) (Q := Q) hr1 (by omega) h71 hn8
    have hb1 : zK t (j + 1) < 256 := (hr.2.1.2.2 (j + 1) hnx).2.2.2.1
    by_cases c91 : zK t (j + 1) = 91
    · rw [if_neg (fun q => q c91)] at hQ
      have hnx2 := hr1.nx (show zK t (j + 1) ≠ 0 by omega)
      have cn1 : ∀ Q, XC xms D 46 [.ref R, .int (nI 1)] (Sfi G 5 R (nI (j + 1))) Q = Q (.inl none) (Sfi G 5 R (nI (j + 1))) := fun Q => (cnd True Q).trans (qN_1 trivial)
      by_cases e : n < 8
      · simp only [qN_1 e] at cen
        rw [if_neg (by omega)] at hQ
        have hr2 : RE (Sfi (Sfi (Sfi G 5 R (nI (j + 1))) 7 R (nI (n + 1))) 5 R (nI (j + 1 + 1))) S R p t J g (j + 2) := (hr1.f (by omega)).at hnx2
        have h72 : Gfi (Sfi (Sfi (Sfi G 5 R (nI (j + 1))) 7 R (nI (n + 1))) 5 R (nI (j + 1 + 1))) 7 R = nI (n + 1) := by simp (disch := first | omega | exact cI _ | exact cR _ | exact cK | exact cU | exact cO _ | exact cL _) only [uS, Nat.reduceAdd, Nat.reduceSub, Nat.reduceMul, Nat.reduceLeDiff, Nat.reduceEqDiff, Nat.add_sub_cancel, gS, nL, nS, dS, Nat.add_left_cancel_iff]
        have hrec := d_sum (D := D) HH hr2 h72 (by omega) (by omega) (by omega)
        simp (disch := first | omega | exact cI _ | exact cR _ | exact cK | exact cU | exact cO _ | exact cL _) only [oS, uS.2, Nat.reduceAdd, Nat.reduceSub, Nat.reduceMul, Nat.reduceLeDiff, Nat.reduceEqDiff, Nat.add_sub_cancel, xS, gS, nL, nS, dS, fX2_factor_0, fX2_factor_144, fX2_factor_167, mX2_factor, zX2_factor, hg, ck, ck1, hc, cnm, c91, cn1, cen, show (nI 6).toInt = 6 from rfl, show xlsw 206 [(5, 129), (6, 144), (7, 115), (40, 87), (45, 56)] 6 = 144 from rfl]
        refine hrec.mono (fun o G' hh => ?_)
        cases hp : pSm t (pFac t f) f (n + 1) (j + 2) with
        | inl e =>
          rw [hp] at hh hQ
          obtain ⟨k1, z, rfl, k2⟩ := hh
          have := hQ (.inr z) G' ⟨?_, z, rfl, k2⟩
          · simp (disch := first | omega | exact cI _ | exact cR _ | exact cK | exact cU | exact cO _ | exact cL _) only [oS, uS.2, Nat.reduceAdd, Nat.reduceSub, Nat.reduceMul, Nat.reduceLeDiff, Nat.reduceEqDiff, Nat.add_sub_cancel, xS, gS, nL, nS, dS, mX2_factor, zX2_factor, this]
          · exact (KQ.fR.trans (KQ.fR.trans (KQ.fR.trans k1))).mono (fun _ q => q) (by omega) (by omega)
        | inr q =>
          rw [hp] at hh hQ
          obtain ⟨k1, b, rfl, k2, k3, k4⟩ := hh
          have k3 : NO G' (Gtp G) (q.1 - (j + 2)) b q.2 := k3
          have hg' : Gkd G' R = 3 := k2.1.2.1
          have hRG' := k2.R
          have hGG' : Gtp G ≤ Gtp G' := k1.1.2.1
          have h7' : Gfi G' 7 R = nI (n + 1) := (k1.2.1 7 (by omega)).trans h72
          have ctk := fun Q => d_take (D := D) (k := 93) (Q := Q) k2 (by omega) (by omega) (by omega)
          have hqJ := k2.2.2.2.2
          by_cases c2 : zK t q.1 = 93
          · simp only [qN_1 c2] at ctk
            have hun2 : zb (Sum.inr q : Sr) (fun r : Nat × List En => zN t r.1 93 (.inr (r.1 + 1, r.2 ++ [(2, nI (zV t j))]))) = .inr (q.1 + 1, q.2 ++ [(2, nI (zV t j))]) := if_pos c2
            rw [hun2] at hQ
            have h7t : Gfi (Sfi G' 5 R (nI (q.1 + 1))) 7 R = nI (n + 1) := by simp (disch := first | omega | exact cI _ | exact cR _ | exact cK | exact cU | exact cO _ | exact cL _) only [uS, Nat.reduceAdd, Nat.reduceSub, Nat.reduceMul, Nat.reduceLeDiff, Nat.reduceEqDiff, Nat.add_sub_cancel, gS, nL, nS, dS, h7']
            have s0 : sK R (q.1 - (j + 2)) (3 * (q.1 - (j + 2))) (Sfi G 5 R (nI (j + 1))) (Sfi (Sfi G' 5 R (nI (q.1 + 1))) 7 R (nI n)) := (k1.trans (sK.at (v := nI (q.1 + 1)))).nest h71
            have s1 : sK R (0 + (q.1 - (j + 2))) (0 + 3 * (q.1 - (j + 2))) G (Sfi (Sfi G' 5 R (nI (q.1 + 1))) 7 R (nI n)) := sK.at.trans s0
            have k0 : sK R 0 0 (Sno (Sfi (Sfi G' 5 R (nI (q.1 + 1))) 7 R (nI n)) 16 2) (Sno (Sfi (Sfi G' 5 R (nI (q.1 + 1))) 7 R (nI n)) 16 2) := sK.refl
            have s2 := s1.trans (sK.no (show R < Gtp G' by omega) k0)
            have hzk : Gkd (Sno (Sfi (Sfi G' 5 R (nI (q.1 + 1))) 7 R (nI n)) 16 2) (Gtp G') = 17 := if_pos rfl
            have hs : ∀ Q, XC xms D 210 [.ref (Gtp G'), .int (nI (zV t j)), .ref b] (Sno (Sfi (Sfi G' 5 R (nI (q.1 + 1))) 7 R (nI n)) 16 2) Q = Q (.inl none) (Sfr (Sfi (Sno (Sfi (Sfi G' 5 R (nI (q.1 + 1))) 7 R (nI n)) 16 2) 81 (Gtp G') (nI (zV t j))) 1120 (Gtp G') (some b)) := fun Q => d_place (l := some b) (by omega) hzk
            have kz : KQ (fun a => a = Gtp G') 0 0 (Sno (Sfi (Sfi G' 5 R (nI (q.1 + 1))) 7 R (nI n)) 16 2) (Sfr (Sfi (Sno (Sfi (Sfi G' 5 R (nI (q.1 + 1))) 7 R (nI n)) 16 2) 81 (Gtp G') (nI (zV t j))) 1120 (Gtp G') (some b)) := KQ.fR.trans KQ.rR
            have s3 := s2.nw (z := Gtp G') hGG' (by omega) kz
            have ra : RE (Sfi (Sfi G' 5 R (nI (q.1 + 1))) 7 R (nI n)) S R p t J g (q.1 + 1) := (k2.at (k2.nx (by omega))).f (by omega)
            have r1 : RE (Sfr (Sfi (Sno (Sfi (Sfi G' 5 R (nI (q.1 + 1))) 7 R (nI n)) 16 2) 81 (Gtp G') (nI (zV t j))) 1120 (Gtp G') (some b)) S R p t J g (q.1 + 1) := (ra.kq (P := fun _ => False) KQ.no (fun _ _ _ q => q)).kq kz (fun a h1 _ e => by omega)
            have n1 : NO (Sfr (Sfi (Sno (Sfi (Sfi G' 5 R (nI (q.1 + 1))) 7 R (nI n)) 16 2) 81 (Gtp G') (nI (zV t j))) 1120 (Gtp G') (some b)) (Gtp G) (q.1 + 1 - j) (Gtp G') (q.2 ++ [(2, nI (zV t j))]) := by
              obtain ⟨m, hm⟩ : ∃ m, q.1 + 1 - j = m + 1 := ⟨q.1 + 1 - j - 1, by omega⟩
              rw [hm]
              refine ⟨hGG', Nat.lt_succ_self _, .inr (.inr (.inr (.inl ⟨hzk, b, q.2, if_pos ⟨rfl, rfl⟩, ?_, ?_⟩)))⟩
              · have n2 := NO.mono (q.1 - (j + 2)) m _ _ (by omega) k3
                have kz2 : KQ (fun a => Gtp G' ≤ a) 0 0 (Sno (Sfi (Sfi G' 5 R (nI (q.1 + 1))) 7 R (nI n)) 16 2) (Sfr (Sfi (Sno (Sfi (Sfi G' 5 R (nI (q.1 + 1))) 7 R (nI n)) 16 2) 81 (Gtp G') (nI (zV t j))) 1120 (Gtp G') (some b)) := (KQ.fi (Nat.le_refl _)).trans (KQ.fr (Nat.le_refl _))
                have k5 : KQ (fun a => a = R) (0 + (0 + 1) + 0) (0 + (0 + 2) + 0) G' (Sfr (Sfi (Sno (Sfi (Sfi G' 5 R (nI (q.1 + 1))) 7 R (nI n)) 16 2) 81 (Gtp G') (nI (zV t j))) 1120 (Gtp G') (some b)) := KQ.new ((((KQ.fi (.inl rfl)).trans ((KQ.fi (.inl rfl)).trans KQ.no)).trans (kz2.mono (fun a q => .inr q) (Nat.le_refl _) (Nat.le_refl _))))
                exact NO.kq k5 (fun a h1 e => by omega) _ _ _ n2
              · simp (disch := first | omega | exact cI _ | exact cR _ | exact cK | exact cU | exact cO _ | exact cL _) only [uS, Nat.reduceAdd, Nat.reduceSub, Nat.reduceMul, Nat.reduceLeDiff, Nat.reduceEqDiff, Nat.add_sub_cancel, gS, nL, nS, dS, Nat.add_left_cancel_iff]
            have := hQ (.inl (some (.ref (Gtp G')))) _ ⟨s3.mono (show _ ≤ q.1 + 1 - j by omega) (show _ ≤ 3 * (q.1 + 1 - j) by omega), Gtp G', rfl, r1, n1, show j < q.1 + 1 by omega⟩
            simp (disch := first | omega | exact cI _ | exact cR _ | exact cK | exact cU | exact cO _ | exact cL _) only [oS, uS.2, Nat.reduceAdd, Nat.reduceSub, Nat.reduceMul, Nat.reduceLeDiff, Nat.reduceEqDiff, Nat.add_sub_cancel, xS, gS, nL, nS, dS, mX2_factor, zX2_factor, hg', ctk, h7t, hs, this]
          · simp only [qN_0 c2] at ctk
            have hun2 : zb (Sum.inr q : Sr) (fun r : Nat × List En => zN t r.1 93 (.inr (r.1 + 1, r.2 ++ [(2, nI (zV t j))]))) = .inl (1, zP t q.1) := if_neg c2
            rw [hun2] at hQ
            have := hQ _ _ (sOut_f (KQ.fR.trans (KQ.fR.trans (KQ.fR.trans k1.1))) (by omega) (by omega) rfl)
            simp (disch := first | omega | exact cI _ | exact cR _ | exact cK | exact cU | exact cO _ | exact cL _) only [oS, uS.2, Nat.reduceAdd, Nat.reduceSub, Nat.reduceMul, Nat.reduceLeDiff, Nat.reduceEqDiff, Nat.add_sub_cancel, xS, gS, nL, nS, dS, mX2_factor, zX2_factor, hg', ctk, this]
      · simp only [qN_0 e] at cen
        rw [if_pos (by omega)] at hQ
        have this := hQ _ _ (sOut_f (KQ.fR (f := 5) (v := nI (j + 1))) (by omega) (by omega) rfl)
        rw [h_SfiGtp] at this
        simp (disch := first | omega | exact cI _ | exact cR _ | exact cK | exact cU | exact cO _ | exact cL _) only [oS, uS.2, Nat.reduceAdd, Nat.reduceSub, Nat.reduceMul, Nat.reduceLeDiff, Nat.reduceEqDiff, Nat.add_sub_cancel, xS, gS, nL, nS, dS, fX2_factor_0, fX2_factor_144, fX2_factor_167, mX2_factor, zX2_factor, hg, ck, ck1, hc, cnm, c91, cn1, cen, this, show (nI 6).toInt = 6 from rfl, show xlsw 206 [(5, 129), (6, 144), (7, 115), (40, 87), (45, 56)] 6 = 144 from rfl]
    · have cn0 : ∀ Q, XC xms D 46 [.ref R, .int (nI 0)] (Sfi G 5 R (nI (j + 1))) Q = Q (.inr (Gtp (Sfi G 5 R (nI (j + 1))))) (fG g (Sfi G 5 R (nI (j + 1))) 1 (zP t (j + 1))) := fun Q => (cnd False Q).trans (qN_0 (fun q => q))
      rw [if_pos c91] at hQ
      have this := hQ _ _ (sOut_f (KQ.fR (f := 5) (v := nI (j + 1))) (by omega) (by omega) rfl)
      rw [h_SfiGtp] at this
      simp (disch := first | omega | exact cI _ | exact cR _ | exact cK | exact cU | exact cO _ | exact cL _) only [oS, uS.2, Nat.reduceAdd, Nat.reduceSub, Nat.reduceMul, Nat.reduceLeDiff, Nat.reduceEqDiff, Nat.add_sub_cancel, xS, gS, nL, nS, dS, fX2_factor_0, fX2_factor_144, fX2_factor_166, fX2_factor_167, mX2_factor, zX2_factor, hg, ck, ck1, hc, cnm, c91, cn0, this, show (nI 6).toInt = 6 from rfl, show xlsw 206 [(5, 129), (6, 144), (7, 115), (40, 87), (45, 56)] 6 = 144 from rfl]
  · simp only [qN_0 e3] at cnm
    rw [if_pos (by omega)] at hQ
    have := hQ _ _ (sOut_f KQ.refl (by omega) (by omega) rfl)
    simp (disch := first | omega | exact cI _ | exact cR _ | exact cK | exact cU | exact cO _ | exact cL _) only [oS, uS.2, Nat.reduceAdd, Nat.reduceSub, Nat.reduceMul, Nat.reduceLeDiff, Nat.reduceEqDiff, Nat.add_sub_cancel, xS, gS, nL, nS, dS, fX2_factor_0, fX2_factor_144, mX2_factor, zX2_factor, hg, ck, hc, cnm, this, show (nI 6).toInt = 6 from rfl, show xlsw 206 [(5, 129), (6, 144), (7, 115), (40, 87), (45, 56)] 6 = 144 from rfl]
theorem lsw_d {k : Nat} (hb : k < 256) (h1 : k ≠ 45) (h2 : k ≠ 40) (h3 : k ≠ 7) (h4 : k ≠ 5) (h5 : k ≠ 6) : xlsw 206 [(5, 129), (6, 144), (7, 115), (40, 87), (45, 56)] (nI k).toInt = 206 := by
  rw [nI_toInt (by omega)]
  unfold xlsw
  rw [if_neg (by show ¬ (k : Int) = 5; omega)]
  unfold xlsw
  rw [if_neg (by show ¬ (k : Int) = 6; omega)]
  unfold xlsw
  rw [if_neg (by show ¬ (k : Int) = 7; omega)]
  unfold xlsw
  rw [if_neg (by show ¬ (k : Int) = 40; omega)]
  unfold xlsw
  rw [if_neg (by show ¬ (k : Int) = 45; omega)]
  rfl
theorem f_how (hr : RE G S R p t J g j) (h7 : Gfi G 7 R = nI n) (hn8 : n ≤ 8) (hD : 10 ≤ D) (h1 : zK t j ≠ 45) (h2 : zK t j ≠ 40) (h3 : zK t j ≠ 7) (h4 : zK t j ≠ 5) (h5 : zK t j ≠ 6) (hQ : ∀ o G', sOut S R p t J g G j (pFac t (f + 1) n j) o G' → Q o G') : XC xms (D + 1) 59 [.ref R] G Q := by
  have hg := hr.1.2.1
  have hRG := hr.R
  have hjJ := hr.2.2.2.2
  have hb : zK t j < 256 := (hr.2.1.2.2 j hjJ).2.2.2.1
  have hlw := lsw_d hb h1 h2 h3 h4 h5
  have ck := fun Q => d_kind (D := D) (Q := Q) hr (by omega)
  have cw := fun Q => d_isWord (D := D) (w := 20) (Q := Q) hr (by omega) (by omega)
  have cnd := fun Q => d_need (D := D) (Q := Q) (zK t j = 2 ∧ zV t j = 20) hr (by omega)
  have cen := fun Q => d_enter (D := D) (Q := Q) hr (by omega) h7 hn8
  have hun : pFac t (f + 1) n j = if zK t j = 2 ∧ zV t j = 20 then (if 8 ≤ n then zF t 2 j else if zK t (j + 1) ≠ 6 then zF t 1 (j + 1) else if 3 ≤ zV t (j + 1) then zF t 2 (j + 1) else .inr (j + 2, [(3, nI (zV t (j + 1)))])) else zF t 1 j := (if_neg h1).trans ((if_neg h2).trans ((if_neg h3).trans ((if_neg h4).trans (if_neg h5))))
  rw [hun] at hQ
  rw [XC_s]
  by_cases cw1 : zK t j = 2 ∧ zV t j = 20
  · rw [if_pos cw1] at hQ
    simp only [qN_1 cw1, if_pos cw1] at cnd
    simp only [if_pos cw1] at cw
    by_cases e : n < 8
    · simp only [qN_1 e] at cen
      rw [if_neg (by omega)] at hQ
      have hnx := hr.nx (show zK t j ≠ 0 by omega)
      have hr1 : RE (Sfi (Sfi G 7 R (nI (n + 1))) 5 R (nI (j + 1))) S R p t J g (j + 1) := (hr.f (by omega)).at hnx
      have cnm := fun Q => d_name (D := D) (k := 6) (m := 3) (Q := Q) hr1 (by omega) (by omega) (by omega) (by omega)
      by_cases c6 : zK t (j + 1) = 6
      · simp only [qN_1 c6] at cnm
        rw [if_neg (fun q => q c6)] at hQ
        by_cases e3 : zV t (j + 1) < 3
        · simp only [qN_1 e3] at cnm
          rw [if_neg (by omega)] at hQ
          have hnx2 := hr1.nx (show zK t (j + 1) ≠ 0 by omega)
          have h7t : Gfi (Sfi (Sfi (Sfi G 7 R (nI (n + 1))) 5 R (nI (j + 1))) 5 R (nI (j + 1 + 1))) 7 R = nI (n + 1) := by simp (disch := first | omega | exact cI _ | exact cR _ | exact cK | exact cU | exact cO _ | exact cL _) only [uS, Nat.reduceAdd, Nat.reduceSub, Nat.reduceMul, Nat.reduceLeDiff, Nat.reduceEqDiff, Nat.add_sub_cancel, gS, nL, nS, dS, Nat.add_left_cancel_iff]
          have s0 : sK R 0 0 G (Sfi (Sfi (Sfi (Sfi G 7 R (nI (n + 1))) 5 R (nI (j + 1))) 5 R (nI (j + 1 + 1))) 7 R (nI n)) := sK.nest h7 (sK.at (v := nI (j + 1 + 1)))
          generalize hG' : Sfi (Sfi (Sfi (Sfi G 7 R (nI (n + 1))) 5 R (nI (j + 1))) 5 R (nI (j + 1 + 1))) 7 R (nI n) = G' at *
          have htp : Gtp G' = Gtp G := by rw [← hG']; rfl
          have ra : RE G' S R p t J g (j + 2) := by
            rw [← hG']
            exact (hr1.at hnx2).f (by omega)
          have k0 : sK R 0 0 (Sno G' 16 2) (Sno G' 16 2) := sK.refl
          have s2 := s0.trans (sK.no (show R < Gtp G' by omega) k0)
          have hzk : Gkd (Sno G' 16 2) (Gtp G) = 17 := if_pos htp.symm
          have hs : ∀ Q, XC xms D 210 [.ref (Gtp G), .int (nI (zV t (j + 1))), .null] (Sno G' 16 2) Q = Q (.inl none) (Sfr (Sfi (Sno G' 16 2) 81 (Gtp G) (nI (zV t (j + 1)))) 1120 (Gtp G) none) := fun Q => d_place (l := none) (by omega) hzk
          have kz : KQ (fun a => a = Gtp G) 0 0 (Sno G' 16 2) (Sfr (Sfi (Sno G' 16 2) 81 (Gtp G) (nI (zV t (j + 1)))) 1120 (Gtp G) none) := KQ.fR.trans KQ.rR
          have s3 := s2.nw (z := Gtp G) (Nat.le_refl _) (by omega) kz
          have r1 : RE (Sfr (Sfi (Sno G' 16 2) 81 (Gtp G) (nI (zV t (j + 1)))) 1120 (Gtp G) none) S R p t J g (j + 2) := (ra.kq (P := fun _ => False) KQ.no (fun _ _ _ q => q)).kq kz (fun a h1 _ e => by omega)
          have n1 : NO (Sfr (Sfi (Sno G' 16 2) 81 (Gtp G) (nI (zV t (j + 1)))) 1120 (Gtp G) none) (Gtp G) (j + 2 - j) (Gtp G) [(3, nI (zV t (j + 1)))] := by
            rw [show j + 2 - j = 1 + 1 by omega]
            refine ⟨Nat.le_refl _, ?_, .inr (.inr (.inl ⟨hzk, if_pos ⟨rfl, rfl⟩, ?_⟩))⟩
            · show Gtp G < Gtp G' + 1
              omega
            · simp (disch := first | omega | exact cI _ | exact cR _ | exact cK | exact cU | exact cO _ | exact cL _) only [uS, Nat.reduceAdd, Nat.reduceSub, Nat.reduceMul, Nat.reduceLeDiff, Nat.reduceEqDiff, Nat.add_sub_cancel, gS, nL, nS, dS, Nat.add_left_cancel_iff]
          have := hQ (.inl (some (.ref (Gtp G)))) _ ⟨s3.mono (show _ ≤ j + 2 - j by omega) (show _ ≤ 3 * (j + 2 - j) by omega), Gtp G, rfl, r1, n1, show j < j + 2 by omega⟩
          simp (disch := first | omega | exact cI _ | exact cR _ | exact cK | exact cU | exact cO _ | exact cL _) only [oS, uS.2, Nat.reduceAdd, Nat.reduceSub, Nat.reduceMul, Nat.reduceLeDiff, Nat.reduceEqDiff, Nat.add_sub_cancel, xS, gS, nL, nS, dS, fX2_factor_0, fX2_factor_206, mX2_factor, zX2_factor, hg, ck, hlw, cw, cnd, cen, cnm, h7t, hG', htp, hs, this]
        · simp only [qN_0 e3] at cnm
          rw [if_pos (by omega)] at hQ
          have : Q (.inr (Gtp G)) (fG g (Sfi (Sfi G 7 R (nI (n + 1))) 5 R (nI (j + 1))) 2 (zP t (j + 1))) := hQ _ _ (sOut_f (KQ.fR.trans KQ.fR) (by omega) (by omega) rfl)
          simp (disch := first | omega | exact cI _ | exact cR _ | exact cK | exact cU | exact cO _ | exact cL _) only [oS, uS.2, Nat.reduceAdd, Nat.reduceSub, Nat.reduceMul, Nat.reduceLeDiff, Nat.reduceEqDiff, Nat.add_sub_cancel, xS, gS, nL, nS, dS, fX2_factor_0, fX2_factor_206, mX2_factor, zX2_factor, hg, ck, hlw, cw, cnd, cen, cnm, this]
      · simp only [qN_0 c6] at cnm
        rw [if_pos c6] at hQ
        have : Q (.inr (Gtp G)) (fG g (Sfi (Sfi G 7 R (nI (n + 1))) 5 R (nI (j + 1))) 1 (zP t (j + 1))) := hQ _ _ (sOut_f (KQ.fR.trans KQ.fR) (by omega) (by omega) rfl)
        simp (disch := first | omega | exact cI _ | exact cR _ | exact cK | exact cU | exact cO _ | exact cL _) only [oS, uS.2, Nat.reduceAdd, Nat.reduceSub, Nat.reduceMul, Nat.reduceLeDiff, Nat.reduceEqDiff, Nat.add_sub_cancel, xS, gS, nL, nS, dS, fX2_factor_0, fX2_factor_206, mX2_factor, zX2_factor, hg, ck, hlw, cw, cnd, cen, cnm, this]
    · simp only [qN_0 e] at cen
      rw [if_pos (by omega)] at hQ
      have := hQ _ _ (sOut_f KQ.refl (by omega) (by omega) rfl)
      simp (disch := first | omega | exact cI _ | exact cR _ | exact cK | exact cU | exact cO _ | exact cL _) only [oS, uS.2, Nat.reduceAdd, Nat.reduceSub, Nat.reduceMul, Nat.reduceLeDiff, Nat.reduceEqDiff, Nat.add_sub_cancel, xS, gS, nL, nS, dS, fX2_factor_0, fX2_factor_206, mX2_factor, zX2_factor, hg, ck, hlw, cw, cnd, cen, this]
  · rw [if_neg cw1] at hQ
    simp only [qN_0 cw1, if_neg cw1] at cnd
    simp only [if_neg cw1] at cw
    have := hQ _ _ (sOut_f KQ.refl (by omega) (by omega) rfl)
    simp (disch := first | omega | exact cI _ | exact cR _ | exact cK | exact cU | exact cO _ | exact cL _) only [oS, uS.2, Nat.reduceAdd, Nat.reduceSub, Nat.reduceMul, Nat.reduceLeDiff, Nat.reduceEqDiff, Nat.add_sub_cancel, xS, gS, nL, nS, dS, fX2_factor_0, fX2_factor_206, mX2_factor, zX2_factor, hg, ck, hlw, cw, cnd, this]
theorem HF_all : ∀ f, HF S R p t J g f := by
  intro f
  induction f with
  | zero =>
    intro n j G D hr _ _ hJ _
    have := hr.2.2.2.2
    omega
  | succ f ih =>
    intro n j G D hr h7 hn8 hJ hD
    obtain ⟨D, rfl⟩ : ∃ d, D = d + 1 := ⟨D - 1, by omega⟩
    by_cases h1 : zK t j = 45
    · exact f_neg ih hr h7 hn8 hJ hD h1 (fun _ _ q => q)
    by_cases h2 : zK t j = 40
    · exact f_par ih hr h7 hn8 hJ hD h2 (fun _ _ q => q)
    by_cases h3 : zK t j = 7
    · exact f_num hr (by omega) h3 (fun _ _ q => q)
    by_cases h4 : zK t j = 5
    · exact f_var hr (by omega) h4 (fun _ _ q => q)
    by_cases h5 : zK t j = 6
    · exact f_row ih hr h7 hn8 hJ hD h5 (fun _ _ q => q)
    · exact f_how hr h7 hn8 (by omega) h1 h2 h3 h4 h5 (fun _ _ q => q)
/-- READING A SUM -/
theorem c_sum (hr : RE G S R p t J g j) (h7 : Gfi G 7 R = nI 0) (hJ : J < j + f) (hD : 37 ≤ D) : XC xms D 57 [.ref R] G (sOut S R p t J g G j (pSum t f j)) := d_sum (HF_all f) hr h7 (by omega) hJ (by omega)
end FAC
