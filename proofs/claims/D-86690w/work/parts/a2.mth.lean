set_option maxRecDepth 100000
/-! A PROGRAM IS READ: methods, kinds -/
def MS (G : XG) (p : Nat) (A : Nat → Nat) (T : Pg) (nm : Nat) : Prop := ∀ mi, mi < nm → ∃ a, Gar G (p + 1) mi = some a ∧ Gkd G a = 12 ∧ Gfi G 76 a = nI mi ∧ p + 6 ≤ a ∧ a < Gtp G ∧ BA G (p + 6) A (Gfr G 1117 a) (Tm T mi)
def AB (G : XG) (p : Nat) (T : Pg) (nk : Nat) : Prop := ∀ k, k < nk → Gai G (p + 2) k = (match Tu T k with
  | none => NN
  | some q => nI q)
def RC4 (R a : Nat) : Prop := R ≤ a ∧ a < R + 4
def RR (S R p : Nat) (t : Tks) (J : Nat) (g : Nat → Option Nat) (A : Nat → Nat) (G0 G : XG) (X : Zp) : Prop := (∃ c u, KQ (RC4 R) c u G0 G ∧ c ≤ 10 + 20 * zj X.1 ∧ u ≤ 700 + 1000 * zj X.1) ∧ Gtp G0 ≤ p ∧ RE G S R p t J g (zj X.1) ∧ RY G R p X.2.2 X.2.1 A 0 (999, 0, 0) X.1 ∧ SA G (p + 6) p A (zT X.1) 0 (zn X.1) ∧ MS G p A (zT X.1) X.2.1 ∧ AB G p (zT X.1) X.2.2 ∧ ∀ mi, mi < X.2.1 → ∀ x, x ∈ Tm (zT X.1) mi → x < zn X.1
abbrev HR (S R p : Nat) (t : Tks) (J : Nat) (g : Nat → Option Nat) (G0 : XG) (r : Ft ⊕ Zp) (Q : (Option Value ⊕ Nat) → XG → Prop) : Prop := HC (RC4 R) (20 * (J + 1) + 30) (1000 * (J + 1) + 1000) G0 (fun X o G' => ∃ A', o = .inl none ∧ RR S R p t J g A' G0 G' X) r Q
section MTH
variable {D S R p : Nat} {t : Tks} {j J f nk nm b : Nat} {g : Nat → Option Nat} {A : Nat → Nat} {c : Cx} {Z : Zs} {X : Zp} {G0 G G1 G2 : XG} {Q : (Option Value ⊕ Nat) → XG → Prop}
theorem KQ.rd {P P' : Nat → Prop} {c u c' u' : Nat} (h : KQ P c u G0 G) (k : KQ P' c' u' G G1) (hp : ∀ a, P' a → P a ∨ Gtp G0 ≤ a) : KQ P (c + c') (u + u') G0 G1 := KQ.new ((h.mono (fun a q => .inl q) (Nat.le_refl _) (Nat.le_refl _)).trans (k.mono hp (Nat.le_refl _) (Nat.le_refl _)))
theorem RY.arm {a i : Nat} {v : Option Nat} (h : RY G R p nk nm A b c Z) (ha : a ≠ p + 4) : RY (Sar G a i v) R p nk nm A b c Z := by
  obtain ⟨a1, a2, a3, a4, a5, a6, a7, a8, a9, a10, a11, a12, a13, a14⟩ := h
  exact ⟨a1, a2, a3, a4, a5, a6, a7, a8, a9, a10, a11, a12, ⟨a13.1, fun j x hx => ⟨(if_neg (fun q => ha q.1.symm)).trans (a13.2 j x hx).1, (a13.2 j x hx).2⟩⟩, a14⟩
theorem RY.nmm {nm' : Nat} (h : RY G R p nk nm A b c Z) : RY (Sfi G 12 p (nI nm')) R p nk nm' A b c Z := by
  obtain ⟨a1, a2, a3, a4, a5, a6, a7, a8, a9, a10, a11, a12, a13, a14⟩ := h
  have fo : ∀ x a, x ≠ 12 → Gfi (Sfi G 12 p (nI nm')) x a = Gfi G x a := fun x a e => if_neg (fun q => e q.1)
  exact ⟨a1, a2, (fo 7 R (by decide)).trans a3, (fo 6 R (by decide)).trans a4, (fo 8 R (by decide)).trans a5, a6, (fo 9 R (by decide)).trans a7, ⟨(fo 11 R (by decide)).trans a8.1, a8.2⟩, (fo 10 R (by decide)).trans a9, if_pos ⟨rfl, rfl⟩, (fo 13 p (by decide)).trans a11, (fo 14 p (by decide)).trans a12, ⟨(fo 15 p (by decide)).trans a13.1, a13.2⟩, a14⟩
theorem o_mth (w : RR S R p t J g A G0 G X) (hp : okP t X.2.2 X) (ht : tV t) (hf : J < f) (hJ : J ≤ 200) (hD : 130 ≤ D) (hQ : HR S R p t J g G0 (pMth t f X) Q) : XC xms (D + 1) 50 [.ref R] G Q := by
  obtain ⟨⟨c0, u0, kq, kc, ku⟩, hpG, hr, hy, hsa, hms, hab, htm⟩ := w
  obtain ⟨x0, x1, x2, x3, x4, x5, x6, x7, x8, x9, x10, x11⟩ := hp
  have hK : ∀ {pc rest L st} z G', Q (.inr z) G' → XK xms D 50 pc rest L st Q (.inr z) G' := fun {pc rest L st} z G' h => Eq.mpr (zX2_method (d := D) (pc := pc) (z := z) (L := L) (G := G') (Q := Q)) h
  have hg := hr.1.2.1
  have ha := hr.2.2.2.1
  have hl := hr.1
  have hjJ := hr.lJ
  have hRp := hy.2.1
  have hpt := hy.1.t
  have hPR := hy.1
  unfold PR at hPR
  have h12 : Gfi G 12 p = nI X.2.1 := hy.2.2.2.2.2.2.2.2.2.1
  have cw := fun Q => d_isWord (D := D) (w := 2) (Q := Q) hr (by omega) (by omega)
  have n1 := fun Q => d_need1 (D := D) (Q := Q) hr (by omega)
  have n0 := fun Q => d_need0 (D := D) (Q := Q) hr (by omega)
  have r1 := fun Q => d_room1 (D := D) (Q := Q) hr (by omega)
  have r0 := fun Q => d_room0 (D := D) (Q := Q) hr (by omega)
  have e : pMth t f X = if zK t (zj X.1) = 2 ∧ zV t (zj X.1) = 2 then (if 8 ≤ X.2.1 then zF t 2 (zj X.1) else zN t (zj X.1 + 1) 123 (zb (pStms t f f (999, 0, 0) (zaj X.1 (zj X.1 + 2))) (fun r => zN t (zj r.1) 125 (.inr (zaT (zaj r.1 (zj r.1 + 1)) (tmet (zT r.1) X.2.1 r.2), X.2.1 + 1, X.2.2))))) else zF t 1 (zj X.1) := rfl
  rw [e] at hQ
  unfold RD SL at hl
  rw [XC_s]
  by_cases cW : zK t (zj X.1) = 2 ∧ zV t (zj X.1) = 2
  · rw [if_pos cW] at hQ
    simp only [if_pos cW] at cw
    by_cases c8 : X.2.1 < 8
    · rw [if_neg (by omega)] at hQ
      have hJ1 : zj X.1 + 1 ≤ J := hr.nx (by omega)
      have hRt : R + 4 ≤ Gtp G := hr.R
      have hrt : (R = Gtp G) = False := eq_false (by omega)
      have hpt' : (p = Gtp G) = False := eq_false (by omega)
      have hpt1 : (p + 1 = Gtp G) = False := eq_false (by omega)
      have hd : ∀ n Q, XC xms D 202 [.ref (Gtp G), .int n] (Sno (Sfi G 5 R (nI (zj X.1 + 1))) 11 3) Q = Q (.inl none) (Sfi (Sno (Sfi G 5 R (nI (zj X.1 + 1))) 11 3) 76 (Gtp G) n) := fun n Q => d_method (by omega) (if_pos rfl)
      have hxk : xrfk (Sfi (Sno (Sfi G 5 R (nI (zj X.1 + 1))) 11 3) 76 (Gtp G) (nI X.2.1)) [12] (some (Gtp G)) = true := decide_eq_true (by
        have e : Gkd (Sfi (Sno (Sfi G 5 R (nI (zj X.1 + 1))) 11 3) 76 (Gtp G) (nI X.2.1)) (Gtp G) = 12 := if_pos rfl
        rw [e]
        decide)
      simp (disch := first | omega | exact cI _ | exact cR _ | exact cK | exact cU | exact cO _ | exact cL _) only [oS, uS.2, Nat.reduceAdd, Nat.reduceSub, Nat.reduceMul, Nat.reduceLeDiff, Nat.reduceEqDiff, Nat.add_sub_cancel, xS, gS, nL, nS, dS, fX2_method_0, fX2_method_27, mX2_method, zX2_method, hg, hl, ha, h12, cw, n1, r1, c8, hPR, hrt, hpt', hpt1, hd, hxk]
      obtain ⟨G5, hG5⟩ : ∃ G5, G5 = Sfi (Sar (Sfi (Sno (Sfi G 5 R (nI (zj X.1 + 1))) 11 3) 76 (Gtp G) (nI X.2.1)) (p + 1) X.2.1 (some (Gtp G))) 12 p (nI (X.2.1 + 1)) := ⟨_, rfl⟩
      have hr5 : RE G5 S R p t J g (zj X.1 + 1) := by
        rw [hG5]
        exact ((((hr.at hJ1).kq (P := fun _ => False) KQ.no (fun _ _ _ q => q)).f (by decide)).ar).f (by decide)
      have k1 : KQ (fun a => a = R ∨ Gtp G ≤ a) (0 + 1 + 0) (0 + 3 + 0) G (Sfi (Sno (Sfi G 5 R (nI (zj X.1 + 1))) 11 3) 76 (Gtp G) (nI X.2.1)) := ((KQ.fi (.inl rfl)).trans KQ.no).trans (KQ.fi (.inr (Nat.le_refl _)))
      have hy5 : RY G5 R p X.2.2 (X.2.1 + 1) A 0 (999, 0, 0) (zaj X.1 (zj X.1 + 2)) := by
        rw [hG5]
        have k2 : KQ (fun a => False ∨ Gtp G ≤ a) (1 + 0) (3 + 0) (Sfi G 5 R (nI (zj X.1 + 1))) (Sfi (Sno (Sfi G 5 R (nI (zj X.1 + 1))) 11 3) 76 (Gtp G) (nI X.2.1)) := KQ.no.trans (KQ.fi (.inr (Nat.le_refl _)))
        have y1 : RY (Sfi (Sno (Sfi G 5 R (nI (zj X.1 + 1))) 11 3) 76 (Gtp G) (nI X.2.1)) R p X.2.2 X.2.1 A 0 (999, 0, 0) (zaj X.1 (zj X.1 + 2)) := (hy.sk (sK.at (v := nI (zj X.1 + 1)))).kf k2.new (fun _ q => q.elim)
        exact (y1.arm (a := p + 1) (by omega)).nmm
      have k5 : KQ (fun a => (a = R ∨ a = p ∨ a = p + 1) ∨ Gtp G ≤ a) (0 + 1 + 0 + 0 + 0) (0 + 3 + 0 + 0 + 0) G G5 := by
        rw [hG5]
        exact ((k1.mono (fun a q => q.imp .inl id) (Nat.le_refl _) (Nat.le_refl _)).trans (KQ.ar (.inl (.inr (.inr rfl))))).trans (KQ.fi (.inl (.inr (.inl rfl))))
      have k5' := k5.new
      have kG5 : KQ (RC4 R) (c0 + 1) (u0 + 3) G0 G5 := (kq.rd k5' (fun a q => by unfold RC4; omega)).mono (fun _ q => q) (by omega) (by omega)
      have hzk5 : Gkd G5 (Gtp G) = 12 := by rw [hG5]; exact if_pos rfl
      have hz76 : Gfi G5 76 (Gtp G) = nI X.2.1 := by rw [hG5]; exact (Sfi_o (by decide)).trans (if_pos ⟨rfl, rfl⟩)
      have hzt5 : Gtp G5 = Gtp G + 1 := by rw [hG5]; rfl
      have har5o : ∀ mi, mi ≠ X.2.1 → Gar G5 (p + 1) mi = Gar G (p + 1) mi := fun mi hm => by rw [hG5]; exact (Sar_o (.inr hm))
      have har5 : Gar G5 (p + 1) X.2.1 = some (Gtp G) := by rw [hG5]; exact Sar_s
      rw [← hG5]
      refine w_take (k := 123) hr5 (by omega) (by omega) (by omega) kG5 (by omega) (by omega) hQ hK (fun e6 j6 hr6 hQ => ?_)
      have hy6 : RY (Sfi G5 5 R (nI (zj X.1 + 1 + 1))) R p X.2.2 (X.2.1 + 1) A 0 (999, 0, 0) (zaj X.1 (zj X.1 + 2)) := hy5.sk sK.at
      have kG6 : KQ (RC4 R) (c0 + 1) (u0 + 3) G0 (Sfi G5 5 R (nI (zj X.1 + 1 + 1))) := (kG5.rd (KQ.fR (R := R) (f := 5) (v := nI (zj X.1 + 1 + 1))) (fun a q => by unfold RC4; omega)).mono (fun _ q => q) (by omega) (by omega)
      have k6 : KQ (fun a => (a = R ∨ a = p ∨ a = p + 1) ∨ Gtp G ≤ a) (0 + 1 + 0 + 0 + 0 + 0) (0 + 3 + 0 + 0 + 0 + 0) G (Sfi G5 5 R (nI (zj X.1 + 1 + 1))) := k5.trans (KQ.fi (.inl (.inl rfl)))
      have hzk6 : Gkd (Sfi G5 5 R (nI (zj X.1 + 1 + 1))) (Gtp G) = 12 := hzk5
      have hz766 : Gfi (Sfi G5 5 R (nI (zj X.1 + 1 + 1))) 76 (Gtp G) = nI X.2.1 := (Sfi_o (by decide)).trans hz76
      have hzt6 : Gtp (Sfi G5 5 R (nI (zj X.1 + 1 + 1))) = Gtp G + 1 := hzt5
      have har6o : ∀ mi, mi ≠ X.2.1 → Gar (Sfi G5 5 R (nI (zj X.1 + 1 + 1))) (p + 1) mi = Gar G (p + 1) mi := har5o
      have har6 : Gar (Sfi G5 5 R (nI (zj X.1 + 1 + 1))) (p + 1) X.2.1 = some (Gtp G) := har5
      have hg6 := hr6.1.2.1
      simp (disch := first | omega | exact cI _ | exact cR _ | exact cK | exact cU | exact cO _ | exact cL _) only [oS, uS.2, Nat.reduceAdd, Nat.reduceSub, Nat.reduceMul, Nat.reduceLeDiff, Nat.reduceEqDiff, Nat.add_sub_cancel, xS, gS, nL, nS, dS, mX2_method, zX2_method, hg6]
      generalize Sfi G5 5 R (nI (zj X.1 + 1 + 1)) = G6 at hr6 hy6 kG6 k6 hzk6 hz766 hzt6 har6o har6 ⊢
      obtain ⟨D, rfl⟩ : ∃ d, D = d + 1 := ⟨D - 1, by omega⟩
      have hpz6 : pz 0 (999, 0, 0) (zaj X.1 (zj X.1 + 2)) := ⟨x10, by show 2 * (zh X.1).length ≤ zj X.1 + 2; omega, x6, ⟨.inl rfl, Nat.zero_le _, Nat.zero_le _, x1⟩, Nat.zero_le _⟩
      refine TT_all ht hf hJ x4 f A 0 (999, 0, 0) G6 D (zaj X.1 (zj X.1 + 2)) _ hr6 hy6 hpz6 (Nat.le_refl _) (by omega) (by omega) (fun o G' ho => ?_)
      have ez : zj (zaj X.1 (zj X.1 + 2)) = zj X.1 + 2 := rfl
      have en : zn (zaj X.1 (zj X.1 + 2)) = zn X.1 := rfl
      cases hps : pStms t f f (999, 0, 0) (zaj X.1 (zj X.1 + 2)) with
      | inl e =>
        rw [hps] at ho hQ
        obtain ⟨k7, z, rfl, k8⟩ := ho
        rw [ez] at k7
        exact hK _ _ (hQ _ _ ⟨(kG6.rd k7 (fun a q => by unfold rP at q; unfold RC4; omega)).mono (fun _ q => q) (by omega) (by omega), z, rfl, k8⟩)
      | inr r =>
        rw [hps] at ho hQ
        obtain ⟨A2, y, rfl, b1, b2, b3, b4, b5, b6, b7, b8⟩ := ho
        rw [ez] at b2
        rw [en] at b1 b3 b7
        obtain ⟨q1, q2, -⟩ := (stms_sh (f0 := f) ht f).1 (999, 0, 0) (zaj X.1 (zj X.1 + 2)) r.1 r.2 ⟨.inl rfl, Nat.zero_le _, Nat.zero_le _, x1⟩ (Nat.le_refl _) hps
        have hj1 : zj X.1 + 2 ≤ zj r.1 := q1.1
        have hn1 : zn X.1 ≤ zn r.1 := q1.2.1
        have tf : tF (zT X.1) (zT r.1) (zn X.1) := q1.2.2.2.1
        have hjr := b5.lJ
        have hzlt : Gtp G < Gtp G6 := by omega
        have hzk7 : Gkd G' (Gtp G) = 12 := ((b2.2.2.2.2.1 _ hzlt).1).trans hzk6
        have fz7 := b2.2.2.2.2.2 (Gtp G) hzlt (fun q => by unfold rP at q; omega)
        have hg7 := b5.1.2.1
        have hRz : R ≠ Gtp G := by omega
        have k7 : KQ (fun a => a = Gtp G) 0 0 G' (Sfr G' 1117 (Gtp G) (some y)) := KQ.rR
        have hr8 : RE (Sfr G' 1117 (Gtp G) (some y)) S R p t J g (zj r.1) := b5.kq k7 (fun a h1 _ e => by omega)
        have hy8 : RY (Sfr G' 1117 (Gtp G) (some y)) R p X.2.2 (X.2.1 + 1) A2 0 (999, 0, 0) r.1 := b6.kf k7 (fun a q => by omega)
        have kG7 : KQ (RC4 R) (c0 + 1 + (10 * (zj r.1 - (zj X.1 + 2)) + 1) + 0) (u0 + 3 + (400 * (zj r.1 - (zj X.1 + 2)) + 80) + 0) G0 (Sfr G' 1117 (Gtp G) (some y)) := (kG6.rd b2 (fun a q => by unfold rP at q; unfold RC4; omega)).rd k7 (fun a q => by have := kq.2.1; omega)
        simp (disch := first | omega | exact cI _ | exact cR _ | exact cK | exact cU | exact cO _ | exact cL _) only [oS, uS.2, Nat.reduceAdd, Nat.reduceSub, Nat.reduceMul, Nat.reduceLeDiff, Nat.reduceEqDiff, Nat.add_sub_cancel, xS, gS, nL, nS, dS, mX2_method, zX2_method, hzk7, hg7]
        refine w_take (k := 125) hr8 (by omega) (by omega) (by omega) kG7 (by omega) (by omega) hQ hK (fun e9 j9 hr9 hQ => ?_)
        have k9 : KQ (fun a => a = R ∨ Gtp G ≤ a) (0 + 0) (0 + 0) G' (Sfi (Sfr G' 1117 (Gtp G) (some y)) 5 R (nI (zj r.1 + 1))) := (KQ.fr (.inr (Nat.le_refl _))).trans (KQ.fi (.inl rfl))
        have kGG : KQ (fun a => (RC4 R a ∨ a = p ∨ a = p + 1 ∨ (p + 3 ≤ a ∧ a < p + 6)) ∨ Gtp G ≤ a) _ _ G (Sfi (Sfr G' 1117 (Gtp G) (some y)) 5 R (nI (zj r.1 + 1))) := ((k6.mono (fun a q => by unfold RC4; omega) (Nat.le_refl _) (Nat.le_refl _)).trans (b2.mono (fun a q => by unfold rP at q; unfold RC4; omega) (Nat.le_refl _) (Nat.le_refl _))).trans (k9.mono (fun a q => by unfold RC4; omega) (Nat.le_refl _) (Nat.le_refl _))
        have kn := kGG.new
        have k9z : KQ (fun a => a = R ∨ a = Gtp G) (0 + 0) (0 + 0) G' (Sfi (Sfr G' 1117 (Gtp G) (some y)) 5 R (nI (zj r.1 + 1))) := (KQ.fr (.inr rfl)).trans (KQ.fi (.inl rfl))
        have hG6' := b2.2.1
        have hkG := kq.2.1
        suffices fin : Q (.inl none) (Sfi (Sfr G' 1117 (Gtp G) (some y)) 5 R (nI (zj r.1 + 1))) by
          simp (disch := first | omega | exact cI _ | exact cR _ | exact cK | exact cU | exact cO _ | exact cL _) only [oS, uS.2, Nat.reduceAdd, Nat.reduceSub, Nat.reduceMul, Nat.reduceLeDiff, Nat.reduceEqDiff, Nat.add_sub_cancel, xS, gS, nL, nS, dS, mX2_method, zX2_method, fin]
        refine hQ _ _ ⟨A2, rfl, ⟨_, _, kG7.rd (KQ.fR (R := R) (f := 5) (v := nI (zj r.1 + 1))) (fun a q => by unfold RC4; omega), by show _ ≤ 10 + 20 * (zj r.1 + 1); omega, by show _ ≤ 700 + 1000 * (zj r.1 + 1); omega⟩, hpG, hr9, hy8.sk sK.at, fun s s1 s2 => ?_, fun mi hm => ?_, fun k hk => ?_, fun mi hm x hx => ?_⟩
        · have s2 : s < zn r.1 := s2
          show _ ∧ SO _ (p + 6) A2 (tmet (zT r.1) X.2.1 r.2) s
          have hTs : tS (zT r.1) (tmet (zT r.1) X.2.1 r.2) s := ⟨rfl, rfl, rfl, rfl, rfl, rfl, rfl, rfl⟩
          have g3 : Gar (Sfi (Sfr G' 1117 (Gtp G) (some y)) 5 R (nI (zj r.1 + 1))) (p + 3) s = Gar G' (p + 3) s := rfl
          by_cases es : s < zn X.1
          · obtain ⟨e1, e2⟩ := hsa s (Nat.zero_le _) es
            refine ⟨?_, ?_⟩
            · rw [g3, b3 s es, b1 s es]
              have := ((k6.new.2.2.2.2.2 (p + 3) (by omega) (by omega)).2 s).2.1
              exact this.trans e1
            · have e3 := (e2.kq kn (fun a h1 h2 => by unfold RC4 at h2; omega)).A (x8 s es) (by omega) es b1 (tf.1 s es)
              exact SO.T hTs e3
          · obtain ⟨e1, e2⟩ := b7 s (by omega) s2
            exact ⟨g3.trans e1, SO.T hTs (SO.lo (by omega) (e2.kq k9z (fun a h1 h2 => by omega)))⟩
        · have hm : mi < X.2.1 + 1 := hm
          have g1 : Gar (Sfi (Sfr G' 1117 (Gtp G) (some y)) 5 R (nI (zj r.1 + 1))) (p + 1) mi = Gar G6 (p + 1) mi := ((b2.2.2.2.2.2 (p + 1) (by omega) (fun q => by unfold rP at q; omega)).2 mi).2.1
          show ∃ a, _ ∧ _ ∧ _ ∧ _ ∧ _ ∧ BA _ (p + 6) A2 _ (Tm (tmet (zT r.1) X.2.1 r.2) mi)
          by_cases em : mi = X.2.1
          · subst em
            have et : Tm (tmet (zT r.1) X.2.1 r.2) X.2.1 = r.2 := if_pos rfl
            rw [et]
            refine ⟨Gtp G, g1.trans har6, hzk7, ?_, by omega, by show Gtp G < Gtp G'; omega, ?_⟩
            · exact (Sfi_o (by decide)).trans ((fz7.1 76).1.trans hz766)
            · have e17 : Gfr (Sfi (Sfr G' 1117 (Gtp G) (some y)) 5 R (nI (zj r.1 + 1))) 1117 (Gtp G) = some y := if_pos ⟨rfl, rfl⟩
              rw [e17]
              exact BA.lo (by omega) (b8.kq k9z (fun a h1 h2 => by omega))
          · have et : Tm (tmet (zT r.1) X.2.1 r.2) mi = Tm (zT X.1) mi := (if_neg em).trans (congrFun tf.2.1 mi)
            rw [et]
            obtain ⟨a, m1, m2, m3, m4, m5, m6⟩ := hms mi (by omega)
            have fa := kn.2.2.2.2.2 a m5 (fun q => by unfold RC4 at q; omega)
            refine ⟨a, ?_, ((kn.2.2.2.2.1 a m5).1).trans m2, (fa.1 76).1.trans m3, m4, Nat.lt_of_lt_of_le m5 kn.2.1, ?_⟩
            · rw [g1]
              have e5 : Gar G6 (p + 1) mi = Gar G (p + 1) mi := har6o mi em
              exact e5.trans m1
            · rw [(fa.1 1117).2]
              exact ((m6.kq kn (fun a h1 h2 => by unfold RC4 at h2; omega)).A (fun x hx => b1 x (htm mi (by omega) x hx)))
        · have e2 := ((kn.2.2.2.2.2 (p + 2) (by omega) (fun q => by unfold RC4 at q; omega)).2 k).1
          show _ = (match Tu (tmet (zT r.1) X.2.1 r.2) k with
            | none => NN
            | some q => nI q)
          have et : Tu (tmet (zT r.1) X.2.1 r.2) k = Tu (zT X.1) k := congrFun tf.2.2 k
          rw [et]
          exact e2.trans (hab k hk)
        · have hm : mi < X.2.1 + 1 := hm
          have hx : x ∈ Tm (tmet (zT r.1) X.2.1 r.2) mi := hx
          show x < zn r.1
          by_cases em : mi = X.2.1
          · subst em
            rw [show Tm (tmet (zT r.1) X.2.1 r.2) X.2.1 = r.2 from if_pos rfl] at hx
            exact (q2 x hx).2
          · rw [show Tm (tmet (zT r.1) X.2.1 r.2) mi = Tm (zT X.1) mi from (if_neg em).trans (congrFun tf.2.1 mi)] at hx
            have := htm mi (by omega) x hx
            omega
    · rw [if_pos (by omega)] at hQ
      have := w_flt (g := g) hQ rfl kq (by omega) (by omega)
      have c8' : 8 ≤ X.2.1 := by omega
      simp (disch := first | omega | exact cI _ | exact cR _ | exact cK | exact cU | exact cO _ | exact cL _) only [oS, uS.2, Nat.reduceAdd, Nat.reduceSub, Nat.reduceMul, Nat.reduceLeDiff, Nat.reduceEqDiff, Nat.add_sub_cancel, xS, gS, nL, nS, dS, fX2_method_0, fX2_method_26, fX2_method_27, mX2_method, zX2_method, hg, hl, ha, h12, cw, n1, r0, c8, x5, hPR, this]
  · rw [if_neg cW] at hQ
    simp only [if_neg cW] at cw
    have := w_flt (g := g) hQ rfl kq (by omega) (by omega)
    simp (disch := first | omega | exact cI _ | exact cR _ | exact cK | exact cU | exact cO _ | exact cL _) only [oS, uS.2, Nat.reduceAdd, Nat.reduceSub, Nat.reduceMul, Nat.reduceLeDiff, Nat.reduceEqDiff, Nat.add_sub_cancel, xS, gS, nL, nS, dS, fX2_method_0, mX2_method, zX2_method, hg, cw, n0, this]
end MTH
