set_option maxRecDepth 100000
/-! what a stretch of work keeps: cells outside P as they were; c new ones at most, u slots -/
def KQ (P : Nat → Prop) (c u : Nat) (G G' : XG) : Prop := Gsv G' = Gsv G ∧ Gtp G ≤ Gtp G' ∧ Gtp G' ≤ Gtp G + c ∧ Gus G' ≤ Gus G + u ∧ (∀ a, a < Gtp G → Gkd G' a = Gkd G a ∧ Gln G' a = Gln G a) ∧ (∀ a, a < Gtp G → ¬ P a → (∀ f, Gfi G' f a = Gfi G f a ∧ Gfr G' f a = Gfr G f a) ∧ (∀ i, Gai G' a i = Gai G a i ∧ Gar G' a i = Gar G a i ∧ Gal G' a i = Gal G a i))
theorem KQ.refl {P : Nat → Prop} {G : XG} : KQ P 0 0 G G := ⟨rfl, Nat.le_refl _, Nat.le_refl _, Nat.le_refl _, fun _ _ => ⟨rfl, rfl⟩, fun _ _ _ => ⟨fun _ => ⟨rfl, rfl⟩, fun _ => ⟨rfl, rfl, rfl⟩⟩⟩
theorem KQ.trans {P : Nat → Prop} {c u c' u' : Nat} {G G' G'' : XG} (h : KQ P c u G G') (k : KQ P c' u' G' G'') : KQ P (c + c') (u + u') G G'' := by
  obtain ⟨h1, h2, h3, h4, h5, h6⟩ := h
  obtain ⟨k1, k2, k3, k4, k5, k6⟩ := k
  refine ⟨k1.trans h1, by omega, by omega, by omega, fun a ha => ?_, fun a ha hp => ?_⟩
  · obtain ⟨x1, x2⟩ := h5 a ha
    obtain ⟨y1, y2⟩ := k5 a (by omega)
    exact ⟨y1.trans x1, y2.trans x2⟩
  · obtain ⟨x1, x2⟩ := h6 a ha hp
    obtain ⟨y1, y2⟩ := k6 a (by omega) hp
    exact ⟨fun f => ⟨(y1 f).1.trans (x1 f).1, (y1 f).2.trans (x1 f).2⟩, fun i => ⟨(y2 i).1.trans (x2 i).1, (y2 i).2.1.trans (x2 i).2.1, (y2 i).2.2.trans (x2 i).2.2⟩⟩
theorem KQ.mono {P P' : Nat → Prop} {c u c' u' : Nat} {G G' : XG} (h : KQ P c u G G') (hp : ∀ a, P a → P' a) (hc : c ≤ c') (hu : u ≤ u') : KQ P' c' u' G G' := by
  obtain ⟨h1, h2, h3, h4, h5, h6⟩ := h
  exact ⟨h1, h2, by omega, by omega, h5, fun a ha hn => h6 a ha (fun q => hn (hp a q))⟩
theorem KQ.fi {P : Nat → Prop} {G : XG} {f a : Nat} {v : Int32} (h : P a) : KQ P 0 0 G (Sfi G f a v) := ⟨rfl, Nat.le_refl _, Nat.le_refl _, Nat.le_refl _, fun _ _ => ⟨rfl, rfl⟩, fun b _ hb => ⟨fun g => ⟨if_neg (fun q : g = f ∧ b = a => hb (q.2 ▸ h)), rfl⟩, fun _ => ⟨rfl, rfl, rfl⟩⟩⟩
theorem KQ.fr {P : Nat → Prop} {G : XG} {f a : Nat} {v : Option Nat} (h : P a) : KQ P 0 0 G (Sfr G f a v) := ⟨rfl, Nat.le_refl _, Nat.le_refl _, Nat.le_refl _, fun _ _ => ⟨rfl, rfl⟩, fun b _ hb => ⟨fun g => ⟨rfl, if_neg (fun q : g = f ∧ b = a => hb (q.2 ▸ h))⟩, fun _ => ⟨rfl, rfl, rfl⟩⟩⟩
theorem KQ.ai {P : Nat → Prop} {G : XG} {a i : Nat} {v : Int32} (h : P a) : KQ P 0 0 G (Sai G a i v) := ⟨rfl, Nat.le_refl _, Nat.le_refl _, Nat.le_refl _, fun _ _ => ⟨rfl, rfl⟩, fun b _ hb => ⟨fun g => ⟨rfl, rfl⟩, fun k => ⟨if_neg (fun q : b = a ∧ k = i => hb (q.1 ▸ h)), rfl, rfl⟩⟩⟩
theorem KQ.ar {P : Nat → Prop} {G : XG} {a i : Nat} {v : Option Nat} (h : P a) : KQ P 0 0 G (Sar G a i v) := ⟨rfl, Nat.le_refl _, Nat.le_refl _, Nat.le_refl _, fun _ _ => ⟨rfl, rfl⟩, fun b _ hb => ⟨fun g => ⟨rfl, rfl⟩, fun k => ⟨rfl, if_neg (fun q : b = a ∧ k = i => hb (q.1 ▸ h)), rfl⟩⟩⟩
theorem KQ.no {P : Nat → Prop} {G : XG} {c n : Nat} : KQ P 1 n G (Sno G c n) := by
  refine ⟨rfl, Nat.le_succ _, Nat.le_refl _, Nat.le_refl _, fun a ha => ⟨if_neg (by omega), rfl⟩, fun a ha _ => ⟨fun f => ⟨if_neg (by omega), if_neg (by omega)⟩, fun _ => ⟨rfl, rfl, rfl⟩⟩⟩
theorem KQ.na {P : Nat → Prop} {G : XG} {t n : Nat} : KQ P 1 n G (Sna G t n) := by
  refine ⟨rfl, Nat.le_succ _, Nat.le_refl _, Nat.le_refl _, fun a ha => ⟨if_neg (by omega), if_neg (by omega)⟩, fun a ha _ => ⟨fun f => ⟨rfl, rfl⟩, fun _ => ⟨if_neg (by omega), if_neg (by omega), if_neg (by omega)⟩⟩⟩
/-- cells that were not there may have changed: new ones drop out of P -/
theorem KQ.new {P : Nat → Prop} {c u : Nat} {G G' : XG} (h : KQ (fun a => P a ∨ Gtp G ≤ a) c u G G') : KQ P c u G G' := by
  obtain ⟨h1, h2, h3, h4, h5, h6⟩ := h
  exact ⟨h1, h2, h3, h4, h5, fun a ha hn => h6 a ha (fun q => q.elim hn (fun q => by omega))⟩
/-! statics at hand -/
def SV (G : XG) (g : Nat → Option Nat) : Prop := ∀ i, 1 ≤ i → i ≤ 12 → Gsv G i = va_rf (g i)
theorem SV.kq {P : Nat → Prop} {c u : Nat} {G G' : XG} {g : Nat → Option Nat} (h : SV G g) (k : KQ P c u G G') : SV G' g := by
  intro i h1 h2
  rw [k.1]
  exact h i h1 h2
/-- something thrown is made: its fields -/
def fR (g : Nat → Option Nat) (G : XG) (z i : Nat) : XG := Sfr (Sfr (Sfr (Sfr (Sfr (Sfr (Sfr G 1048 z (some z)) 1049 z (g 1)) 1050 z (g 2)) 1049 z none) 1051 z (g i)) 1048 z none) 1050 z none
/-- a fault -/
def fG (g : Nat → Option Nat) (G : XG) (k p : Nat) : XG := Sfi (Sfi (fR g (Sno G 10 8) (Gtp G) 10) 74 (Gtp G) (nI k)) 75 (Gtp G) (nI p)
theorem fR_kq {g : Nat → Option Nat} {P : Nat → Prop} {G : XG} {z i : Nat} (h : P z) : KQ P 0 0 G (fR g G z i) := by
  unfold fR
  exact ((((((KQ.fr h).trans (KQ.fr h)).trans (KQ.fr h)).trans (KQ.fr h)).trans (KQ.fr h)).trans (KQ.fr h)).trans (KQ.fr h)
theorem fG_kq {g : Nat → Option Nat} {P : Nat → Prop} {G : XG} {k p : Nat} : KQ P 1 8 G (fG g G k p) := by
  refine KQ.new ?_
  have hz : P (Gtp G) ∨ Gtp G ≤ Gtp G := .inr (Nat.le_refl _)
  exact ((KQ.no.trans (fR_kq hz)).trans (KQ.fi hz)).trans (KQ.fi hz)
/-- a fault is there -/
def FT (G : XG) (z k p : Nat) : Prop := Gkd G z = 11 ∧ Gfi G 74 z = nI k ∧ Gfi G 75 z = nI p
theorem fG_ft {g : Nat → Option Nat} {G : XG} {k p : Nat} : FT (fG g G k p) (Gtp G) k p := by
  unfold FT fG fR
  refine ⟨?_, ?_, ?_⟩
  · simp (disch := first | omega | exact cI _ | exact cR _ | exact cK | exact cU | exact cO _ | exact cL _) only [uS, Nat.reduceAdd, Nat.reduceSub, Nat.reduceMul, Nat.reduceLeDiff, Nat.reduceEqDiff, Nat.add_sub_cancel, gS, nL, nS, dS, h_SnoGtp]
  · simp (disch := first | omega | exact cI _ | exact cR _ | exact cK | exact cU | exact cO _ | exact cL _) only [uS, Nat.reduceAdd, Nat.reduceSub, Nat.reduceMul, Nat.reduceLeDiff, Nat.reduceEqDiff, Nat.add_sub_cancel, gS, nL, nS, dS, h_SnoGtp]
  · simp (disch := first | omega | exact cI _ | exact cR _ | exact cK | exact cU | exact cO _ | exact cL _) only [uS, Nat.reduceAdd, Nat.reduceSub, Nat.reduceMul, Nat.reduceLeDiff, Nat.reduceEqDiff, Nat.add_sub_cancel, gS, nL, nS, dS, h_SnoGtp]
/-! the reader R on the scanner S, its program p; tokens t up to J; at the j-th -/
def RD (G : XG) (S R p : Nat) : Prop := SL G S ∧ Gkd G R = 3 ∧ Gfr G 1014 R = some S ∧ Gfr G 1015 R = some p ∧ Gfr G 1017 R = some (R + 1) ∧ Gkd G (R + 1) = 104 ∧ Gln G (R + 1) = 80 ∧ Gfr G 1018 R = some (R + 2) ∧ Gkd G (R + 2) = 100 ∧ Gln G (R + 2) = 80 ∧ Gfr G 1019 R = some (R + 3) ∧ Gkd G (R + 3) = 100 ∧ Gln G (R + 3) = 80 ∧ S + 5 ≤ R ∧ R + 4 ≤ Gtp G
def TK (G : XG) (S : Nat) (t : Tks) (J : Nat) : Prop := J ≤ 1000 ∧ zK t J = 0 ∧ ∀ i, i ≤ J → Gai G (S + 2) i = nI (zK t i) ∧ Gai G (S + 3) i = nI (zP t i) ∧ (zK t i ≠ 1 → Gai G (S + 4) i = nI (zV t i)) ∧ zK t i < 256 ∧ zP t i < 2000 ∧ zV t i < 10000000
def RE (G : XG) (S R p : Nat) (t : Tks) (J : Nat) (g : Nat → Option Nat) (j : Nat) : Prop := RD G S R p ∧ TK G S t J ∧ SV G g ∧ Gfi G 5 R = nI j ∧ j ≤ J
theorem RE.at {G : XG} {S R p : Nat} {t : Tks} {J : Nat} {g : Nat → Option Nat} {j j' : Nat} (h : RE G S R p t J g j) (hj : j' ≤ J) : RE (Sfi G 5 R (nI j')) S R p t J g j' := ⟨h.1, h.2.1, h.2.2.1, if_pos ⟨rfl, rfl⟩, hj⟩
theorem RE.f {G : XG} {S R p : Nat} {t : Tks} {J : Nat} {g : Nat → Option Nat} {j f a : Nat} {v : Int32} (h : RE G S R p t J g j) (hf : f ≠ 5) : RE (Sfi G f a v) S R p t J g j := ⟨h.1, h.2.1, h.2.2.1, (if_neg (fun q : 5 = f ∧ R = a => hf q.1.symm)).trans h.2.2.2.1, h.2.2.2.2⟩
theorem RE.nx {G : XG} {S R p : Nat} {t : Tks} {J : Nat} {g : Nat → Option Nat} {j : Nat} (h : RE G S R p t J g j) (hk : zK t j ≠ 0) : j + 1 ≤ J := by
  have h1 := h.2.1.2.1
  have h2 := h.2.2.2.2
  by_cases e : j = J
  · subst e; exact absurd h1 hk
  · omega
theorem SL.kq {P : Nat → Prop} {c u : Nat} {G G' : XG} {S : Nat} (h : SL G S) (k : KQ P c u G G') (hS : S + 5 ≤ Gtp G) (hp : ∀ a, S ≤ a → a < S + 5 → ¬ P a) : SL G' S := by
  obtain ⟨-, -, -, -, k5, k6⟩ := k
  have f := fun f => ((k6 S (by omega) (hp S (by omega) (by omega))).1 f).2
  unfold SL at *
  rw [(k5 S (by omega)).1, (k5 (S + 1) (by omega)).1, (k5 (S + 2) (by omega)).1, (k5 (S + 3) (by omega)).1, (k5 (S + 4) (by omega)).1, (k5 (S + 1) (by omega)).2, (k5 (S + 2) (by omega)).2, (k5 (S + 3) (by omega)).2, (k5 (S + 4) (by omega)).2, f, f, f, f]
  exact h
theorem RE.kq {P : Nat → Prop} {c u : Nat} {G G' : XG} {S R p : Nat} {t : Tks} {J : Nat} {g : Nat → Option Nat} {j : Nat} (h : RE G S R p t J g j) (k : KQ P c u G G') (hp : ∀ a, a < R + 4 → (S ≤ a ∧ a < S + 5) ∨ R ≤ a → ¬ P a) : RE G' S R p t J g j := by
  obtain ⟨h1, ⟨h2, h3, h4⟩, h5, h6, h7⟩ := h
  have e1 : S + 5 ≤ R ∧ R + 4 ≤ Gtp G := h1.2.2.2.2.2.2.2.2.2.2.2.2.2
  obtain ⟨e1, e2⟩ := e1
  have k' := k
  obtain ⟨-, k2, -, -, k5, k6⟩ := k
  have f := (k6 R (by omega) (hp R (by omega) (.inr (by omega)))).1
  refine ⟨?_, ⟨h2, h3, fun i hi => ?_⟩, h5.kq k', (f 5).1.trans h6, h7⟩
  · obtain ⟨q, h1⟩ := h1
    refine ⟨q.kq k' (by omega) (fun a h1 h2 => hp a (by omega) (.inl ⟨h1, h2⟩)), ?_⟩
    rw [(k5 R (by omega)).1, (k5 (R + 1) (by omega)).1, (k5 (R + 2) (by omega)).1, (k5 (R + 3) (by omega)).1, (k5 (R + 1) (by omega)).2, (k5 (R + 2) (by omega)).2, (k5 (R + 3) (by omega)).2, (f _).2, (f _).2, (f _).2, (f _).2, (f _).2]
    obtain ⟨a1, a2, a3, a4, a5, a6, a7, a8, a9, a10, a11, a12, a13, a14⟩ := h1
    exact ⟨a1, a2, a3, a4, a5, a6, a7, a8, a9, a10, a11, a12, a13, by omega⟩
  · have g2 := (k6 (S + 2) (by omega) (hp (S + 2) (by omega) (.inl ⟨by omega, by omega⟩))).2 i
    have g3 := (k6 (S + 3) (by omega) (hp (S + 3) (by omega) (.inl ⟨by omega, by omega⟩))).2 i
    have g4 := (k6 (S + 4) (by omega) (hp (S + 4) (by omega) (.inl ⟨by omega, by omega⟩))).2 i
    rw [g2.1, g3.1, g4.1]
    exact h4 i hi
section RDR
variable {d S R p : Nat} {t : Tks} {j J : Nat} {g : Nat → Option Nat} {G : XG} {Q : (Option Value ⊕ Nat) → XG → Prop}
theorem c_thr {z i : Nat} {o : Option Nat} (hk : Gkd G z = 7 ∨ Gkd G z = 8 ∨ Gkd G z = 11) (hv : SV G g) (ho : o = g i) : XC xms (d + 1 + 1) 292 [.ref z, va_rf o, .null, .int (nI 0), .int (nI 0)] G Q = Q (.inl none) (fR g G z i) := by
  have v1 := hv 1 (by omega) (by omega)
  have v2 := hv 2 (by omega) (by omega)
  subst ho
  unfold fR
  rw [XC_s]
  rcases hk with hk | hk | hk
  · simp (disch := first | omega | exact cI _ | exact cR _ | exact cK | exact cU | exact cO _ | exact cL _) only [oS, uS.2, Nat.reduceAdd, Nat.reduceSub, Nat.reduceMul, Nat.reduceLeDiff, Nat.reduceEqDiff, Nat.add_sub_cancel, xS, gS, nL, nS, dS, FJ1_init, mJ1_init, zJ1_init, FJ0_init_2, mJ0_init_2, zJ0_init_2, XC_s (k := 291), hk, v1, v2, va_rf_cat]
  · simp (disch := first | omega | exact cI _ | exact cR _ | exact cK | exact cU | exact cO _ | exact cL _) only [oS, uS.2, Nat.reduceAdd, Nat.reduceSub, Nat.reduceMul, Nat.reduceLeDiff, Nat.reduceEqDiff, Nat.add_sub_cancel, xS, gS, nL, nS, dS, FJ1_init, mJ1_init, zJ1_init, FJ0_init_2, mJ0_init_2, zJ0_init_2, XC_s (k := 291), hk, v1, v2, va_rf_cat]
  · simp (disch := first | omega | exact cI _ | exact cR _ | exact cK | exact cU | exact cO _ | exact cL _) only [oS, uS.2, Nat.reduceAdd, Nat.reduceSub, Nat.reduceMul, Nat.reduceLeDiff, Nat.reduceEqDiff, Nat.add_sub_cancel, xS, gS, nL, nS, dS, FJ1_init, mJ1_init, zJ1_init, FJ0_init_2, mJ0_init_2, zJ0_init_2, XC_s (k := 291), hk, v1, v2, va_rf_cat]
theorem c_fault {z k p : Nat} (hk : Gkd G z = 11) (hv : SV G g) : XC xms (d + 1 + 1 + 1) 201 [.ref z, .int (nI k), .int (nI p)] G Q = Q (.inl none) (Sfi (Sfi (fR g G z 10) 74 z (nI k)) 75 z (nI p)) := by
  have v := hv 10 (by omega) (by omega)
  have c := fun Q => c_thr (d := d) (Q := Q) (i := 10) (.inr (.inr hk)) hv rfl
  have hk' : Gkd (fR g G z 10) z = 11 := hk
  rw [XC_s]
  simp (disch := first | omega | exact cI _ | exact cR _ | exact cK | exact cU | exact cO _ | exact cL _) only [oS, uS.2, Nat.reduceAdd, Nat.reduceSub, Nat.reduceMul, Nat.reduceLeDiff, Nat.reduceEqDiff, Nat.add_sub_cancel, xS, gS, nL, nS, dS, FX10_init, mX10_init, zX10_init, hk, hk', v, c, va_rf_cat]
theorem c_kind (h : RE G S R p t J g j) : XC xms (d + 1) 42 [.ref R] G Q = Q (.inl (some (.int (nI (zK t j))))) G := by
  obtain ⟨hl, ht, -, ha, hj⟩ := h
  obtain ⟨h1, -, h2⟩ := ht
  obtain ⟨k1, k2, k3, k4, k5, k6⟩ := h2 j hj
  unfold RD SL at hl
  rw [XC_s]
  simp (disch := first | omega | exact cI _ | exact cR _ | exact cK | exact cU | exact cO _ | exact cL _) only [oS, uS.2, Nat.reduceAdd, Nat.reduceSub, Nat.reduceMul, Nat.reduceLeDiff, Nat.reduceEqDiff, Nat.add_sub_cancel, xS, gS, nL, nS, dS, FX2_kind, mX2_kind, zX2_kind, hl, ha, k1]
theorem c_place (h : RE G S R p t J g j) : XC xms (d + 1) 44 [.ref R] G Q = Q (.inl (some (.int (nI (zP t j))))) G := by
  obtain ⟨hl, ht, -, ha, hj⟩ := h
  obtain ⟨h1, -, h2⟩ := ht
  obtain ⟨k1, k2, k3, k4, k5, k6⟩ := h2 j hj
  unfold RD SL at hl
  rw [XC_s]
  simp (disch := first | omega | exact cI _ | exact cR _ | exact cK | exact cU | exact cO _ | exact cL _) only [oS, uS.2, Nat.reduceAdd, Nat.reduceSub, Nat.reduceMul, Nat.reduceLeDiff, Nat.reduceEqDiff, Nat.add_sub_cancel, xS, gS, nL, nS, dS, FX2_place, mX2_place, zX2_place, hl, ha, k2]
theorem c_isWord {w : Nat} (h : RE G S R p t J g j) (hw : w < 100) : XC xms (d + 1 + 1) 41 [.ref R, .int (nI w)] G Q = Q (.inl (some (.int (if zK t j = 2 ∧ zV t j = w then nI 1 else nI 0)))) G := by
  have ck := fun Q => c_kind (d := d) (Q := Q) h
  obtain ⟨hl, ht, -, ha, hj⟩ := h
  obtain ⟨h1, -, h2⟩ := ht
  obtain ⟨k1, k2, k3, k4, k5, k6⟩ := h2 j hj
  unfold RD SL at hl
  rw [XC_s]
  by_cases c1 : zK t j = 2
  · have k3 := k3 (by omega)
    by_cases c2 : zV t j = w
    · simp (disch := first | omega | exact cI _ | exact cR _ | exact cK | exact cU | exact cO _ | exact cL _) only [oS, uS.2, Nat.reduceAdd, Nat.reduceSub, Nat.reduceMul, Nat.reduceLeDiff, Nat.reduceEqDiff, Nat.add_sub_cancel, xS, gS, nL, nS, dS, FX2_isWord, mX2_isWord, zX2_isWord, hl, ha, k3, ck, c1, c2]
    · simp (disch := first | omega | exact cI _ | exact cR _ | exact cK | exact cU | exact cO _ | exact cL _) only [oS, uS.2, Nat.reduceAdd, Nat.reduceSub, Nat.reduceMul, Nat.reduceLeDiff, Nat.reduceEqDiff, Nat.add_sub_cancel, xS, gS, nL, nS, dS, FX2_isWord, mX2_isWord, zX2_isWord, hl, ha, k3, ck, c1, c2]
  · simp (disch := first | omega | exact cI _ | exact cR _ | exact cK | exact cU | exact cO _ | exact cL _) only [oS, uS.2, Nat.reduceAdd, Nat.reduceSub, Nat.reduceMul, Nat.reduceLeDiff, Nat.reduceEqDiff, Nat.add_sub_cancel, xS, gS, nL, nS, dS, FX2_isWord, mX2_isWord, zX2_isWord, hl, ha, ck, c1]
theorem c_need1 (h : RE G S R p t J g j) : XC xms (d + 1) 46 [.ref R, .int (nI 1)] G Q = Q (.inl none) G := by
  rw [XC_s]
  simp (disch := first | omega | exact cI _ | exact cR _ | exact cK | exact cU | exact cO _ | exact cL _) only [oS, uS.2, Nat.reduceAdd, Nat.reduceSub, Nat.reduceMul, Nat.reduceLeDiff, Nat.reduceEqDiff, Nat.add_sub_cancel, xS, gS, nL, nS, dS, FX2_need, mX2_need, zX2_need, h.1.2.1]
theorem c_need0 (h : RE G S R p t J g j) : XC xms (d + 1 + 1 + 1 + 1) 46 [.ref R, .int (nI 0)] G Q = Q (.inr (Gtp G)) (fG g G 1 (zP t j)) := by
  have h' : RE (Sno G 10 8) S R p t J g j := h.kq (P := fun _ => False) KQ.no (fun _ _ _ q => q)
  have cp := fun Q => c_place (d := d + 1 + 1) (Q := Q) h'
  have kz : Gkd (Sno G 10 8) (Gtp G) = 11 := if_pos rfl
  have kf : Gkd (fG g G 1 (zP t j)) (Gtp G) = 11 := fG_ft.1
  unfold fG at kf ⊢
  have cf := fun Q => c_fault (d := d) (k := 1) (p := zP t j) (Q := Q) kz h'.2.2.1
  have hR := h'.1.2.1
  rw [XC_s]
  simp (disch := first | omega | exact cI _ | exact cR _ | exact cK | exact cU | exact cO _ | exact cL _) only [oS, uS.2, Nat.reduceAdd, Nat.reduceSub, Nat.reduceMul, Nat.reduceLeDiff, Nat.reduceEqDiff, Nat.add_sub_cancel, xS, gS, nL, nS, dS, FX2_need, mX2_need, zX2_need, h.1.2.1, hR, cp, cf, kf, kz, show xthk 11 = true from rfl]
theorem c_room1 (h : RE G S R p t J g j) : XC xms (d + 1) 43 [.ref R, .int (nI 1)] G Q = Q (.inl none) G := by
  rw [XC_s]
  simp (disch := first | omega | exact cI _ | exact cR _ | exact cK | exact cU | exact cO _ | exact cL _) only [oS, uS.2, Nat.reduceAdd, Nat.reduceSub, Nat.reduceMul, Nat.reduceLeDiff, Nat.reduceEqDiff, Nat.add_sub_cancel, xS, gS, nL, nS, dS, FX2_room, mX2_room, zX2_room, h.1.2.1]
theorem c_room0 (h : RE G S R p t J g j) : XC xms (d + 1 + 1 + 1 + 1) 43 [.ref R, .int (nI 0)] G Q = Q (.inr (Gtp G)) (fG g G 2 (zP t j)) := by
  have h' : RE (Sno G 10 8) S R p t J g j := h.kq (P := fun _ => False) KQ.no (fun _ _ _ q => q)
  have cp := fun Q => c_place (d := d + 1 + 1) (Q := Q) h'
  have kz : Gkd (Sno G 10 8) (Gtp G) = 11 := if_pos rfl
  have kf : Gkd (fG g G 2 (zP t j)) (Gtp G) = 11 := fG_ft.1
  unfold fG at kf ⊢
  have cf := fun Q => c_fault (d := d) (k := 2) (p := zP t j) (Q := Q) kz h'.2.2.1
  have hR := h'.1.2.1
  rw [XC_s]
  simp (disch := first | omega | exact cI _ | exact cR _ | exact cK | exact cU | exact cO _ | exact cL _) only [oS, uS.2, Nat.reduceAdd, Nat.reduceSub, Nat.reduceMul, Nat.reduceLeDiff, Nat.reduceEqDiff, Nat.add_sub_cancel, xS, gS, nL, nS, dS, FX2_room, mX2_room, zX2_room, h.1.2.1, hR, cp, cf, kf, kz, show xthk 11 = true from rfl]
/-- what follows when a token fits, or not -/
def qN (Q : (Option Value ⊕ Nat) → XG → Prop) (g : Nat → Option Nat) (G : XG) (c : Prop) (k pl : Nat) (X : Prop) : Prop := (c ∧ X) ∨ (¬ c ∧ Q (.inr (Gtp G)) (fG g G k pl))
theorem qN_1 {c : Prop} {k pl : Nat} {X : Prop} (h : c) : qN Q g G c k pl X = X := propext ⟨fun q => q.elim (fun q => q.2) (fun q => absurd h q.1), fun q => .inl ⟨h, q⟩⟩
theorem qN_0 {c : Prop} {k pl : Nat} {X : Prop} (h : ¬ c) : qN Q g G c k pl X = Q (.inr (Gtp G)) (fG g G k pl) := propext ⟨fun q => q.elim (fun q => absurd q.1 h) (fun q => q.2), fun q => .inr ⟨h, q⟩⟩
theorem c_take {k : Nat} (h : RE G S R p t J g j) (hk : 1 < k) (hk2 : k < 256) : XC xms (d + 1 + 1 + 1 + 1 + 1) 48 [.ref R, .int (nI k)] G Q = qN Q g G (zK t j = k) 1 (zP t j) (Q (.inl (some (.int (nI (zV t j))))) (Sfi G 5 R (nI (j + 1)))) := by
  have ck := fun Q => c_kind (d := d + 1 + 1 + 1) (Q := Q) h
  have c1 := fun Q => c_need1 (d := d + 1 + 1 + 1) (Q := Q) h
  have c0 := fun Q => c_need0 (d := d) (Q := Q) h
  have h' := h
  obtain ⟨hl, ht, -, ha, hj⟩ := h'
  obtain ⟨h1, -, h2⟩ := ht
  obtain ⟨k1, k2, k3, k4, k5, k6⟩ := h2 j hj
  unfold RD SL at hl
  rw [XC_s]
  by_cases c : zK t j = k
  · rw [qN_1 c]
    have k3 := k3 (by omega)
    simp (disch := first | omega | exact cI _ | exact cR _ | exact cK | exact cU | exact cO _ | exact cL _) only [oS, uS.2, Nat.reduceAdd, Nat.reduceSub, Nat.reduceMul, Nat.reduceLeDiff, Nat.reduceEqDiff, Nat.add_sub_cancel, xS, gS, nL, nS, dS, FX2_take, mX2_take, zX2_take, hl, ha, k3, ck, c1, c]
  · rw [qN_0 c]
    simp (disch := first | omega | exact cI _ | exact cR _ | exact cK | exact cU | exact cO _ | exact cL _) only [oS, uS.2, Nat.reduceAdd, Nat.reduceSub, Nat.reduceMul, Nat.reduceLeDiff, Nat.reduceEqDiff, Nat.add_sub_cancel, xS, gS, nL, nS, dS, FX2_take, mX2_take, zX2_take, hl.2.1, ha, ck, c0, c]
theorem c_name {k m : Nat} (h : RE G S R p t J g j) (hk : 1 < k) (hk2 : k < 256) (hm : m < 256) : XC xms (d + 1 + 1 + 1 + 1 + 1 + 1) 55 [.ref R, .int (nI k), .int (nI m)] G Q = qN Q g G (zK t j = k) 1 (zP t j) (qN Q g G (zV t j < m) 2 (zP t j) (Q (.inl (some (.int (nI (zV t j))))) (Sfi G 5 R (nI (j + 1))))) := by
  have ck := fun Q => c_kind (d := d + 1 + 1 + 1 + 1) (Q := Q) h
  have c1 := fun Q => c_need1 (d := d + 1 + 1 + 1 + 1) (Q := Q) h
  have c0 := fun Q => c_need0 (d := d + 1) (Q := Q) h
  have r1 := fun Q => c_room1 (d := d + 1 + 1 + 1 + 1) (Q := Q) h
  have r0 := fun Q => c_room0 (d := d + 1) (Q := Q) h
  have ctk := fun Q => c_take (d := d) (Q := Q) h hk hk2
  have h' := h
  obtain ⟨hl, ht, -, ha, hj⟩ := h'
  obtain ⟨h1, -, h2⟩ := ht
  obtain ⟨k1, k2, k3, k4, k5, k6⟩ := h2 j hj
  unfold RD SL at hl
  rw [XC_s]
  by_cases c : zK t j = k
  · simp only [qN_1 c] at ctk
    rw [qN_1 c]
    have k3 := k3 (by omega)
    by_cases e : zV t j < m
    · rw [qN_1 e]
      simp (disch := first | omega | exact cI _ | exact cR _ | exact cK | exact cU | exact cO _ | exact cL _) only [oS, uS.2, Nat.reduceAdd, Nat.reduceSub, Nat.reduceMul, Nat.reduceLeDiff, Nat.reduceEqDiff, Nat.add_sub_cancel, xS, gS, nL, nS, dS, FX2_name, mX2_name, zX2_name, hl, ha, k3, ck, c1, r1, ctk, c, e]
    · rw [qN_0 e]
      simp (disch := first | omega | exact cI _ | exact cR _ | exact cK | exact cU | exact cO _ | exact cL _) only [oS, uS.2, Nat.reduceAdd, Nat.reduceSub, Nat.reduceMul, Nat.reduceLeDiff, Nat.reduceEqDiff, Nat.add_sub_cancel, xS, gS, nL, nS, dS, FX2_name, mX2_name, zX2_name, hl, ha, k3, ck, c1, r0, c, e]
  · rw [qN_0 c]
    simp (disch := first | omega | exact cI _ | exact cR _ | exact cK | exact cU | exact cO _ | exact cL _) only [oS, uS.2, Nat.reduceAdd, Nat.reduceSub, Nat.reduceMul, Nat.reduceLeDiff, Nat.reduceEqDiff, Nat.add_sub_cancel, xS, gS, nL, nS, dS, FX2_name, mX2_name, zX2_name, hl.2.1, ha, ck, c0, c]
theorem c_word' {w : Nat} (h : RE G S R p t J g j) (hw : w < 100) : XC xms (d + 1 + 1 + 1 + 1 + 1) 45 [.ref R, .int (nI w)] G Q = qN Q g G (zK t j = 2 ∧ zV t j = w) 1 (zP t j) (Q (.inl none) (Sfi G 5 R (nI (j + 1)))) := by
  have ck := fun Q => c_isWord (d := d + 1 + 1) (Q := Q) h hw
  have c1 := fun Q => c_need1 (d := d + 1 + 1 + 1) (Q := Q) h
  have c0 := fun Q => c_need0 (d := d) (Q := Q) h
  have hl := h.1.2.1
  have ha := h.2.2.2.1
  have hj := h.2.2.2.2
  have hJ := h.2.1.1
  rw [XC_s]
  by_cases c : zK t j = 2 ∧ zV t j = w
  · rw [qN_1 c]
    simp (disch := first | omega | exact cI _ | exact cR _ | exact cK | exact cU | exact cO _ | exact cL _) only [oS, uS.2, Nat.reduceAdd, Nat.reduceSub, Nat.reduceMul, Nat.reduceLeDiff, Nat.reduceEqDiff, Nat.add_sub_cancel, xS, gS, nL, nS, dS, FX2_word, mX2_word, zX2_word, hl, ha, ck, c1, c]
  · rw [qN_0 c]
    simp (disch := first | omega | exact cI _ | exact cR _ | exact cK | exact cU | exact cO _ | exact cL _) only [oS, uS.2, Nat.reduceAdd, Nat.reduceSub, Nat.reduceMul, Nat.reduceLeDiff, Nat.reduceEqDiff, Nat.add_sub_cancel, xS, gS, nL, nS, dS, FX2_word, mX2_word, zX2_word, hl, ha, ck, c0, c]
theorem c_has {w : Nat} (h : RE G S R p t J g j) (hw : w < 100) : XC xms (d + 1 + 1 + 1) 62 [.ref R, .int (nI w)] G Q = Q (.inl (some (.int (if zK t j = 2 ∧ zV t j = w then nI 1 else nI 0)))) (if zK t j = 2 ∧ zV t j = w then Sfi G 5 R (nI (j + 1)) else G) := by
  have ck := fun Q => c_isWord (d := d) (Q := Q) h hw
  have hl := h.1.2.1
  have ha := h.2.2.2.1
  have hj := h.2.2.2.2
  have hJ := h.2.1.1
  rw [XC_s]
  by_cases c : zK t j = 2 ∧ zV t j = w
  · simp (disch := first | omega | exact cI _ | exact cR _ | exact cK | exact cU | exact cO _ | exact cL _) only [oS, uS.2, Nat.reduceAdd, Nat.reduceSub, Nat.reduceMul, Nat.reduceLeDiff, Nat.reduceEqDiff, Nat.add_sub_cancel, xS, gS, nL, nS, dS, FX2_has, mX2_has, zX2_has, hl, ha, ck, c]
  · simp (disch := first | omega | exact cI _ | exact cR _ | exact cK | exact cU | exact cO _ | exact cL _) only [oS, uS.2, Nat.reduceAdd, Nat.reduceSub, Nat.reduceMul, Nat.reduceLeDiff, Nat.reduceEqDiff, Nat.add_sub_cancel, xS, gS, nL, nS, dS, FX2_has, mX2_has, zX2_has, hl, ha, ck, c]
    rw [Nat.add_zero, Sfi_i ha]
theorem c_enter {n : Nat} (h : RE G S R p t J g j) (hn : Gfi G 7 R = nI n) (hn2 : n ≤ 8) : XC xms (d + 1 + 1 + 1 + 1 + 1) 60 [.ref R] G Q = qN Q g G (n < 8) 2 (zP t j) (Q (.inl none) (Sfi (Sfi G 7 R (nI (n + 1))) 5 R (nI (j + 1)))) := by
  have c1 := fun Q => c_room1 (d := d + 1 + 1 + 1) (Q := Q) h
  have c0 := fun Q => c_room0 (d := d) (Q := Q) h
  have hl := h.1.2.1
  have ha := h.2.2.2.1
  have hj := h.2.2.2.2
  have hJ := h.2.1.1
  rw [XC_s]
  by_cases c : n < 8
  · rw [qN_1 c]
    simp (disch := first | omega | exact cI _ | exact cR _ | exact cK | exact cU | exact cO _ | exact cL _) only [oS, uS.2, Nat.reduceAdd, Nat.reduceSub, Nat.reduceMul, Nat.reduceLeDiff, Nat.reduceEqDiff, Nat.add_sub_cancel, xS, gS, nL, nS, dS, FX2_enter, mX2_enter, zX2_enter, hl, ha, hn, c1, c]
  · rw [qN_0 c]
    simp (disch := first | omega | exact cI _ | exact cR _ | exact cK | exact cU | exact cO _ | exact cL _) only [oS, uS.2, Nat.reduceAdd, Nat.reduceSub, Nat.reduceMul, Nat.reduceLeDiff, Nat.reduceEqDiff, Nat.add_sub_cancel, xS, gS, nL, nS, dS, FX2_enter, mX2_enter, zX2_enter, hl, ha, hn, c0, c]
/-- what there is not: its place; none yet is NN -/
def lkV (w : Option Nat) : Int32 := match w with
  | none => NN
  | some x => nI x
def lkN (w : Option Nat) (b : Prop) [Decidable b] (pl : Nat) : Option Nat := if b then (match w with
  | none => some pl
  | some x => some x) else w
theorem c_lacks {w : Option Nat} {b : Prop} [Decidable b] {pl : Nat} (hl : Gkd G R = 3) (hw : Gfi G 9 R = lkV w) (hx : ∀ x, w = some x → x < 2000) : XC xms (d + 1) 49 [.ref R, .int (if b then nI 1 else nI 0), .int (nI pl)] G Q = Q (.inl none) (Sfi G 9 R (lkV (lkN w b pl))) := by
  rw [XC_s]
  by_cases c : b
  · cases w with
    | none =>
      have hw : Gfi G 9 R = NN := hw
      simp only [lkN, lkV, c]
      simp (disch := first | omega | exact cI _ | exact cR _ | exact cK | exact cU | exact cO _ | exact cL _) only [oS, uS.2, Nat.reduceAdd, Nat.reduceSub, Nat.reduceMul, Nat.reduceLeDiff, Nat.reduceEqDiff, Nat.add_sub_cancel, xS, gS, nL, nS, dS, FX2_lacks, mX2_lacks, zX2_lacks, hl, hw]
    | some x =>
      have hx := hx x rfl
      have hw : Gfi G 9 R = nI x := hw
      simp only [lkN, lkV, c]
      simp (disch := first | omega | exact cI _ | exact cR _ | exact cK | exact cU | exact cO _ | exact cL _) only [oS, uS.2, Nat.reduceAdd, Nat.reduceSub, Nat.reduceMul, Nat.reduceLeDiff, Nat.reduceEqDiff, Nat.add_sub_cancel, xS, gS, nL, nS, dS, FX2_lacks, mX2_lacks, zX2_lacks, hl, hw]
  · simp only [lkN, c]
    simp (disch := first | omega | exact cI _ | exact cR _ | exact cK | exact cU | exact cO _ | exact cL _) only [oS, uS.2, Nat.reduceAdd, Nat.reduceSub, Nat.reduceMul, Nat.reduceLeDiff, Nat.reduceEqDiff, Nat.add_sub_cancel, xS, gS, nL, nS, dS, FX2_lacks, mX2_lacks, zX2_lacks, hl, hw]
end RDR
