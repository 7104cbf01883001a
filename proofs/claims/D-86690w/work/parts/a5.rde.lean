set_option maxRecDepth 100000
/-! A PROGRAM IS READ: the whole -/
def RDb (G : XG) (S R : Nat) : Prop := SL G S ∧ Gkd G R = 3 ∧ Gfr G 1014 R = some S ∧ Gfr G 1017 R = some (R + 1) ∧ Gkd G (R + 1) = 104 ∧ Gln G (R + 1) = 80 ∧ Gfr G 1018 R = some (R + 2) ∧ Gkd G (R + 2) = 100 ∧ Gln G (R + 2) = 80 ∧ Gfr G 1019 R = some (R + 3) ∧ Gkd G (R + 3) = 100 ∧ Gln G (R + 3) = 80 ∧ S + 5 ≤ R ∧ R + 4 ≤ Gtp G
def PGM (G : XG) (p : Nat) (A : Nat → Nat) (Z : Zp) : Prop := PR G p ∧ Gfi G 12 p = nI Z.2.1 ∧ Gfi G 13 p = nI Z.2.2 ∧ Gfi G 14 p = nI (zn Z.1) ∧ HN G p A (zh Z.1) ∧ SA G (p + 6) p A (zT Z.1) 0 (zn Z.1) ∧ MS G p A (zT Z.1) Z.2.1 ∧ AB G p (zT Z.1) Z.2.2
def rS (S R J : Nat) (G0 : XG) (Z : Zp) (o : Option Value ⊕ Nat) (G' : XG) : Prop := ∃ p A, o = .inl (some (.ref p)) ∧ Gtp G0 ≤ p ∧ PGM G' p A Z ∧ KQ (RC4 R) (20 * (J + 1) + 30) (1000 * (J + 1) + 1000) G0 G' ∧ RDb G' S R
abbrev HQ (S R J : Nat) (G0 : XG) (r : Ft ⊕ Zp) (Q : (Option Value ⊕ Nat) → XG → Prop) : Prop := HC (RC4 R) (20 * (J + 1) + 30) (1000 * (J + 1) + 1000) G0 (rS S R J G0) r Q
section RDF
variable {D S R p : Nat} {t : Tks} {j J f nk nm b : Nat} {g : Nat → Option Nat} {A : Nat → Nat} {c : Cx} {Z : Zs} {X : Zp} {G0 G G1 G2 : XG} {Q : (Option Value ⊕ Nat) → XG → Prop}
theorem RD.bb (h : RD G S R p) : RDb G S R := by
  obtain ⟨q, a1, a2, a3, a4, a5, a6, a7, a8, a9, a10, a11, a12, a13⟩ := h
  exact ⟨q, a1, a2, a4, a5, a6, a7, a8, a9, a10, a11, a12, a13⟩
theorem RDb.kf {cc u : Nat} (h : RDb G S R) (k : KQ (fun _ => False) cc u G G1) : RDb G1 S R := by
  obtain ⟨q, h1⟩ := h
  have e1 : S + 5 ≤ R ∧ R + 4 ≤ Gtp G := h1.2.2.2.2.2.2.2.2.2.2.2
  obtain ⟨e1, e2⟩ := e1
  refine ⟨q.kq k (by omega) (fun _ _ _ q => q), ?_⟩
  obtain ⟨-, k2, -, -, k5, k6⟩ := k
  have f := (k6 R (by omega) (fun q => q)).1
  rw [(k5 R (by omega)).1, (k5 (R + 1) (by omega)).1, (k5 (R + 2) (by omega)).1, (k5 (R + 3) (by omega)).1, (k5 (R + 1) (by omega)).2, (k5 (R + 2) (by omega)).2, (k5 (R + 3) (by omega)).2, (f _).2, (f _).2, (f _).2, (f _).2]
  obtain ⟨a1, a2, a4, a5, a6, a7, a8, a9, a10, a11, a12, a13, a14⟩ := h1
  exact ⟨a1, a2, a4, a5, a6, a7, a8, a9, a10, a11, a12, a13, by omega⟩
theorem TK.kf {cc u : Nat} (h : TK G S t J) (k : KQ (fun _ => False) cc u G G1) (hS : S + 5 ≤ Gtp G) : TK G1 S t J := by
  obtain ⟨h1, h2, h3⟩ := h
  refine ⟨h1, h2, fun i hi => ?_⟩
  rw [((k.2.2.2.2.2 (S + 2) (by omega) (fun q => q)).2 i).1, ((k.2.2.2.2.2 (S + 3) (by omega) (fun q => q)).2 i).1, ((k.2.2.2.2.2 (S + 4) (by omega) (fun q => q)).2 i).1]
  exact h3 i hi
theorem wN_nk {nk nk' : Nat} : ∀ l : List Ck, (∀ c, c ∈ l → c.1 = 0 ∨ c.1 = 4) → wN nk l = wN nk' l := by
  intro l
  induction l with
  | nil => intro _; rfl
  | cons c r ih =>
    intro h
    have h1 := h c (List.mem_cons_self ..)
    have ih := ih (fun x hx => h x (List.mem_cons_of_mem _ hx))
    unfold wN
    rw [ih]
    by_cases e : c.1 = 4
    · rw [if_pos (.inr e), if_pos (.inr e)]
    · rw [if_neg (by omega), if_neg (by omega)]
theorem RY.aim {a i : Nat} {v : Int32} (h : RY G R p nk nm A b c Z) (h1 : a ≠ R + 2) (h2 : a ≠ R + 3) (h3 : a ≠ p + 5) : RY (Sai G a i v) R p nk nm A b c Z := by
  obtain ⟨a1, a2, a3, a4, a5, a6, a7, a8, a9, a10, a11, a12, a13, a14⟩ := h
  exact ⟨a1, a2, a3, a4, a5, a6, a7, ⟨a8.1, fun j x hx => ⟨(if_neg (fun q => h1 q.1.symm)).trans (a8.2 j x hx).1, (if_neg (fun q => h2 q.1.symm)).trans (a8.2 j x hx).2.1, (a8.2 j x hx).2.2⟩⟩, a9, a10, a11, a12, ⟨a13.1, fun j x hx => ⟨(a13.2 j x hx).1, (if_neg (fun q => h3 q.1.symm)).trans (a13.2 j x hx).2⟩⟩, a14⟩
theorem RY.nkk {nk' : Nat} (h : RY G R p nk nm A b c Z) (hc : ∀ c, c ∈ zc Z → c.1 = 0 ∨ c.1 = 4) : RY (Sfi G 13 p (nI nk')) R p nk' nm A b c Z := by
  obtain ⟨a1, a2, a3, a4, a5, a6, a7, a8, a9, a10, a11, a12, a13, a14⟩ := h
  have fo : ∀ x a, x ≠ 13 → Gfi (Sfi G 13 p (nI nk')) x a = Gfi G x a := fun x a e => if_neg (fun q => e q.1)
  have hw := wN_nk (nk := nk) (nk' := nk') (zc Z) hc
  rw [hw] at a7 a14
  exact ⟨a1, a2, (fo 7 R (by decide)).trans a3, (fo 6 R (by decide)).trans a4, (fo 8 R (by decide)).trans a5, a6, (fo 9 R (by decide)).trans a7, ⟨(fo 11 R (by decide)).trans a8.1, a8.2⟩, (fo 10 R (by decide)).trans a9, (fo 12 p (by decide)).trans a10, if_pos ⟨rfl, rfl⟩, (fo 14 p (by decide)).trans a12, ⟨(fo 15 p (by decide)).trans a13.1, a13.2⟩, a14⟩
theorem okK.nx (ht : tV t) (hX : okK t X) (c16 : ¬ 16 ≤ X.2.2) : okK t (zaT (zac (zaj X.1 (zj X.1 + 4)) (if zV t (zj X.1 + 2) < X.2.2 then 0 else 4, zP t (zj X.1 + 2), zV t (zj X.1 + 2))) (tabv (zT X.1) X.2.2 (some (min (zV t (zj X.1 + 2)) (X.2.2 - 1)))), X.2.1, X.2.2 + 1) := by
  obtain ⟨x0, x0a, x1, x2, x3, x4, x5, x6, x7, x8, x9⟩ := hX
  have u1 : ∀ k, k ≠ X.2.2 → ∀ o, Tu (tabv (zT X.1) X.2.2 o) k = Tu (zT X.1) k := fun k hk o => if_neg hk
  have u2 : ∀ o, Tu (tabv (zT X.1) X.2.2 o) X.2.2 = o := fun o => if_pos rfl
  refine ⟨⟨?_, fun c hc => ?_⟩, fun c hc => ?_, x1, x2, ?_, x4, by show 7 ≤ X.2.2 + 1; omega, by show X.2.2 + 1 ≤ 16; omega, (u1 0 (by omega) _).trans x7, fun k h1 h2 => ?_, fun k hk => ?_⟩
  · show (zc X.1 ++ [_]).Pairwise _
    refine List.pairwise_append.mpr ⟨x0.1, List.pairwise_singleton _ _, fun x hx y hy => ?_⟩
    rw [List.mem_singleton.mp hy]
    exact Nat.le_trans (x0.2 x hx) (ht.2 _ _ (Nat.le_add_right _ 2))
  · have hc : c ∈ zc X.1 ++ [_] := hc
    show c.2.1 ≤ zP t (zj X.1 + 4)
    rcases List.mem_append.mp hc with hc | hc
    · exact Nat.le_trans (x0.2 c hc) (ht.2 _ _ (Nat.le_add_right _ 4))
    · rw [List.mem_singleton.mp hc]
      exact ht.2 _ _ (by omega)
  · have hc : c ∈ zc X.1 ++ [_] := hc
    rcases List.mem_append.mp hc with hc | hc
    · exact x0a c hc
    · rw [List.mem_singleton.mp hc]
      show (if _ then 0 else 4 : Nat) = 0 ∨ (if _ then 0 else 4 : Nat) = 4
      split
      · exact .inl rfl
      · exact .inr rfl
  · show tN (zc X.1 ++ [_]) = []
    rw [tN_app, if_neg (by show ¬ (if _ then 0 else 4 : Nat) = 3; split <;> decide)]
    exact x3
  · have h2 : k < X.2.2 + 1 := h2
    show ∃ q, Tu (tabv (zT X.1) X.2.2 (some (min (zV t (zj X.1 + 2)) (X.2.2 - 1)))) k = some q ∧ q < k
    by_cases c : k = X.2.2
    · rw [c, u2]
      exact ⟨_, rfl, by omega⟩
    · rw [u1 k c]
      exact x8 k h1 (by omega)
  · have hk : X.2.2 + 1 ≤ k := hk
    exact (u1 k (by omega) _).trans (x9 k (by omega))
/-- kinds -/
theorem o_kds (ht : tV t) (hJ : J ≤ 200) (hD : 130 ≤ D) {F : Zp → Ft ⊕ Zp} (hEx : ∀ X G x1, RR S R p t J g A G0 G X → okK t X → HQ S R J G0 (F X) Q → ¬ (zK t (zj X.1) = 2 ∧ zV t (zj X.1) = 0) → XL xms D 40 152 [.ref R, x1] [] G Q) : ∀ gg X G x1, RR S R p t J g A G0 G X → okK t X → J < zj X.1 + gg → HQ S R J G0 (zb (pKds t gg X) F) Q → XL xms D 40 52 [.ref R, x1] [] G Q := by
  have hK : ∀ {pc rest L st} z G', Q (.inr z) G' → XK xms D 40 pc rest L st Q (.inr z) G' := fun {pc rest L st} z G' h => Eq.mpr (zX2_read (d := D) (pc := pc) (z := z) (L := L) (G := G') (Q := Q)) h
  intro gg
  induction gg with
  | zero =>
    intro X G x1 w _ hg
    have := w.2.2.1.lJ
    omega
  | succ gg ih =>
    intro X G x1 w hk hg hQ
    obtain ⟨⟨c0, u0, kq, kc, ku⟩, hpG, hr, hy, hsa, hms, hab, htm⟩ := w
    have hk' := hk
    obtain ⟨y0, y0a, y1, y2, y3, y4, y5, y6, y7, y8, y9⟩ := hk
    have hg3 := hr.1.2.1
    have ha := hr.2.2.2.1
    have hl := hr.1
    unfold RD SL at hl
    have hjJ := hr.lJ
    have hRp := hy.2.1
    have hpt := hy.1.t
    have hPR := hy.1
    unfold PR at hPR
    have h13 : Gfi G 13 p = nI X.2.2 := hy.2.2.2.2.2.2.2.2.2.2.1
    have cw := fun Q => d_isWord (D := D) (w := 0) (Q := Q) hr (by omega) (by omega)
    have r1 := fun Q => d_room1 (D := D) (Q := Q) hr (by omega)
    have r0 := fun Q => d_room0 (D := D) (Q := Q) hr (by omega)
    rw [fX2_read_52]
    by_cases c0' : zK t (zj X.1) = 2 ∧ zV t (zj X.1) = 0
    · have e : pKds t (gg + 1) X = if 16 ≤ X.2.2 then zF t 2 (zj X.1) else if zK t (zj X.1 + 1) = 2 ∧ zV t (zj X.1 + 1) = 1 then zN t (zj X.1 + 2) 3 (zN t (zj X.1 + 3) 59 (pKds t gg (zaT (zac (zaj X.1 (zj X.1 + 4)) (if zV t (zj X.1 + 2) < X.2.2 then 0 else 4, zP t (zj X.1 + 2), zV t (zj X.1 + 2))) (tabv (zT X.1) X.2.2 (some (min (zV t (zj X.1 + 2)) (X.2.2 - 1)))), X.2.1, X.2.2 + 1))) else zF t 1 (zj X.1 + 1) := if_pos c0'
      rw [e] at hQ
      simp only [if_pos c0'] at cw
      have hJ1 : zj X.1 + 1 ≤ J := hr.nx (by omega)
      by_cases c16 : X.2.2 < 16
      · rw [if_neg (by omega)] at hQ
        have hr1 := hr.at hJ1
        have cu := fun Q => d_word (D := D) (w := 1) (Q := Q) hr1 (by omega) (by omega)
        have k1 : KQ (fun a => a = R) 0 0 G (Sfi G 5 R (nI (zj X.1 + 1))) := KQ.fR
        have hRR : ∀ a, (fun a => a = R) a → RC4 R a ∨ Gtp G0 ≤ a := fun a q => by have q : a = R := q; unfold RC4; omega
        have kG1 := kq.rd k1 hRR
        by_cases cU : zK t (zj X.1 + 1) = 2 ∧ zV t (zj X.1 + 1) = 1
        · rw [if_pos cU] at hQ
          simp only [qN_1 cU] at cu
          have hr2 : RE (Sfi (Sfi G 5 R (nI (zj X.1 + 1))) 5 R (nI (zj X.1 + 1 + 1))) S R p t J g (zj X.1 + 2) := hr1.at (hr1.nx (by omega))
          have hy2 : RY (Sfi (Sfi G 5 R (nI (zj X.1 + 1))) 5 R (nI (zj X.1 + 1 + 1))) R p X.2.2 X.2.1 A 0 (999, 0, 0) X.1 := (hy.sk sK.at).sk sK.at
          have kG2 := kG1.rd (KQ.fR (R := R) (f := 5) (v := nI (zj X.1 + 1 + 1))) hRR
          have hQ : HQ S R J G0 (zN t (zj X.1 + 2) 3 (zN t (zj X.1 + 3) 59 (zb (pKds t gg (zaT (zac (zaj X.1 (zj X.1 + 4)) (if zV t (zj X.1 + 2) < X.2.2 then 0 else 4, zP t (zj X.1 + 2), zV t (zj X.1 + 2))) (tabv (zT X.1) X.2.2 (some (min (zV t (zj X.1 + 2)) (X.2.2 - 1)))), X.2.1, X.2.2 + 1)) F))) Q := by
            by_cases e3 : zK t (zj X.1 + 2) = 3
            · rw [zN_1 e3] at hQ ⊢
              by_cases e4 : zK t (zj X.1 + 3) = 59
              · rw [zN_1 e4] at hQ ⊢
                exact hQ
              · rw [zN_0 e4] at hQ ⊢
                exact hQ
            · rw [zN_0 e3] at hQ ⊢
              exact hQ
          simp (disch := first | omega | exact cI _ | exact cR _ | exact cK | exact cU | exact cO _ | exact cL _) only [oS, uS.2, Nat.reduceAdd, Nat.reduceSub, Nat.reduceMul, Nat.reduceLeDiff, Nat.reduceEqDiff, Nat.add_sub_cancel, xS, gS, nL, nS, dS, fX2_read_78, mX2_read, zX2_read, hg3, hl, ha, h13, cw, r1, c16, cu, hPR]
          generalize hG2 : Sfi (Sfi G 5 R (nI (zj X.1 + 1))) 5 R (nI (zj X.1 + 1 + 1)) = G2 at hr2 hy2 kG2 ⊢
          have t2 : Gtp G2 = Gtp G := by rw [← hG2]; rfl
          have a2 : ∀ i, Gai G2 (p + 2) i = Gai G (p + 2) i := fun i => by rw [← hG2]; rfl
          clear hG2
          refine w_kindName hr2 (by omega) hy2.1.1 hy2.2.2.2.2.2.2.2.2.2.2.1 (by omega) hy2.2.2.2.2.2.2.1 hy2.2.2.2.2.2.2.2.2.2.2.2.2.2 kG2 (by omega) (by omega) hQ hK (fun e3 j3 hr3 hQ => ?_)
          have hpl : zP t (zj X.1 + 2) < 2000 := hr2.pl
          have hv : zV t (zj X.1 + 2) < 10000000 := (hr2.2.1.2.2 _ hr2.lJ).2.2.2.2.2
          have hy3 : RY (Sfi (Sfi G2 5 R (nI (zj X.1 + 2 + 1))) 9 R (lkV (lkN (wN X.2.2 (zc X.1)) (X.2.2 ≤ zV t (zj X.1 + 2)) (zP t (zj X.1 + 2))))) R p X.2.2 X.2.1 A 0 (999, 0, 0) (zac X.1 (if zV t (zj X.1 + 2) < X.2.2 then 0 else 4, zP t (zj X.1 + 2), zV t (zj X.1 + 2))) := by
            have y := (hy2.sk (sK.at (v := nI (zj X.1 + 2 + 1)))).lk (pl := zP t (zj X.1 + 2)) (v := zV t (zj X.1 + 2)) (how := if zV t (zj X.1 + 2) < X.2.2 then 0 else 4) hpl (by split <;> decide)
            rw [lkN_c (Q := X.2.2 ≤ zV t (zj X.1 + 2)) (by
              by_cases q : zV t (zj X.1 + 2) < X.2.2
              · rw [if_pos q]
                constructor
                · intro h
                  omega
                · intro h
                  omega
              · rw [if_neg q]
                constructor
                · intro h
                  omega
                · intro h
                  exact .inr rfl)] at y
            exact y
          have kG3 := (kG2.rd (KQ.fR (R := R) (f := 5) (v := nI (zj X.1 + 2 + 1))) hRR).rd (KQ.fR (R := R) (f := 9) (v := lkV (lkN (wN X.2.2 (zc X.1)) (X.2.2 ≤ zV t (zj X.1 + 2)) (zP t (zj X.1 + 2))))) hRR
          have t3 : Gtp (Sfi (Sfi G2 5 R (nI (zj X.1 + 2 + 1))) 9 R (lkV (lkN (wN X.2.2 (zc X.1)) (X.2.2 ≤ zV t (zj X.1 + 2)) (zP t (zj X.1 + 2))))) = Gtp G := t2
          have a3 : ∀ i, Gai (Sfi (Sfi G2 5 R (nI (zj X.1 + 2 + 1))) 9 R (lkV (lkN (wN X.2.2 (zc X.1)) (X.2.2 ≤ zV t (zj X.1 + 2)) (zP t (zj X.1 + 2))))) (p + 2) i = Gai G (p + 2) i := a2
          generalize Sfi (Sfi G2 5 R (nI (zj X.1 + 2 + 1))) 9 R (lkV (lkN (wN X.2.2 (zc X.1)) (X.2.2 ≤ zV t (zj X.1 + 2)) (zP t (zj X.1 + 2)))) = G3 at hr3 hy3 kG3 t3 a3 ⊢
          have hg4 := hr3.1.2.1
          simp (disch := first | omega | exact cI _ | exact cR _ | exact cK | exact cU | exact cO _ | exact cL _) only [oS, uS.2, Nat.reduceAdd, Nat.reduceSub, Nat.reduceMul, Nat.reduceLeDiff, Nat.reduceEqDiff, Nat.add_sub_cancel, xS, gS, nL, nS, dS, mX2_read, zX2_read, hg4]
          refine w_take (k := 59) hr3 (by omega) (by omega) (by omega) kG3 (by omega) (by omega) hQ hK (fun e4 j4 hr4 hQ => ?_)
          have hy4 := hy3.sk (sK.at (v := nI (zj X.1 + 2 + 1 + 1)))
          have kG4 := kG3.rd (KQ.fR (R := R) (f := 5) (v := nI (zj X.1 + 2 + 1 + 1))) hRR
          have t4 : Gtp (Sfi G3 5 R (nI (zj X.1 + 2 + 1 + 1))) = Gtp G := t3
          have a4 : ∀ i, Gai (Sfi G3 5 R (nI (zj X.1 + 2 + 1 + 1))) (p + 2) i = Gai G (p + 2) i := a3
          generalize Sfi G3 5 R (nI (zj X.1 + 2 + 1 + 1)) = G4 at hr4 hy4 kG4 t4 a4 ⊢
          have hmn : ∀ Q, XC xms D 293 [.int (nI (zV t (zj X.1 + 2))), .int (nI (X.2.2 - 1))] G4 Q = Q (.inl (some (.int (nI (min (zV t (zj X.1 + 2)) (X.2.2 - 1)))))) G4 := fun Q => d_min (by omega) (by omega) (by omega)
          have hl4 := hr4.1
          unfold RD SL at hl4
          have hPR4 := hy4.1
          unfold PR at hPR4
          have h134 : Gfi G4 13 p = nI X.2.2 := hy4.2.2.2.2.2.2.2.2.2.2.1
          have h13s : Gfi (Sai G4 (p + 2) X.2.2 (nI (min (zV t (zj X.1 + 2)) (X.2.2 - 1)))) 13 p = nI X.2.2 := h134
          have okk : okK t (zaT (zac (zaj X.1 (zj X.1 + 4)) (if zV t (zj X.1 + 2) < X.2.2 then 0 else 4, zP t (zj X.1 + 2), zV t (zj X.1 + 2))) (tabv (zT X.1) X.2.2 (some (min (zV t (zj X.1 + 2)) (X.2.2 - 1)))), X.2.1, X.2.2 + 1) := by
            exact hk'.nx ht (by omega)
          have nx := ih (zaT (zac (zaj X.1 (zj X.1 + 4)) (if zV t (zj X.1 + 2) < X.2.2 then 0 else 4, zP t (zj X.1 + 2), zV t (zj X.1 + 2))) (tabv (zT X.1) X.2.2 (some (min (zV t (zj X.1 + 2)) (X.2.2 - 1)))), X.2.1, X.2.2 + 1) (Sfi (Sai G4 (p + 2) X.2.2 (nI (min (zV t (zj X.1 + 2)) (X.2.2 - 1)))) 13 p (nI (X.2.2 + 1))) (.int (nI (zV t (zj X.1 + 2)))) ⟨⟨_, _, (kG4.rd (KQ.aR (a := p + 2) (i := X.2.2) (v := nI (min (zV t (zj X.1 + 2)) (X.2.2 - 1)))) (fun a q => by have q : a = p + 2 := q; omega)).rd (KQ.fR (R := p) (f := 13) (v := nI (X.2.2 + 1))) (fun a q => by have q : a = p := q; omega), by show _ ≤ 10 + 20 * (zj X.1 + 4); omega, by show _ ≤ 700 + 1000 * (zj X.1 + 4); omega⟩, hpG, (hr4.ai (by omega)).f (by decide), (hy4.aim (by omega) (by omega) (by omega)).nkk (fun x hx => okk.2.1 x hx), fun s s1 s2 => by have s2 : s < zn X.1 := s2; omega, fun mi hm => by have hm : mi < X.2.1 := hm; omega, fun k hk2 => ?_, fun mi hm => by have hm : mi < X.2.1 := hm; omega⟩ okk (by show J < zj X.1 + 4 + gg; omega) hQ
          · simp (disch := first | omega | exact cI _ | exact cR _ | exact cK | exact cU | exact cO _ | exact cL _) only [oS, uS.2, Nat.reduceAdd, Nat.reduceSub, Nat.reduceMul, Nat.reduceLeDiff, Nat.reduceEqDiff, Nat.add_sub_cancel, xS, gS, nL, nS, dS, mX2_read, zX2_read, hl4, hPR4, h134, hmn, y3, c16, nx]
          · have hk2 : k < X.2.2 + 1 := hk2
            show Gai (Sai G4 (p + 2) X.2.2 (nI (min (zV t (zj X.1 + 2)) (X.2.2 - 1)))) (p + 2) k = (match Tu (tabv (zT X.1) X.2.2 (some (min (zV t (zj X.1 + 2)) (X.2.2 - 1)))) k with
              | none => NN
              | some q => nI q)
            by_cases ek : k = X.2.2
            · subst ek
              rw [show Tu (tabv (zT X.1) X.2.2 (some (min (zV t (zj X.1 + 2)) (X.2.2 - 1)))) X.2.2 = some (min (zV t (zj X.1 + 2)) (X.2.2 - 1)) from if_pos rfl]
              exact Sai_s
            · rw [show Tu (tabv (zT X.1) X.2.2 (some (min (zV t (zj X.1 + 2)) (X.2.2 - 1)))) k = Tu (zT X.1) k from if_neg ek]
              exact (Sai_o (.inr ek)).trans ((a4 k).trans (hab k (by omega)))
        · rw [if_neg cU] at hQ
          simp only [qN_0 cU] at cu
          have this : Q (.inr (Gtp G)) (fG g (Sfi G 5 R (nI (zj X.1 + 1))) 1 (zP t (zj X.1 + 1))) := w_flt (g := g) hQ rfl kG1 (by omega) (by omega)
          simp (disch := first | omega | exact cI _ | exact cR _ | exact cK | exact cU | exact cO _ | exact cL _) only [oS, uS.2, Nat.reduceAdd, Nat.reduceSub, Nat.reduceMul, Nat.reduceLeDiff, Nat.reduceEqDiff, Nat.add_sub_cancel, xS, gS, nL, nS, dS, fX2_read_78, mX2_read, zX2_read, hg3, hl, ha, h13, cw, r1, c16, cu, hPR, this]
      · rw [if_pos (by omega)] at hQ
        have := w_flt (g := g) hQ rfl kq (by omega) (by omega)
        simp (disch := first | omega | exact cI _ | exact cR _ | exact cK | exact cU | exact cO _ | exact cL _) only [oS, uS.2, Nat.reduceAdd, Nat.reduceSub, Nat.reduceMul, Nat.reduceLeDiff, Nat.reduceEqDiff, Nat.add_sub_cancel, xS, gS, nL, nS, dS, fX2_read_77, fX2_read_78, mX2_read, zX2_read, hg3, hl, ha, h13, cw, r0, c16, y4, hPR, this]
    · have e : pKds t (gg + 1) X = .inr X := if_neg c0'
      rw [e] at hQ
      simp only [if_neg c0'] at cw
      have := hEx X G x1 ⟨⟨c0, u0, kq, kc, ku⟩, hpG, hr, hy, hsa, hms, hab, htm⟩ hk' hQ c0'
      simp (disch := first | omega | exact cI _ | exact cR _ | exact cK | exact cU | exact cO _ | exact cL _) only [oS, uS.2, Nat.reduceAdd, Nat.reduceSub, Nat.reduceMul, Nat.reduceLeDiff, Nat.reduceEqDiff, Nat.add_sub_cancel, xS, gS, nL, nS, dS, mX2_read, zX2_read, hg3, cw, this]
end RDF
