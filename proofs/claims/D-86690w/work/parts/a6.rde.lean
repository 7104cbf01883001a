set_option maxRecDepth 100000
section RDG
variable {D S R p : Nat} {t : Tks} {j J f nk nm b : Nat} {g : Nat → Option Nat} {A : Nat → Nat} {c : Cx} {Z : Zs} {X : Zp} {G0 G G1 G2 : XG} {Q : (Option Value ⊕ Nat) → XG → Prop}
/-- methods that are told -/
theorem o_told (hD : 2 ≤ D) {l : List Ck} {nm : Nat} (hnm : nm ≤ 8) (hl80 : l.length ≤ 80) (hlv : ∀ c, c ∈ l → c.2.1 < 2000 ∧ c.2.2 < 10000000) : ∀ m i w G, i + m = l.length → Gkd G R = 3 → Gfr G 1015 R = some p → Gfr G 1018 R = some (R + 2) → Gfr G 1019 R = some (R + 3) → (Gkd G (R + 2) = 100 ∧ Gln G (R + 2) = 80 ∧ Gkd G (R + 3) = 100 ∧ Gln G (R + 3) = 80) → TO G R l → Gkd G p = 4 → Gfi G 12 p = nI nm → Gfi G 9 R = lkV w → (∀ x, w = some x → x < 2000) → p ≠ R → (∀ G', KQ (fun a => a = R) 0 0 G G' → (∀ f, f ≠ 9 → Gfi G' f R = Gfi G f R) → (∀ f, Gfr G' f R = Gfr G f R) → Gfi G' 9 R = lkV (wM nm (l.drop i) w) → XL xms D 40 258 [.ref R, .int (nI l.length)] [] G' Q) → XL xms D 40 189 [.ref R, .int (nI i)] [] G Q := by
  intro m
  induction m with
  | zero =>
    intro i w G hi h1 h2 h3 h4 h5 h6 h7 h8 h9 h10 hpR hQ
    have hi : i = l.length := by omega
    subst hi
    have := hQ G KQ.refl (fun _ _ => rfl) (fun _ => rfl) (by rw [List.drop_length]; exact h9)
    have h11 := h6.1
    rw [fX2_read_189]
    simp (disch := first | omega | exact cI _ | exact cR _ | exact cK | exact cU | exact cO _ | exact cL _) only [oS, uS.2, Nat.reduceAdd, Nat.reduceSub, Nat.reduceMul, Nat.reduceLeDiff, Nat.reduceEqDiff, Nat.add_sub_cancel, xS, gS, nL, nS, dS, mX2_read, zX2_read, h1, h11, hl80, this]
  | succ m ih =>
    intro i w G hi h1 h2 h3 h4 h5 h6 h7 h8 h9 h10 hpR hQ
    have hil : i < l.length := by omega
    have hc := List.getElem?_eq_getElem hil
    have hd : l.drop i = l[i] :: l.drop (i + 1) := (List.drop_eq_getElem_cons hil)
    obtain ⟨v1, v2⟩ := hlv l[i] (List.getElem_mem hil)
    obtain ⟨e1, e2⟩ := h6.2 i _ hc
    have h11 := h6.1
    obtain ⟨w', hw'⟩ : ∃ w', w' = (if nm ≤ l[i].2.2 ∧ (w = none ∨ ∃ x, w = some x ∧ l[i].2.1 < x) then some l[i].2.1 else w) := ⟨_, rfl⟩
    have nx : ∀ v, v = lkV w' → XL xms D 40 189 [.ref R, .int (nI (i + 1))] [] (Sfi G 9 R v) Q := by
      intro v hv
      have fo : ∀ x a, x ≠ 9 → Gfi (Sfi G 9 R v) x a = Gfi G x a := fun x a e => if_neg (fun q => e q.1)
      refine ih (i + 1) w' (Sfi G 9 R v) (by omega) h1 h2 h3 h4 h5 ⟨(fo 11 R (by decide)).trans h6.1, h6.2⟩ h7 ((fo 12 p (by decide)).trans h8) (Sfi_S.trans hv) (fun x hx => ?_) hpR (fun G' k1 k2 k3 k4 => ?_)
      · rw [hw'] at hx
        split at hx
        · cases hx
          exact v1
        · exact h10 x hx
      · refine hQ G' ((KQ.fR.trans k1)) (fun f hf => (k2 f hf).trans (fo f R hf)) k3 ?_
        rw [k4, hd, hw']
        rfl
    rw [fX2_read_189]
    generalize l[i].2.1 = pl at *
    generalize l[i].2.2 = v at *
    by_cases c1 : nm ≤ v
    · cases w with
      | none =>
        have hw2 : w' = some pl := by rw [hw', if_pos ⟨c1, .inl rfl⟩]
        have := nx (nI pl) (by rw [hw2]; rfl)
        have h9 : Gfi G 9 R = NN := h9
        simp (disch := first | omega | exact cI _ | exact cR _ | exact cK | exact cU | exact cO _ | exact cL _) only [oS, uS.2, Nat.reduceAdd, Nat.reduceSub, Nat.reduceMul, Nat.reduceLeDiff, Nat.reduceEqDiff, Nat.add_sub_cancel, xS, gS, nL, nS, dS, fX2_read_236, fX2_read_249, mX2_read, zX2_read, h1, h2, h3, h4, h5, h7, h8, h9, h11, e1, e2, hil, hl80, c1, hnm, this]
      | some x =>
        have hx := h10 x rfl
        have h9 : Gfi G 9 R = nI x := h9
        by_cases c2 : pl < x
        · have hw2 : w' = some pl := by rw [hw', if_pos ⟨c1, .inr ⟨x, rfl, c2⟩⟩]
          have := nx (nI pl) (by rw [hw2]; rfl)
          simp (disch := first | omega | exact cI _ | exact cR _ | exact cK | exact cU | exact cO _ | exact cL _) only [oS, uS.2, Nat.reduceAdd, Nat.reduceSub, Nat.reduceMul, Nat.reduceLeDiff, Nat.reduceEqDiff, Nat.add_sub_cancel, xS, gS, nL, nS, dS, fX2_read_236, fX2_read_249, mX2_read, zX2_read, h1, h2, h3, h4, h5, h7, h8, h9, h11, e1, e2, hil, hl80, c1, c2, hnm, this]
        · have hw2 : w' = some x := by
            rw [hw', if_neg (fun q => by
              rcases q.2 with e | ⟨y, e3, e4⟩
              · cases e
              · cases e3
                omega)]
          have := nx (nI x) (by rw [hw2]; rfl)
          simp (disch := first | omega | exact cI _ | exact cR _ | exact cK | exact cU | exact cO _ | exact cL _) only [oS, uS.2, Nat.reduceAdd, Nat.reduceSub, Nat.reduceMul, Nat.reduceLeDiff, Nat.reduceEqDiff, Nat.add_sub_cancel, xS, gS, nL, nS, dS, fX2_read_245, fX2_read_249, mX2_read, zX2_read, h1, h2, h3, h4, h5, h7, h8, h9, h11, e1, e2, hil, hl80, c1, c2, hnm, this]
    · have hw2 : w' = w := by rw [hw', if_neg (fun q => c1 q.1)]
      have := nx (lkV w) (by rw [hw2])
      simp (disch := first | omega | exact cI _ | exact cR _ | exact cK | exact cU | exact cO _ | exact cL _) only [oS, uS.2, Nat.reduceAdd, Nat.reduceSub, Nat.reduceMul, Nat.reduceLeDiff, Nat.reduceEqDiff, Nat.add_sub_cancel, xS, gS, nL, nS, dS, fX2_read_245, fX2_read_249, mX2_read, zX2_read, h1, h2, h3, h4, h5, h7, h8, h9, h11, e1, e2, hil, hl80, c1, hnm, this]
/-- methods, behind each other -/
theorem o_mts (ht : tV t) (hf : J < f) (hJ : J ≤ 200) (hD : 131 ≤ D) {F : Zp → Ft ⊕ Zp} {x1 : Value} (hEx : ∀ X G A, RR S R p t J g A G0 G X → okP t X.2.2 X → HQ S R J G0 (F X) Q → XL xms D 40 171 [.ref R, x1] [] G Q) : ∀ gg X G A, RR S R p t J g A G0 G X → okP t X.2.2 X → J < zj X.1 + gg → HQ S R J G0 (zb (pMts t f gg X) F) Q → XL xms D 40 156 [.ref R, x1] [] G Q := by
  have hK : ∀ {pc rest L st} z G', Q (.inr z) G' → XK xms D 40 pc rest L st Q (.inr z) G' := fun {pc rest L st} z G' h => Eq.mpr (zX2_read (d := D) (pc := pc) (z := z) (L := L) (G := G') (Q := Q)) h
  intro gg
  induction gg with
  | zero =>
    intro X G A w _ hg
    have := w.2.2.1.lJ
    omega
  | succ gg ih =>
    intro X G A w hp hg hQ
    have hr := w.2.2.1
    have hg3 := hr.1.2.1
    have cw := fun Q => d_isWord (D := D) (w := 2) (Q := Q) hr (by omega) (by omega)
    rw [fX2_read_156]
    by_cases cW : zK t (zj X.1) = 2 ∧ zV t (zj X.1) = 2
    · have e : pMts t f (gg + 1) X = zb (pMth t f X) (pMts t f gg) := if_pos cW
      rw [e] at hQ
      simp only [if_pos cW] at cw
      simp (disch := first | omega | exact cI _ | exact cR _ | exact cK | exact cU | exact cO _ | exact cL _) only [oS, uS.2, Nat.reduceAdd, Nat.reduceSub, Nat.reduceMul, Nat.reduceLeDiff, Nat.reduceEqDiff, Nat.add_sub_cancel, xS, gS, nL, nS, dS, mX2_read, zX2_read, hg3, cw]
      obtain ⟨D, rfl⟩ : ∃ d, D = d + 1 := ⟨D - 1, by omega⟩
      refine o_mth w hp ht hf hJ (by omega) (fun o G' ho => ?_)
      cases hm : pMth t f X with
      | inl e =>
        rw [hm] at ho hQ
        obtain ⟨k1, z, rfl, k2⟩ := ho
        exact hK _ _ (hQ _ _ ⟨k1, z, rfl, k2⟩)
      | inr Y =>
        rw [hm] at ho hQ
        obtain ⟨A', rfl, w'⟩ := ho
        obtain ⟨p', -, p2, p3, -⟩ := mth_sh ht hp hm
        rw [← p2] at p'
        have := ih Y G' A' w' p' (by omega) hQ
        simp (disch := first | omega | exact cI _ | exact cR _ | exact cK | exact cU | exact cO _ | exact cL _) only [oS, uS.2, Nat.reduceAdd, Nat.reduceSub, Nat.reduceMul, Nat.reduceLeDiff, Nat.reduceEqDiff, Nat.add_sub_cancel, xS, gS, nL, nS, dS, mX2_read, zX2_read, this]
    · have e : pMts t f (gg + 1) X = .inr X := if_neg cW
      rw [e] at hQ
      simp only [if_neg cW] at cw
      have := hEx X G A w hp hQ
      simp (disch := first | omega | exact cI _ | exact cR _ | exact cK | exact cU | exact cO _ | exact cL _) only [oS, uS.2, Nat.reduceAdd, Nat.reduceSub, Nat.reduceMul, Nat.reduceLeDiff, Nat.reduceEqDiff, Nat.add_sub_cancel, xS, gS, nL, nS, dS, mX2_read, zX2_read, hg3, cw, this]
theorem wM_mem {nm x : Nat} : ∀ (l : List Ck) (w : Option Nat), wM nm l w = some x → w = some x ∨ ∃ c, c ∈ l ∧ x = c.2.1 := by
  intro l
  induction l with
  | nil => intro w h; exact .inl h
  | cons c r ih =>
    intro w h
    have h : wM nm r (if nm ≤ c.2.2 ∧ (w = none ∨ ∃ x, w = some x ∧ c.2.1 < x) then some c.2.1 else w) = some x := h
    rcases ih _ h with e | ⟨y, e1, e2⟩
    · split at e
      · cases e
        exact .inr ⟨c, List.mem_cons_self .., rfl⟩
      · exact .inl e
    · exact .inr ⟨y, List.mem_cons_of_mem _ e1, e2⟩
/-- the end of a text -/
theorem o_end {x1 : Value} (hD : 131 ≤ D) (hJ : J ≤ 200) (w : RR S R p t J g A G0 G X) (hp : okP t X.2.2 X) (hQ : HQ S R J G0 (zN t (zj X.1) 0 (match fBad X.2.1 X.2.2 (zc X.1) with
    | some p => .inl (3, p)
    | none => .inr X)) Q) : XL xms D 40 171 [.ref R, x1] [] G Q := by
  have hK : ∀ {pc rest L st} z G', Q (.inr z) G' → XK xms D 40 pc rest L st Q (.inr z) G' := fun {pc rest L st} z G' h => Eq.mpr (zX2_read (d := D) (pc := pc) (z := z) (L := L) (G := G') (Q := Q)) h
  obtain ⟨⟨c0, u0, kq, kc, ku⟩, hpG, hr, hy, hsa, hms, hab, htm⟩ := w
  obtain ⟨x0, x1', x2, x3, x4, x5, x6, x7, x8, x9, x10, x11⟩ := hp
  have hg := hr.1.2.1
  have hl := hr.1
  have hjJ := hr.lJ
  have hRp := hy.2.1
  have ck := fun Q => d_kind (D := D) (Q := Q) hr (by omega)
  have hb1 : zK t (zj X.1) < 256 := (hr.2.1.2.2 _ hjJ).2.2.2.1
  have n1 := fun Q => d_need1 (D := D) (Q := Q) hr (by omega)
  have n0 := fun Q => d_need0 (D := D) (Q := Q) hr (by omega)
  rw [fX2_read_171]
  by_cases e0 : zK t (zj X.1) = 0
  · rw [zN_1 e0, fBad_wM _ x0.1] at hQ
    have h12 : Gfi G 12 p = nI X.2.1 := hy.2.2.2.2.2.2.2.2.2.1
    have hto := hy.2.2.2.2.2.2.2.1
    have hpl := hr.pl
    unfold RD SL at hl
    have told := o_told (D := D) (R := R) (p := p) (Q := Q) (by omega) (l := tN (zc X.1)) (nm := X.2.1) x5 (by omega) (fun c hc => by
      refine ⟨Nat.lt_of_le_of_lt (x0.2 c (tN_mem hc)) hpl, ?_⟩
      obtain ⟨i, hi, e⟩ := List.getElem_of_mem hc
      exact (hto.2 i c (by rw [← e]; exact List.getElem?_eq_getElem hi)).2.2) (tN (zc X.1)).length 0 (wN X.2.2 (zc X.1)) G (Nat.zero_add _) hg hl.2.2.2.1 hl.2.2.2.2.2.2.2.1 hl.2.2.2.2.2.2.2.2.2.2.1 ⟨hl.2.2.2.2.2.2.2.2.1, hl.2.2.2.2.2.2.2.2.2.1, hl.2.2.2.2.2.2.2.2.2.2.2.1, hl.2.2.2.2.2.2.2.2.2.2.2.2.1⟩ hto hy.1.1 h12 hy.2.2.2.2.2.2.1 hy.2.2.2.2.2.2.2.2.2.2.2.2.2 (by omega) (fun G' k1 k2 k3 k4 => by
      rw [List.drop_zero] at k4
      have hg' : Gkd G' R = 3 := ((k1.2.2.2.2.1 R (by have := hr.R; omega)).1).trans hg
      have h15 : Gfr G' 1015 R = some p := (k3 1015).trans hr.1.2.2.2.1
      have kG := (kq.rd k1 (fun a q => by have q : a = R := q; unfold RC4; omega))
      rw [fX2_read_258]
      cases hw : wM X.2.1 (tN (zc X.1)) (wN X.2.2 (zc X.1)) with
      | none =>
        rw [hw] at hQ k4
        have k4 : Gfi G' 9 R = NN := k4
        have hpt := hy.1.t
        have fp := (k1.2.2.2.2.2 p (by omega) (by omega)).1
        have fa : ∀ x, x < 6 → ∀ i, Gai G' (p + x) i = Gai G (p + x) i ∧ Gar G' (p + x) i = Gar G (p + x) i := fun x hx i => by
          have := (k1.2.2.2.2.2 (p + x) (by omega) (by omega)).2 i
          exact ⟨this.1, this.2.1⟩
        have hrd : RDb G' S R := by
          have := (hr.1.bb)
          have kk : RE (Sfi G 9 R (Gfi G' 9 R)) S R p t J g (zj X.1) := hr.f (by decide)
          have hb := hr.1.bb
          obtain ⟨r1, r2, r3, r4, r5, r6, r7, r8, r9, r10, r11, r12, r13, r14⟩ := hb
          have cc := k1.2.2.2.2.1
          have kt := k1.2.1
          exact ⟨r1.kq k1 (by omega) (fun a h1 h2 e => by omega), hg', (k3 1014).trans r3, (k3 1017).trans r4, ((cc (R + 1) (by omega)).1).trans r5, ((cc (R + 1) (by omega)).2).trans r6, (k3 1018).trans r7, ((cc (R + 2) (by omega)).1).trans r8, ((cc (R + 2) (by omega)).2).trans r9, (k3 1019).trans r10, ((cc (R + 3) (by omega)).1).trans r11, ((cc (R + 3) (by omega)).2).trans r12, r13, by omega⟩
        have fin := hQ (.inl (some (.ref p))) G' ⟨p, A, rfl, hpG, ⟨hy.1.kq k1 (fun f _ _ => (fp f).2), (fp 12).1.trans h12, (fp 13).1.trans hy.2.2.2.2.2.2.2.2.2.2.1, (fp 14).1.trans hy.2.2.2.2.2.2.2.2.2.2.2.1, ⟨(fp 15).1.trans hy.2.2.2.2.2.2.2.2.2.2.2.2.1.1, fun i x hx => ⟨((fa 4 (by omega) i).2).trans (hy.2.2.2.2.2.2.2.2.2.2.2.2.1.2 i x hx).1, ((fa 5 (by omega) i).1).trans (hy.2.2.2.2.2.2.2.2.2.2.2.2.1.2 i x hx).2⟩⟩, fun s s1 s2 => ?_, fun mi hm => ?_, fun k hk => ?_⟩, kG.mono (fun _ q => q) (by omega) (by omega), hrd⟩
        · simp (disch := first | omega | exact cI _ | exact cR _ | exact cK | exact cU | exact cO _ | exact cL _) only [oS, uS.2, Nat.reduceAdd, Nat.reduceSub, Nat.reduceMul, Nat.reduceLeDiff, Nat.reduceEqDiff, Nat.add_sub_cancel, xS, gS, nL, nS, dS, fX2_read_280, mX2_read, zX2_read, hg', k4, h15, fin]
        · obtain ⟨e1, e2⟩ := hsa s s1 s2
          exact ⟨((fa 3 (by omega) s).2).trans e1, e2.kq k1 (fun a h1 e => by omega)⟩
        · obtain ⟨a, m1, m2, m3, m4, m5, m6⟩ := hms mi hm
          have f1 := (k1.2.2.2.2.2 a m5 (by omega)).1
          refine ⟨a, ((fa 1 (by omega) mi).2).trans m1, ((k1.2.2.2.2.1 a m5).1).trans m2, (f1 76).1.trans m3, m4, Nat.lt_of_lt_of_le m5 k1.2.1, ?_⟩
          rw [(f1 1117).2]
          exact m6.kq k1 (fun a h1 e => by omega)
        · exact ((fa 2 (by omega) k).1).trans (hab k hk)
      | some pl =>
        rw [hw] at hQ k4
        have k4 : Gfi G' 9 R = nI pl := k4
        have hsv : SV (Sno G' 10 8) g := (hr.2.2.1.kq k1).kq (P := fun _ => False) KQ.no
        have hpl2 : pl < 2147483648 := by
          rcases wM_mem _ _ hw with e | ⟨c, e1, e2⟩
          · have := hy.2.2.2.2.2.2.2.2.2.2.2.2.2 pl e
            omega
          · have := x0.2 c (tN_mem e1)
            omega
        have kz : Gkd (Sno G' 10 8) (Gtp G') = 11 := if_pos rfl
        have kf : Gkd (fG g G' 3 pl) (Gtp G') = 11 := fG_ft.1
        have hRt : (R = Gtp G') = False := eq_false (by have := hr.R; have := k1.2.1; omega)
        obtain ⟨d, hd⟩ : ∃ d, D = d + 1 + 1 + 1 := ⟨D - 3, by omega⟩
        have cf : ∀ Q, XC xms D 201 [.ref (Gtp G'), .int (nI 3), .int (nI pl)] (Sno G' 10 8) Q = Q (.inl none) (fG g G' 3 pl) := by
          rw [hd]
          exact fun Q => c_fault kz hsv
        have := w_flt (g := g) hQ rfl kG (by omega) (by omega)
        simp (disch := first | omega | exact cI _ | exact cR _ | exact cK | exact cU | exact cO _ | exact cL _) only [oS, uS.2, Nat.reduceAdd, Nat.reduceSub, Nat.reduceMul, Nat.reduceLeDiff, Nat.reduceEqDiff, Nat.add_sub_cancel, xS, gS, nL, nS, dS, mX2_read, zX2_read, hg', k4, hpl2, hRt, cf, kf, this, show xthk 11 = true from rfl])
    simp (disch := first | omega | exact cI _ | exact cR _ | exact cK | exact cU | exact cO _ | exact cL _) only [oS, uS.2, Nat.reduceAdd, Nat.reduceSub, Nat.reduceMul, Nat.reduceLeDiff, Nat.reduceEqDiff, Nat.add_sub_cancel, xS, gS, nL, nS, dS, fX2_read_184, mX2_read, zX2_read, hg, ck, e0, n1, told]
  · rw [zN_0 e0] at hQ
    have := w_flt (g := g) hQ rfl kq (by omega) (by omega)
    simp (disch := first | omega | exact cI _ | exact cR _ | exact cK | exact cU | exact cO _ | exact cL _) only [oS, uS.2, Nat.reduceAdd, Nat.reduceSub, Nat.reduceMul, Nat.reduceLeDiff, Nat.reduceEqDiff, Nat.add_sub_cancel, xS, gS, nL, nS, dS, fX2_read_183, fX2_read_184, mX2_read, zX2_read, hg, ck, e0, n0, this]
theorem okK.z (ht : tV t) : okK t ((0, 0, tz, [], []), 0, 7) := ⟨⟨List.Pairwise.nil, fun _ q => (List.not_mem_nil q).elim⟩, fun _ q => (List.not_mem_nil q).elim, rfl, rfl, rfl, rfl, by decide, by decide, rfl, fun k a b => by
    have b : k < 7 := b
    show ∃ q, (if k = 0 then none else if k = 1 then some 0 else if k ≤ 6 then some 1 else none : Option Nat) = some q ∧ q < k
    rw [if_neg (by omega)]
    by_cases c : k = 1
    · rw [if_pos c]
      exact ⟨0, rfl, by omega⟩
    · rw [if_neg c, if_pos (by omega)]
      exact ⟨1, rfl, by omega⟩, fun k hk => by
    have hk : 7 ≤ k := hk
    show (if k = 0 then none else if k = 1 then some 0 else if k ≤ 6 then some 1 else none : Option Nat) = none
    rw [if_neg (by omega), if_neg (by omega), if_neg (by omega)]⟩
theorem okK.pp (h : okK t X) : okP t X.2.2 X := by
  obtain ⟨x0, x0a, x1, x2, x3, x4, x5, x6, x7, x8, x9⟩ := h
  exact ⟨x0, by omega, rfl, x5, x6, by omega, fun q hq => by rw [x2] at hq; exact (List.not_mem_nil hq).elim, fun s hs => by omega, fun s hs => by omega, by rw [x2]; exact Nat.zero_le _, by rw [x3]; exact Nat.zero_le _, fun nm _ mi hm => by omega⟩
/-- READING -/
theorem o_read (hb : RDb G S R) (htk : TK G S t J) (hsv : SV G g) (ht : tV t) (hf : J < f) (hJ : J ≤ 200) (hD : 133 ≤ D) (hQ : HQ S R J G (pAll t f) Q) : XC xms D 40 [.ref R] G Q := by
  obtain ⟨D, rfl⟩ : ∃ d, D = d + 1 := ⟨D - 1, by omega⟩
  have hK : ∀ {pc rest L st} z G', Q (.inr z) G' → XK xms D 40 pc rest L st Q (.inr z) G' := fun {pc rest L st} z G' h => Eq.mpr (zX2_read (d := D) (pc := pc) (z := z) (L := L) (G := G') (Q := Q)) h
  have hSR : S + 5 ≤ R ∧ R + 4 ≤ Gtp G := ⟨hb.2.2.2.2.2.2.2.2.2.2.2.2.1, hb.2.2.2.2.2.2.2.2.2.2.2.2.2⟩
  have hg := hb.2.1
  have hrt : (R = Gtp G) = False := eq_false (by omega)
  rw [XC_s]
  simp (disch := first | omega | exact cI _ | exact cR _ | exact cK | exact cU | exact cO _ | exact cL _) only [oS, uS.2, Nat.reduceAdd, Nat.reduceSub, Nat.reduceMul, Nat.reduceLeDiff, Nat.reduceEqDiff, Nat.add_sub_cancel, xS, gS, nL, nS, dS, fX2_read_0, mX2_read, zX2_read, hg]
  have k0 : KQ (fun _ => False) 1 10 G (Sno G 3 10) := KQ.no
  refine k_prog (by omega) (if_pos rfl) rfl (fun G1 q1 t1 pr1 i1 i13 a0 a1 a2 => ?_)
  have hGp : Gtp G ≤ Gtp G := Nat.le_refl _
  have kF : KQ (fun _ => False) (1 + 5) (10 + 424) G G1 := KQ.new ((k0.mono (fun _ q => q.elim) (Nat.le_refl _) (Nat.le_refl _)).trans (q1.mono (fun a q => .inr (by have q : a = Gtp G := q; omega)) (Nat.le_refl _) (Nat.le_refl _)))
  have hb1 := hb.kf kF
  have htk1 := htk.kf kF (by omega)
  have hsv1 := hsv.kq kF
  have hp1 := pr1.t
  have f12 : Gfi G1 12 (Gtp G) = nI 0 := (i1 12 (by decide)).trans (if_pos rfl)
  have f14 : Gfi G1 14 (Gtp G) = nI 0 := (i1 14 (by decide)).trans (if_pos rfl)
  have f15 : Gfi G1 15 (Gtp G) = nI 0 := (i1 15 (by decide)).trans (if_pos rfl)
  generalize hGp : Gtp G = p at *
  obtain ⟨r1, r2, r3, r4, r5, r6, r7, r8, r9, r10, r11, r12, r13, r14⟩ := hb1
  obtain ⟨G2, hG2⟩ : ∃ G2, G2 = Sfi (Sfi (Sfi (Sfr (Sfi (Sfi (Sfi (Sfi (Sfr G1 1015 R (some p)) 5 R (nI 0)) 6 R (nI 0)) 7 R (nI 0)) 8 R (nI 0)) 1016 R none) 9 R NN) 10 R (nI 0)) 11 R (nI 0) := ⟨_, rfl⟩
  have k2 : KQ (fun a => a = R) 0 0 G1 G2 := by
    rw [hG2]
    exact (((((((KQ.rR.trans KQ.fR).trans KQ.fR).trans KQ.fR).trans KQ.fR).trans KQ.rR).trans KQ.fR).trans KQ.fR).trans KQ.fR
  have t2 : Gtp G2 = Gtp G1 := by rw [hG2]; rfl
  have fr : ∀ x, x ≠ 1015 → x ≠ 1016 → Gfr G2 x R = Gfr G1 x R := fun x h1 h2 => by
    rw [hG2]
    exact (Sfr_o (G := Sfi (Sfi (Sfi (Sfi (Sfr G1 1015 R (some p)) 5 R (nI 0)) 6 R (nI 0)) 7 R (nI 0)) 8 R (nI 0)) h2).trans (Sfr_o h1)
  have f16 : Gfr G2 1016 R = none := by
    rw [hG2]
    exact Sfr_s (G := Sfi (Sfi (Sfi (Sfi (Sfr G1 1015 R (some p)) 5 R (nI 0)) 6 R (nI 0)) 7 R (nI 0)) 8 R (nI 0))
  have f15r : Gfr G2 1015 R = some p := by
    rw [hG2]
    exact (Sfr_o (G := Sfi (Sfi (Sfi (Sfi (Sfr G1 1015 R (some p)) 5 R (nI 0)) 6 R (nI 0)) 7 R (nI 0)) 8 R (nI 0)) (by decide)).trans Sfr_s
  have g5 : Gfi G2 5 R = nI 0 := by rw [hG2]; simp [Gfi, Sfi, Sfr, xu2]
  have g6 : Gfi G2 6 R = nI 0 := by rw [hG2]; simp [Gfi, Sfi, Sfr, xu2]
  have g7 : Gfi G2 7 R = nI 0 := by rw [hG2]; simp [Gfi, Sfi, Sfr, xu2]
  have g8 : Gfi G2 8 R = nI 0 := by rw [hG2]; simp [Gfi, Sfi, Sfr, xu2]
  have g9 : Gfi G2 9 R = NN := by rw [hG2]; simp [Gfi, Sfi, Sfr, xu2]
  have g10 : Gfi G2 10 R = nI 0 := by rw [hG2]; simp [Gfi, Sfi, Sfr, xu2]
  have g11 : Gfi G2 11 R = nI 0 := by rw [hG2]; simp [Gfi, Sfi, Sfr, xu2]
  have fp := (k2.2.2.2.2.2 p (by omega) (by omega)).1
  have cc := k2.2.2.2.2.1
  have hre : RE G2 S R p t J g 0 := by
    refine ⟨⟨r1.kq k2 (by omega) (fun a h1 h2 e => by omega), ((cc R (by omega)).1).trans r2, (fr 1014 (by decide) (by decide)).trans r3, f15r, (fr 1017 (by decide) (by decide)).trans r4, ((cc (R + 1) (by omega)).1).trans r5, ((cc (R + 1) (by omega)).2).trans r6, (fr 1018 (by decide) (by decide)).trans r7, ((cc (R + 2) (by omega)).1).trans r8, ((cc (R + 2) (by omega)).2).trans r9, (fr 1019 (by decide) (by decide)).trans r10, ((cc (R + 3) (by omega)).1).trans r11, ((cc (R + 3) (by omega)).2).trans r12, r13, by omega⟩, ⟨htk1.1, htk1.2.1, fun i hi => ?_⟩, hsv1.kq k2, g5, Nat.zero_le _⟩
    rw [((k2.2.2.2.2.2 (S + 2) (by omega) (by omega)).2 i).1, ((k2.2.2.2.2.2 (S + 3) (by omega) (by omega)).2 i).1, ((k2.2.2.2.2.2 (S + 4) (by omega) (by omega)).2 i).1]
    exact htk1.2.2 i hi
  have hry : RY G2 R p 7 0 (fun _ => 0) 0 (999, 0, 0) (0, 0, tz, [], []) := ⟨pr1.kq k2 (fun f _ _ => (fp f).2), by omega, g7, g6, g8, f16, g9, ⟨g11, fun i x hx => by simp [tN, zc] at hx⟩, g10, (fp 12).1.trans f12, (fp 13).1.trans i13, (fp 14).1.trans f14, ⟨(fp 15).1.trans f15, fun i x hx => by simp [zh] at hx⟩, fun x hx => by cases hx⟩
  have hrr : RR S R p t J g (fun _ => 0) G G2 ((0, 0, tz, [], []), 0, 7) := by
    refine ⟨⟨_, _, (kF.mono (P' := RC4 R) (fun _ q => q.elim) (Nat.le_refl _) (Nat.le_refl _)).rd k2 (fun a q => by have q : a = R := q; unfold RC4; omega), by show _ ≤ 10 + 20 * 0; omega, by show _ ≤ 700 + 1000 * 0; omega⟩, ?_, hre, hry, fun s s1 s2 => absurd s2 (Nat.not_lt_zero _), fun mi hm => absurd hm (Nat.not_lt_zero _), fun k hk => ?_, fun mi hm => absurd hm (Nat.not_lt_zero _)⟩
    · omega
    · have hk : k < 7 := hk
      have e2 := ((k2.2.2.2.2.2 (p + 2) (by omega) (by omega)).2 k).1
      show _ = (match (if k = 0 then none else if k = 1 then some 0 else if k ≤ 6 then some 1 else none : Option Nat) with
        | none => NN
        | some q => nI q)
      by_cases c0 : k = 0
      · subst c0
        exact e2.trans a0
      · by_cases c1 : k = 1
        · subst c1
          exact e2.trans a1
        · rw [if_neg c0, if_neg c1, if_pos (by omega)]
          exact e2.trans (a2 k (by omega) hk)
  have main : XL xms D 40 52 [.ref R, xjk] [] G2 Q := by
    refine o_kds (A := fun _ => 0) (G0 := G) (p := p) ht hJ (by omega) (F := fun X => zb (pMth t f X) (fun Y => zb (pMts t f f Y) (fun Z => zN t (zj Z.1) 0 (match fBad Z.2.1 Z.2.2 (zc Z.1) with
      | some p => .inl (3, p)
      | none => .inr Z)))) (fun X G3 x1 w hk hQ _ => ?_) f _ G2 xjk hrr (okK.z ht) (by show J < 0 + f; omega) hQ
    have hp0 := hk.pp
    rw [fX2_read_152]
    simp (disch := first | omega | exact cI _ | exact cR _ | exact cK | exact cU | exact cO _ | exact cL _) only [oS, uS.2, Nat.reduceAdd, Nat.reduceSub, Nat.reduceMul, Nat.reduceLeDiff, Nat.reduceEqDiff, Nat.add_sub_cancel, xS, gS, nL, nS, dS, mX2_read, zX2_read, w.2.2.1.1.2.1]
    obtain ⟨D, rfl⟩ : ∃ d, D = d + 1 := ⟨D - 1, by omega⟩
    refine o_mth w hp0 ht hf hJ (by omega) (fun o G' ho => ?_)
    cases hm : pMth t f X with
    | inl e =>
      rw [hm] at ho hQ
      obtain ⟨k1, z, rfl, k2⟩ := ho
      exact hK _ _ (hQ _ _ ⟨k1, z, rfl, k2⟩)
    | inr Y =>
      rw [hm] at ho hQ
      obtain ⟨A', rfl, w'⟩ := ho
      obtain ⟨p', -, p2, p3, -⟩ := mth_sh ht hp0 hm
      rw [← p2] at p'
      have hjz := w'.2.2.1.lJ
      have := o_mts (D := D + 1) ht hf hJ (by omega) (x1 := x1) (F := fun Z => zN t (zj Z.1) 0 (match fBad Z.2.1 Z.2.2 (zc Z.1) with
        | some p => .inl (3, p)
        | none => .inr Z)) (fun X G A w hp hQ => o_end (D := D + 1) (by omega) hJ w hp hQ) f Y G' A' w' p' (by omega) hQ
      simp (disch := first | omega | exact cI _ | exact cR _ | exact cK | exact cU | exact cO _ | exact cL _) only [oS, uS.2, Nat.reduceAdd, Nat.reduceSub, Nat.reduceMul, Nat.reduceLeDiff, Nat.reduceEqDiff, Nat.add_sub_cancel, xS, gS, nL, nS, dS, mX2_read, zX2_read, this]
  rw [hG2] at main
  simp (disch := first | omega | exact cI _ | exact cR _ | exact cK | exact cU | exact cO _ | exact cL _) only [oS, uS.2, Nat.reduceAdd, Nat.reduceSub, Nat.reduceMul, Nat.reduceLeDiff, Nat.reduceEqDiff, Nat.add_sub_cancel, xS, gS, nL, nS, dS, mX2_read, zX2_read, r2, main]
end RDG
