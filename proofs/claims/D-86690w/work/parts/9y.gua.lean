set_option maxRecDepth 100000
section GU3
variable {D S R p : Nat} {t : Tks} {j J f nk nm b m m' : Nat} {g : Nat → Option Nat} {A : Nat → Nat} {c : Cx} {S0 Z1 Z : Zs} {G0 G G1 G2 : XG} {Q : (Option Value ⊕ Nat) → XG → Prop} {blk : StF}
theorem zb_assoc {α β γ : Type} {r : Ft ⊕ α} {f : α → Ft ⊕ β} {g : β → Ft ⊕ γ} : zb (zb r f) g = zb r (fun x => zb (f x) g) := by
  cases r <;> rfl
theorem hsK_len {l : List (Nat × Int32)} {u : Nat} : (hsK l u).length = (l.filter (fun x => x.1 == u)).length := by
  unfold hsK
  rw [List.length_map]
theorem d_cat {res y0 : Nat} {l0 : List Nat} {F : (Zs × List (Int32 × List Nat)) → Ft ⊕ Zs} (hb : XBk S R p t J g nk nm blk m) (hsh : BS t blk m') (hD : 45 + 10 * (6 - c.2.2) ≤ D) (hEx : ∀ Z l G A' Bs z ka ca L x4 x5 x6, WH S R p t J g nk nm A b c G0 S0 6 [z, ka, ca] z G c A' [] Bs G Z → GI G z ka ca L (zn S0) res y0 l0 l Bs → J < zj Z + m → HS S R p t J g nk nm A b c G0 S0 (F (Z, l)) Q → ¬ (zK t (zj Z) = 2 ∧ zV t (zj Z) = 18) → XL xms D 66 156 [.ref R, .int (nI (zn S0)), .int (nI res), .ref z, x4, x5, x6] [] G Q) : ∀ gg Z l G A' Bs z ka ca L x4 x5 x6, WH S R p t J g nk nm A b c G0 S0 6 [z, ka, ca] z G c A' [] Bs G Z → GI G z ka ca L (zn S0) res y0 l0 l Bs → hsK (zh Z) (zn S0) = l.map (·.1) → J < zj Z + gg → J < zj Z + m → HS S R p t J g nk nm A b c G0 S0 (zb (pCat t blk (zn S0) c gg Z l) F) Q → XL xms D 66 49 [.ref R, .int (nI (zn S0)), .int (nI res), .ref z, x4, x5, x6] [] G Q := by
  have hK : ∀ {pc rest L st} z G', Q (.inr z) G' → XK xms D 66 pc rest L st Q (.inr z) G' := fun {pc rest L st} z G' h => Eq.mpr (zX2_guard (d := D) (pc := pc) (z := z) (L := L) (G := G') (Q := Q)) h
  intro gg
  induction gg with
  | zero =>
    intro Z l G A' Bs z ka ca L x4 x5 x6 w _ _ hg
    have := w.lJ
    omega
  | succ gg ih =>
    intro Z l G A' Bs z ka ca L x4 x5 x6 w hi hks hg hm hQ
    have hl := w.lJ
    have hpz := w.pzz
    have hC := w.1
    have h80 := hC.2.2.2.2.2.1
    have hn9 : zn S0 ≠ 999 := by omega
    have ch : ∀ Q, XC xms D 62 [.ref R, .int (nI 18)] G Q = Q (.inl (some (.int (if zK t (zj Z) = 2 ∧ zV t (zj Z) = 18 then nI 1 else nI 0)))) (if zK t (zj Z) = 2 ∧ zV t (zj Z) = 18 then Sfi G 5 R (nI (zj Z + 1)) else G) := fun Q => d_has w.re (by omega) (by omega)
    rw [fX2_guard_49]
    by_cases c18 : zK t (zj Z) = 2 ∧ zV t (zj Z) = 18
    · have e : pCat t blk (zn S0) c (gg + 1) Z l = zN t (zj Z + 1) 3 (zb (blk (zn S0, c.2) (zah (zac (zaj Z (zj Z + 2)) (1, zP t (zj Z + 1), zV t (zj Z + 1))) (zn S0, nI (zV t (zj Z + 1))))) (fun r => pCat t blk (zn S0) c gg r.1 (l ++ [(nI (zV t (zj Z + 1)), r.2)]))) := if_pos c18
      rw [e] at hQ
      simp only [if_pos c18] at ch
      have hjJ : zj Z + 1 ≤ J := w.re.nx (show zK t (zj Z) ≠ 0 by omega)
      have w1 : WH S R p t J g nk nm A b c G0 S0 6 [z, ka, ca] z G c A' [] Bs (Sfi G 5 R (nI (zj Z + 1))) (zaj Z (zj Z + 1)) := w.nx (show zK t (zj Z) ≠ 0 by omega)
      have hQ1 : HS S R p t J g nk nm A b c G0 S0 (zN t (zj Z + 1) 3 (zb (blk (zn S0, c.2) (zcat Z (zn S0) (zP t (zj Z + 1)) (zV t (zj Z + 1)))) (fun r => zb (pCat t blk (zn S0) c gg r.1 (l ++ [(nI (zV t (zj Z + 1)), r.2)])) F))) Q := by
        by_cases e3 : zK t (zj Z + 1) = 3
        · rw [zN_1 e3] at hQ ⊢
          rw [zb_assoc] at hQ
          exact hQ
        · rw [zN_0 e3] at hQ ⊢
          exact hQ
      simp (disch := first | omega | exact cI _ | exact cR _ | exact cK | exact cU | exact cO _ | exact cL _) only [oS, uS.2, Nat.reduceAdd, Nat.reduceSub, Nat.reduceMul, Nat.reduceLeDiff, Nat.reduceEqDiff, Nat.add_sub_cancel, xS, gS, nL, nS, dS, mX2_guard, zX2_guard, w.gk, ch]
      generalize Sfi G 5 R (nI (zj Z + 1)) = G1 at w1 ⊢
      refine y_kindName w1 (by omega) hQ1 hK (fun G2 e2 w2 hQ => ?_)
      have e2 : zK t (zj Z + 1) = 3 := e2
      have w2 : WH S R p t J g nk nm A b c G0 S0 14 [z, ka, ca] z G c A' [] Bs G2 (zac (zaj Z (zj Z + 2)) (1, zP t (zj Z + 1), zV t (zj Z + 1))) := w2
      have hv : zV t (zj Z + 1) < 10000000 := (w1.re.2.1.2.2 _ w1.re.lJ).2.2.2.2.2
      -- handlers
      have hg2 := w2.gk
      have hl2 := w2.re.1
      have hy2 := w2.ry
      have hPR := hy2.1
      unfold PR at hPR
      obtain ⟨i, hii⟩ : ∃ i, (zh Z).length = i := ⟨_, rfl⟩
      have hi80 : i < 160 := by have := hpz.2.1; omega
      have h15 : Gfi G2 15 p = nI i := by rw [← hii]; exact hy2.2.2.2.2.2.2.2.2.2.2.2.2.1.1
      have o2 := w2.ob
      have i2 : GI G2 z ka ca L (zn S0) res y0 l0 l Bs := hi.tr (w2.ol z (by simp)).2 (w2.ol ka (by simp)).2 (w2.ol ca (by simp)).2 (o2 z (by simp)) (o2 ka (by simp)) (o2 ca (by simp)) (fun _ q => q)
      have hkz : Gkd G2 z = 32 := i2.1.1
      have h95 : Gfi G2 95 z = nI l.length := i2.1.2.1
      have hlen : l.length = ((zh Z).filter (fun x => x.1 == zn S0)).length := by rw [← hsK_len, hks, List.length_map]
      have hl99 : l.length ≤ 99 := by
        have := List.length_filter_le (fun x : Nat × Int32 => x.1 == zn S0) (zh Z)
        have := hpz.2.1
        omega
      obtain ⟨o, ho⟩ : ∃ o, o = (if c.1 = 999 then none else some (A' c.1)) := ⟨_, rfl⟩
      have h16 : Gfr G2 1016 R = o := by rw [ho]; exact hy2.2.2.2.2.2.1
      have hast : ∀ (a0 a1 a2 a3 a5 a6 : Value) (v : Int32) es st G Q, XW xms D 66 ((116, i_ast 5) :: es) [a0, a1, a2, a3, .int v, a5, a6] (va_rf o :: st) G Q = XW xms D 66 es [a0, a1, a2, a3, .int v, va_rf o, a6] st G Q := by
        intro a0 a1 a2 a3 a5 a6 v es st G Q
        cases o with
        | none => simp (disch := first | omega | exact cI _ | exact cR _ | exact cK | exact cU | exact cO _ | exact cL _) only [uS, Nat.reduceAdd, Nat.reduceSub, Nat.reduceMul, Nat.reduceLeDiff, Nat.reduceEqDiff, Nat.add_sub_cancel, gS, nL, nS, dS, xrf_n, xS]
        | some a => simp (disch := first | omega | exact cI _ | exact cR _ | exact cK | exact cU | exact cO _ | exact cL _) only [uS, Nat.reduceAdd, Nat.reduceSub, Nat.reduceMul, Nat.reduceLeDiff, Nat.reduceEqDiff, Nat.add_sub_cancel, gS, nL, nS, dS, xrf_s, xS]
      have hald : ∀ (a0 a1 a2 a3 a4 a6 : Value) es st G Q, XW xms D 66 ((148, i_ald 5) :: es) [a0, a1, a2, a3, a4, va_rf o, a6] st G Q = XW xms D 66 es [a0, a1, a2, a3, a4, va_rf o, a6] (va_rf o :: st) G Q := by
        intro a0 a1 a2 a3 a4 a6 es st G Q
        cases o with
        | none => simp only [xrf_n, xS]
        | some a => simp only [xrf_s, xS]
      have hRp := w2.Rp
      have hz2 := w2.zl
      obtain ⟨ks0, hS0⟩ := w.2.2.2.2.2.2.2.2.2.1
      have hzn : zn S0 < zn Z := hS0.2.1
      have y3 := (hy2.hd (i := i) (m := l.length) (s := zn S0) (v := nI (zV t (zj Z + 1))) (z := z) hii hlen.symm w.2.2.2.2.2.2.2.1.2 hn9)
      have k3 : KQ (rP R p) (0 + 0 + 0 + 0) (0 + 0 + 0 + 0) G2 (hdG G2 R p i l.length z) := (((KQ.ar (.inr (.inr ⟨by omega, by omega⟩))).trans (KQ.ai (.inr (.inr ⟨by omega, by omega⟩)))).trans (KQ.fi (.inr (.inl rfl)))).trans (KQ.fr (.inl ⟨by omega, by omega⟩))
      have w3 : WH S R p t J g nk nm A b c G0 S0 14 [z, ka, ca] z G (zn S0, c.2) A' [] Bs (hdG G2 R p i l.length z) (zcat Z (zn S0) (zP t (zj Z + 1)) (zV t (zj Z + 1))) := w2.on (rv' := 14) (Z1 := zcat Z (zn S0) (zP t (zj Z + 1)) (zV t (zj Z + 1))) k3 (Nat.le_refl _) (by omega) (by omega) (fun j hj => if_neg (by omega)) (fun j hj => if_neg (by omega)) (((w2.re.ar.ai (by omega)).f (by decide)).fr) y3 rfl rfl ⟨ks0 ++ [nI (zV t (zj Z + 1))], hS0.trans (Sh.cat (u := zn S0) (v := zV t (zj Z + 1)) hC.2.2.2.2.2.2.2 hpz.2.2.2.1.2.2.2) (.inl (Nat.lt_succ_self _))⟩
      have o3 := w3.ob
      have i3 : GI (hdG G2 R p i l.length z) z ka ca L (zn S0) res y0 l0 l Bs := hi.tr (w3.ol z (by simp)).2 (w3.ol ka (by simp)).2 (w3.ol ca (by simp)).2 (o3 z (by simp)) (o3 ka (by simp)) (o3 ca (by simp)) (fun _ q => q)
      obtain ⟨G4, ka', ca', L', hd4, k4, gu4, ow4, old4, new4, fi4, fr4, n41, n42, n43⟩ := k_adds (D := D) (k := nI (zV t (zj Z + 1))) (by omega) i3.1 hl99 (fun i hi => by
        obtain ⟨x, hx⟩ : ∃ x, l[i]? = some x := ⟨l[i], List.getElem?_eq_getElem hi⟩
        obtain ⟨-, y, e1, e2⟩ := i3.2.1 i x hx
        exact ⟨y, e1, (w3.bk e2).1, (w3.bk e2).2⟩) i3.2.2.2.2.2.2.2.1 i3.2.2.2.2.2.2.2.2.1 i3.2.2.2.2.2.2.2.2.2
      have w4 := w3.ow (rv' := 6) (own' := [z, ka', ca']) k4 (fun a q => q) (by omega) (by omega) ow4 (by simp)
      have e37 : Gfr G4 1137 z = some ca' := gu4.2.2.2.2.2.1
      have hkz4 : Gkd G4 z = 32 := gu4.1
      unfold RD SL at hl2
      have hxk : xrfk G2 [32] (some z) = true := by
        show decide (Gkd G2 z ∈ [32]) = true
        rw [hkz]
        rfl
      simp (disch := first | omega | exact cI _ | exact cR _ | exact cK | exact cU | exact cO _ | exact cL _) only [oS, uS.2, Nat.reduceAdd, Nat.reduceSub, Nat.reduceMul, Nat.reduceLeDiff, Nat.reduceEqDiff, Nat.add_sub_cancel, xS, gS, nL, nS, dS, mX2_guard, zX2_guard, hg2, hl2, hPR, h15, hkz, h95, h16, hast, hi80, va_rf_cat, hxk, zj_zaj]
      show XC xms D 258 [.ref z, .int (nI (zV t (zj Z + 1))), .null] (hdG G2 R p i l.length z) _
      rw [hd4]
      simp (disch := first | omega | exact cI _ | exact cR _ | exact cK | exact cU | exact cO _ | exact cL _) only [oS, uS.2, Nat.reduceAdd, Nat.reduceSub, Nat.reduceMul, Nat.reduceLeDiff, Nat.reduceEqDiff, Nat.add_sub_cancel, xS, gS, nL, nS, dS, mX2_guard, zX2_guard, e37, hkz4, w4.gk]
      have ox : okC (zn S0, c.2) (zcat Z (zn S0) (zP t (zj Z + 1)) (zV t (zj Z + 1))) := ⟨.inr hzn, hpz.2.2.2.1.2.1, hpz.2.2.2.1.2.2.1, hpz.2.2.2.1.2.2.2⟩
      refine y_block w4 hb hsh (by show J < zj Z + 2 + m; omega) ox hD hQ hK (fun r A2 y G5 hA w5 hj5 q1 q2 hQ => ?_)
      have hj5 : zj Z + 2 < zj r.1 := hj5
      have o5 := w5.ob
      have c5 := o5 ca' (by simp)
      have z5 := o5 z (by simp)
      have a5 := o5 ka' (by simp)
      have hkc5 : Gkd G5 ca' = 105 := c5.1.trans gu4.2.2.2.2.2.2.1
      have hlc5 : Gln G5 ca' = L' := c5.2.1.trans gu4.2.2.2.2.2.2.2.1
      have hmL : l.length < L' := gu4.2.2.2.2.2.2.2.2.1
      have hL4 : L' ≤ 400 := gu4.2.2.2.2.2.2.2.2.2.1
      have hky := (w5.bk (List.mem_cons_self ..)).1
      have hg5 := w5.gk
      have w6 := w5.ow (rv' := 6) (own' := [z, ka', ca']) (KQ.ar (a := ca') (i := l.length) (v := some y) (P := fun a => a = ca') rfl) (fun a e => by rw [e]; simp) (by omega) (by omega) (fun x hx => .inl hx) (by simp)
      have hA2 : o = (if c.1 = 999 then none else some (A2 c.1)) := by
        rw [ho]
        have := hC.2.2.1.2.2.2.1.1
        by_cases e9 : c.1 = 999
        · rw [if_pos e9, if_pos e9]
        · rw [if_neg e9, if_neg e9, hA c.1 (by show c.1 < zn Z; omega)]
      have w7 : WH S R p t J g nk nm A b c G0 S0 6 [z, ka', ca'] z _ c A2 [] ((y, r.2) :: Bs) (Sfr (Sar G5 ca' l.length (some y)) 1016 R o) r.1 := w6.on (rv' := 6) (KQ.fr (.inl ⟨Nat.le_refl _, by omega⟩)) (Nat.le_refl _) (by omega) (by omega) kE.refl kE.refl w6.re.fr (w6.ry.tk (c := c) hA2 rfl) rfl rfl w6.2.2.2.2.2.2.2.2.2.1
      have hzz := w7.zl
      have hzR : z ≠ R := by omega
      have hcl := (w7.ol ca' (by simp))
      have hkl := (w7.ol ka' (by simp))
      have i7 : GI (Sfr (Sar G5 ca' l.length (some y)) 1016 R o) z ka' ca' L' (zn S0) res y0 l0 (l ++ [(nI (zV t (zj Z + 1)), r.2)]) ((y, r.2) :: Bs) := by
        obtain ⟨u1, u2, u3, u4, u5, u6, u7, u8, u9, u10, u11, u12, u13⟩ := gu4
        obtain ⟨v1, v2, v3, v4, v5, v6, v7, v8⟩ := i3
        refine ⟨⟨z5.1.trans u1, ?_, ?_, a5.1.trans u4, a5.2.1.trans u5, ?_, hkc5, hlc5, ?_, u10, hzz.2, hkl.2, hcl.2⟩, fun i x hx => ?_, ?_, ?_, ?_, List.mem_cons_of_mem _ v6, ?_, n41, n42, n43⟩
        · rw [List.length_append]
          exact (z5.2.2.1 95).1.trans u2
        · exact (Sfr_o (by decide)).trans ((z5.2.2.1 1136).2.trans u3)
        · exact (Sfr_o (by decide)).trans ((z5.2.2.1 1137).2.trans u6)
        · rw [List.length_append]
          exact u9
        · show Gai G5 ka' i = x.1 ∧ ∃ y', (if ca' = ca' ∧ i = l.length then some y else Gar G5 ca' i) = some y' ∧ _
          by_cases e : i < l.length
          · rw [List.getElem?_append_left e] at hx
            obtain ⟨x1, y', x2, x3⟩ := v2 i x hx
            obtain ⟨d1, d2⟩ := old4 i e
            refine ⟨((a5.2.2.2 i).1.trans d1).trans x1, y', ?_, List.mem_cons_of_mem _ x3⟩
            rw [if_neg (by omega)]
            exact ((c5.2.2.2 i).2.trans d2).trans x2
          · rw [List.getElem?_append_right (by omega)] at hx
            have e2 : i = l.length := by
              rcases Nat.lt_or_ge l.length i with q | q
              · rw [show i - l.length = (i - l.length - 1) + 1 by omega] at hx
                simp at hx
              · omega
            rw [e2, Nat.sub_self] at hx
            simp at hx
            rw [e2, ← hx, if_pos ⟨rfl, rfl⟩]
            exact ⟨(a5.2.2.2 l.length).1.trans new4, y, rfl, List.mem_cons_self ..⟩
        · exact (z5.2.2.1 82).1.trans ((fi4 82 (by decide)).trans v3)
        · exact (z5.2.2.1 94).1.trans ((fi4 94 (by decide)).trans v4)
        · exact (Sfr_o (by decide)).trans ((z5.2.2.1 1135).2.trans ((fr4 1135 (by decide) (by decide)).trans v5))
        · exact (Sfr_o (by decide)).trans ((z5.2.2.1 1138).2.trans ((fr4 1138 (by decide) (by decide)).trans v7))
      have hks' : hsK (zh r.1) (zn S0) = (l ++ [(nI (zV t (zj Z + 1)), r.2)]).map (·.1) := by
        obtain ⟨-, -, -, -, -, ⟨hs, e1, e2, e3, -⟩, -⟩ := q1
        have e1 : zh r.1 = (zh Z ++ [(zn S0, nI (zV t (zj Z + 1)))]) ++ hs := e1
        have n9 := hsK_no e3
        rw [e1, hsK_app, hsK_app, hks, hsK_nil (hs := hs) (fun x hx e => by
          have r1 : zn Z ≤ x.1 ∧ x.1 < zn r.1 := (e2 x hx).resolve_left (n9 x hx)
          omega), List.append_nil, List.map_append]
        congr 1
        unfold hsK
        simp
      have := ih r.1 _ _ A2 _ z ka' ca' L' (.int (nI (zV t (zj Z + 1)))) (va_rf o) (.int (nI l.length)) w7.rb i7 hks' (by omega) (by omega) hQ
      have hxy : xrfk G5 [104] (some y) = true := by
        show decide (Gkd G5 y ∈ [104]) = true
        rw [hky]
        rfl
      simp (disch := first | omega | exact cI _ | exact cR _ | exact cK | exact cU | exact cO _ | exact cL _) only [oS, uS.2, Nat.reduceAdd, Nat.reduceSub, Nat.reduceMul, Nat.reduceLeDiff, Nat.reduceEqDiff, Nat.add_sub_cancel, xS, gS, nL, nS, dS, mX2_guard, zX2_guard, hxy, hkc5, hlc5, hmL, hky, hg5, hald, this]
    · have e : pCat t blk (zn S0) c (gg + 1) Z l = .inr (Z, l) := if_neg c18
      rw [e] at hQ
      simp only [if_neg c18] at ch
      have := hEx Z l G A' Bs z ka ca L x4 x5 x6 w hi hm hQ c18
      simp (disch := first | omega | exact cI _ | exact cR _ | exact cK | exact cU | exact cO _ | exact cL _) only [oS, uS.2, Nat.reduceAdd, Nat.reduceSub, Nat.reduceMul, Nat.reduceLeDiff, Nat.reduceEqDiff, Nat.add_sub_cancel, xS, gS, nL, nS, dS, mX2_guard, zX2_guard, w.gk, ch, this]
end GU3
