set_option maxRecDepth 100000
section GU4
variable {D S R p : Nat} {t : Tks} {j J f nk nm b m m' : Nat} {g : Nat → Option Nat} {A : Nat → Nat} {c : Cx} {S0 Z1 Z : Zs} {G0 G G1 G2 : XG} {Q : (Option Value ⊕ Nat) → XG → Prop} {blk : StF}
theorem g_guard {z : Nat} {n r : Int32} (hz : z < Gtp G) (hk : Gkd G z = 32) (h95 : Gfi G 95 z = 0) (h38 : Gfr G 1138 z = none) : GU (n_guard G z n r) z 0 (Gtp G) (Gtp G + 1) 2 ∧ Gfi (n_guard G z n r) 82 z = n ∧ Gfi (n_guard G z n r) 94 z = r ∧ Gfr (n_guard G z n r) 1138 z = none ∧ Gtp (n_guard G z n r) = Gtp G + 2 := by
  have e1 : ¬ z = Gtp G := by omega
  have e2 : ¬ z = Gtp G + 1 := by omega
  have e3 : ¬ Gtp G = Gtp G + 1 := by omega
  refine ⟨⟨?_, ?_, ?_, ?_, ?_, ?_, ?_, ?_, by omega, by omega, ?_, ?_, ?_⟩, ?_, ?_, ?_, rfl⟩
  · exact (if_neg e2).trans ((if_neg e1).trans hk)
  · show (if 95 = 94 ∧ z = z then r else if 95 = 82 ∧ z = z then n else Gfi G 95 z) = nI 0
    rw [if_neg (fun q => absurd q.1 (by decide)), if_neg (fun q => absurd q.1 (by decide))]
    exact h95
  · show (if 1136 = 1137 ∧ z = z then some (Gtp G + 1) else if 1136 = 1136 ∧ z = z then some (Gtp G) else Gfr G 1136 z) = some (Gtp G)
    rw [if_neg (fun q => absurd q.1 (by decide)), if_pos ⟨rfl, rfl⟩]
  · exact (if_neg e3).trans (if_pos rfl)
  · exact (if_neg e3).trans (if_pos rfl)
  · exact if_pos ⟨rfl, rfl⟩
  · exact if_pos rfl
  · exact if_pos rfl
  · show z < Gtp G + 2
    omega
  · show Gtp G < Gtp G + 2
    omega
  · show Gtp G + 1 < Gtp G + 2
    omega
  · show (if 82 = 94 ∧ z = z then r else if 82 = 82 ∧ z = z then n else Gfi G 82 z) = n
    rw [if_neg (fun q => absurd q.1 (by decide)), if_pos ⟨rfl, rfl⟩]
  · exact if_pos ⟨rfl, rfl⟩
  · show (if 1138 = 1137 ∧ z = z then some (Gtp G + 1) else if 1138 = 1136 ∧ z = z then some (Gtp G) else Gfr G 1138 z) = none
    rw [if_neg (fun q => absurd q.1 (by decide)), if_neg (fun q => absurd q.1 (by decide))]
    exact h38
theorem q_guard {z : Nat} {n r : Int32} {P : Nat → Prop} (h : P z) : KQ P 2 4 G (n_guard G z n r) := by
  unfold n_guard
  exact (((((KQ.fi h).trans KQ.na).trans (KQ.fr h)).trans KQ.na).trans (KQ.fr h)).trans (KQ.fi h)
theorem o_guard {res : Nat} (h : WA S R p t J g nk nm A b c G0 S0 [] G1 (zaj (zan S0) j)) (hj : zj S0 < j) (hr : res ≤ 3) (hf : J < f) (hb : XBk S R p t J g nk nm blk m) (hsh : BS t blk m') (hm : J < j + m) (hD : 45 + 10 * (6 - c.2.2) ≤ D) (hQ : HS S R p t J g nk nm A b c G0 S0 (pGua t f blk (zn S0) res c (zaj (zan S0) j)) Q) : XC xms (D + 1) 66 [.ref R, .int (nI (zn S0)), .int (nI res)] G1 Q := by
  have hK : ∀ {pc rest L st} z G', Q (.inr z) G' → XK xms D 66 pc rest L st Q (.inr z) G' := fun {pc rest L st} z G' h => Eq.mpr (zX2_guard (d := D) (pc := pc) (z := z) (L := L) (G := G') (Q := Q)) h
  have hC := h.1
  have h80 := hC.2.2.2.2.2.1
  have h801 : zn S0 + 1 ≤ 80 := by omega
  have hcl := hC.2.2.1.2.2.2.1
  obtain ⟨gu, f82, f94, f38, ft⟩ := g_guard (G := Sno G1 31 7) (z := Gtp G1) (n := nI (zn S0)) (r := nI res) (Nat.lt_succ_self _) (if_pos rfl) (if_pos rfl) (if_pos rfl)
  have hd : ∀ Q, XC xms D 257 [.ref (Gtp G1), .int (nI (zn S0)), .int (nI res)] (Sno G1 31 7) Q = Q (.inl none) (n_guard (Sno G1 31 7) (Gtp G1) (nI (zn S0)) (nI res)) := fun Q => d_guard (by omega) (if_pos rfl) (Nat.lt_succ_self _)
  have k0 : KQ (fun a => False ∨ Gtp G1 ≤ a) (1 + 2) (7 + 4) G1 (n_guard (Sno G1 31 7) (Gtp G1) (nI (zn S0)) (nI res)) := KQ.no.trans (q_guard (.inr (Nat.le_refl _)))
  have et : Gtp (Sno G1 31 7) = Gtp G1 + 1 := rfl
  rw [et] at gu ft
  have w1 : WH S R p t J g nk nm A b c G0 S0 6 [Gtp G1, Gtp G1 + 1, Gtp G1 + 1 + 1] (Gtp G1) _ c _ [] [] (n_guard (Sno G1 31 7) (Gtp G1) (nI (zn S0)) (nI res)) (zaj (zan S0) j) := h.mk hj (by omega) (by omega) k0.new (by omega) (Sh.tok hC.2.2.2.2.2.2.2 (Nat.le_of_lt hj) h801) (fun x hx => by
    rw [ft]
    simp only [List.mem_cons, List.not_mem_nil, or_false] at hx
    omega) (by simp)
  rw [XC_s]
  simp (disch := first | omega | exact cI _ | exact cR _ | exact cK | exact cU | exact cO _ | exact cL _) only [oS, uS.2, Nat.reduceAdd, Nat.reduceSub, Nat.reduceMul, Nat.reduceLeDiff, Nat.reduceEqDiff, Nat.add_sub_cancel, xS, gS, nL, nS, dS, fX2_guard_0, mX2_guard, zX2_guard, h.gk, hd, w1.gk]
  generalize n_guard (Sno G1 31 7) (Gtp G1) (nI (zn S0)) (nI res) = G2 at w1 gu f82 f94 f38 ⊢
  generalize Gtp G1 = z at w1 gu f82 f94 f38 ⊢
  have ox : okC c (zaj (zan S0) j) := ⟨by show c.1 = 999 ∨ c.1 < zn S0 + 1; have := hcl.1; omega, hcl.2.1, hcl.2.2.1, h801⟩
  unfold pGua at hQ
  refine y_block w1 hb hsh (by show J < j + m; omega) ox hD hQ hK (fun r A2 y0 G3 hA w2 hj2 q1 q2 hQ => ?_)
  have hj2 : j < zj r.1 := hj2
  have o2 := w2.ob
  have z2 := o2 z (by simp)
  have k2 := o2 (z + 1) (by simp)
  have c2 := o2 (z + 1 + 1) (by simp)
  obtain ⟨u1, u2, u3, u4, u5, u6, u7, u8, u9, u10, u11, u12, u13⟩ := gu
  have hkz : Gkd G3 z = 32 := z2.1.trans u1
  have w3 := (w2.ow (rv' := 6) (own' := [z, z + 1, z + 1 + 1]) (KQ.fr (f := 1135) (a := z) (v := some y0) (P := fun a => a = z) rfl) (fun a e => by rw [e]; simp) (by omega) (by omega) (fun x hx => .inl hx) (by simp)).rb
  have zl := w3.zl
  have kl := w3.ol (z + 1) (by simp)
  have cl := w3.ol (z + 1 + 1) (by simp)
  have i3 : GI (Sfr G3 1135 z (some y0)) z (z + 1) (z + 1 + 1) 2 (zn S0) res y0 r.2 [] [(y0, r.2)] := ⟨⟨hkz, (z2.2.2.1 95).1.trans u2, (Sfr_o (by decide)).trans ((z2.2.2.1 1136).2.trans u3), k2.1.trans u4, k2.2.1.trans u5, (Sfr_o (by decide)).trans ((z2.2.2.1 1137).2.trans u6), c2.1.trans u7, c2.2.1.trans u8, by show 0 ≤ 2; omega, u10, zl.2, kl.2, cl.2⟩, fun i x hx => by simp at hx, (z2.2.2.1 82).1.trans f82, (z2.2.2.1 94).1.trans f94, if_pos ⟨rfl, rfl⟩, List.mem_cons_self .., (Sfr_o (by decide)).trans ((z2.2.2.1 1138).2.trans f38), by omega, by omega, by omega⟩
  have hks : hsK (zh r.1) (zn S0) = ([] : List (Int32 × List Nat)).map (·.1) := by
    obtain ⟨-, -, -, -, -, ⟨hs, e1, e2, e3, -⟩, -⟩ := q1
    have e1 : zh r.1 = zh S0 ++ hs := e1
    have n9 := hsK_no e3
    have hh := hC.2.2.1.2.2.1
    rw [e1, hsK_app, hsK_nil (hs := hs) (fun x hx e => by
      have r1 : zn S0 + 1 ≤ x.1 ∧ x.1 < zn r.1 := (e2 x hx).resolve_left (n9 x hx)
      omega), hsK_nil (hs := zh S0) (fun x hx e => by have := hh x hx; omega)]
    rfl
  have hJ3 := w3.lJ
  -- the end
  have fin0 : ∀ Z l G A' Bs z ka ca L (o : Option (List Nat)), WH S R p t J g nk nm A b c G0 S0 6 [z, ka, ca] z G c A' [] Bs G Z → GU G z l.length ka ca L → (∀ (i : Nat) (x : Int32 × List Nat), l[i]? = some x → Gai G ka i = x.1 ∧ ∃ y, Gar G ca i = some y ∧ (y, x.2) ∈ Bs) → Gfi G 82 z = nI (zn S0) → Gfi G 94 z = nI res → Gfr G 1135 z = some y0 → (y0, r.2) ∈ Bs → (match o with
      | none => Gfr G 1138 z = none
      | some f => ∃ y, Gfr G 1138 z = some y ∧ (y, f) ∈ Bs) → oZ S R p t J g nk nm A b c G0 S0 (zaT Z (tset (zT Z) (zn S0) (if res = 0 then 16 else 17) (nI res) 0 [] [] r.2 o l)) (.inl (some (.ref z))) G := by
    intro Z l G A' Bs z ka ca L o w gu1 gl1 e82 e94 e35 eb e38
    have kl1 := w.ol ka (by simp)
    have cl1 := w.ol ca (by simp)
    refine w.fin (k := if res = 0 then 16 else 17) (a := nI res) (b' := 0) (e1 := []) (e2 := []) (l := r.2) (o := o) (cs := l) e82 (fun _ hB => ?_)
    have main : SK G (Gtp G0) A' z (nI res) 0 [] [] r.2 o l 16 := by
      refine ⟨gu1.1, e94, by rw [e35]; exact hB _ eb, ?_, ⟨ka, ca, L, gu1, kl1.1, cl1.1, fun i x hx => ?_⟩⟩
      · cases o with
        | none => exact e38
        | some f =>
          obtain ⟨y, e1, e2⟩ := e38
          show BA G (Gtp G0) A' (Gfr G 1138 z) f
          rw [e1]
          exact hB _ e2
      · obtain ⟨e1, y, e2, e3⟩ := gl1 i x hx
        exact ⟨e1, by rw [e2]; exact hB _ e3⟩
    by_cases e0 : res = 0
    · rw [if_pos e0]
      exact main
    · rw [if_neg e0]
      exact main
  have hEx : ∀ F', F' = (fun q : Zs × List (Int32 × List Nat) => if zK t (zj q.1) = 2 ∧ zV t (zj q.1) = 19 then zb (blk c (zaj q.1 (zj q.1 + 1))) (fun z : Zs × List Nat => (.inr (zaT z.1 (tset (zT z.1) (zn S0) (if res = 0 then 16 else 17) (nI res) 0 [] [] r.2 (some z.2) q.2)) : Ft ⊕ Zs))
      else .inr (zaT q.1 (tset (zT q.1) (zn S0) (if res = 0 then 16 else 17) (nI res) 0 [] [] r.2 none q.2))) → ∀ Z l G A' Bs z ka ca L x4 x5 x6, WH S R p t J g nk nm A b c G0 S0 6 [z, ka, ca] z G c A' [] Bs G Z → GI G z ka ca L (zn S0) res y0 r.2 l Bs → J < zj Z + m → HS S R p t J g nk nm A b c G0 S0 (F' (Z, l)) Q → ¬ (zK t (zj Z) = 2 ∧ zV t (zj Z) = 18) → XL xms D 66 156 [.ref R, .int (nI (zn S0)), .int (nI res), .ref z, x4, x5, x6] [] G Q := by
    intro F' eF Z l G A' Bs z ka ca L x4 x5 x6 w hi hm hQ c18
    rw [eF] at hQ
    have hQ : HS S R p t J g nk nm A b c G0 S0 (if zK t (zj Z) = 2 ∧ zV t (zj Z) = 19 then zb (blk c (zaj Z (zj Z + 1))) (fun z : Zs × List Nat => (.inr (zaT z.1 (tset (zT z.1) (zn S0) (if res = 0 then 16 else 17) (nI res) 0 [] [] r.2 (some z.2) l)) : Ft ⊕ Zs))
      else .inr (zaT Z (tset (zT Z) (zn S0) (if res = 0 then 16 else 17) (nI res) 0 [] [] r.2 none l))) Q := hQ
    have ch : ∀ Q, XC xms D 62 [.ref R, .int (nI 19)] G Q = Q (.inl (some (.int (if zK t (zj Z) = 2 ∧ zV t (zj Z) = 19 then nI 1 else nI 0)))) (if zK t (zj Z) = 2 ∧ zV t (zj Z) = 19 then Sfi G 5 R (nI (zj Z + 1)) else G) := fun Q => d_has w.re (by omega) (by omega)
    obtain ⟨g1, g2, g3, g4, g5, g6, g7, g8, g9, g10⟩ := hi
    rw [fX2_guard_156]
    by_cases c19 : zK t (zj Z) = 2 ∧ zV t (zj Z) = 19
    · rw [if_pos c19] at hQ
      simp only [if_pos c19] at ch
      have w4 : WH S R p t J g nk nm A b c G0 S0 6 [z, ka, ca] z G c A' [] Bs (Sfi G 5 R (nI (zj Z + 1))) (zaj Z (zj Z + 1)) := w.nx (show zK t (zj Z) ≠ 0 by omega)
      simp (disch := first | omega | exact cI _ | exact cR _ | exact cK | exact cU | exact cO _ | exact cL _) only [oS, uS.2, Nat.reduceAdd, Nat.reduceSub, Nat.reduceMul, Nat.reduceLeDiff, Nat.reduceEqDiff, Nat.add_sub_cancel, xS, gS, nL, nS, dS, mX2_guard, zX2_guard, w.gk, ch]
      generalize Sfi G 5 R (nI (zj Z + 1)) = G4 at w4 ⊢
      have ox4 : okC c (zaj Z (zj Z + 1)) := w.pzz.2.2.2.1
      refine y_block w4 hb hsh (by show J < zj Z + 1 + m; omega) ox4 hD hQ hK (fun r5 A5 y5 G5 hA5 w5 hj5 q15 q25 hQ => ?_)
      have o5 := w5.ob
      have z5 := o5 z (by simp)
      have k5 := o5 ka (by simp)
      have c5 := o5 ca (by simp)
      obtain ⟨u1, u2, u3, u4, u5, u6, u7, u8, u9, u10, u11, u12, u13⟩ := g1
      have hkz5 : Gkd G5 z = 32 := z5.1.trans u1
      have w6 := (w5.ow (rv' := 6) (own' := [z, ka, ca]) (KQ.fr (f := 1138) (a := z) (v := some y5) (P := fun a => a = z) rfl) (fun a e => by rw [e]; simp) (by omega) (by omega) (fun x hx => .inl hx) (by simp)).rb
      have fin := fin0 r5.1 l _ A5 _ z ka ca L (some r5.2) w6 ⟨hkz5, (z5.2.2.1 95).1.trans u2, (Sfr_o (by decide)).trans ((z5.2.2.1 1136).2.trans u3), k5.1.trans u4, k5.2.1.trans u5, (Sfr_o (by decide)).trans ((z5.2.2.1 1137).2.trans u6), c5.1.trans u7, c5.2.1.trans u8, u9, u10, (w6.ol z (by simp)).2, (w6.ol ka (by simp)).2, (w6.ol ca (by simp)).2⟩ (fun i x hx => by
        obtain ⟨e1, y, e2, e3⟩ := g2 i x hx
        exact ⟨(k5.2.2.2 i).1.trans e1, y, (c5.2.2.2 i).2.trans e2, List.mem_cons_of_mem _ e3⟩) ((z5.2.2.1 82).1.trans g3) ((z5.2.2.1 94).1.trans g4) ((Sfr_o (by decide)).trans ((z5.2.2.1 1135).2.trans g5)) (List.mem_cons_of_mem _ g6) ⟨y5, if_pos ⟨rfl, rfl⟩, List.mem_cons_self ..⟩
      simp (disch := first | omega | exact cI _ | exact cR _ | exact cK | exact cU | exact cO _ | exact cL _) only [oS, uS.2, Nat.reduceAdd, Nat.reduceSub, Nat.reduceMul, Nat.reduceLeDiff, Nat.reduceEqDiff, Nat.add_sub_cancel, xS, gS, nL, nS, dS, fX2_guard_173, mX2_guard, zX2_guard, hkz5]
      exact hQ _ _ fin
    · rw [if_neg c19] at hQ
      simp only [if_neg c19] at ch
      have fin := fin0 Z l G A' Bs z ka ca L none w g1 g2 g3 g4 g5 g6 g7
      have := hQ _ _ fin
      simp (disch := first | omega | exact cI _ | exact cR _ | exact cK | exact cU | exact cO _ | exact cL _) only [oS, uS.2, Nat.reduceAdd, Nat.reduceSub, Nat.reduceMul, Nat.reduceLeDiff, Nat.reduceEqDiff, Nat.add_sub_cancel, xS, gS, nL, nS, dS, fX2_guard_173, mX2_guard, zX2_guard, w.gk, ch, this]
  have loop : HS S R p t J g nk nm A b c G0 S0 (zb (pCat t blk (zn S0) c f r.1 []) (fun q : Zs × List (Int32 × List Nat) => if zK t (zj q.1) = 2 ∧ zV t (zj q.1) = 19 then zb (blk c (zaj q.1 (zj q.1 + 1))) (fun z : Zs × List Nat => (.inr (zaT z.1 (tset (zT z.1) (zn S0) (if res = 0 then 16 else 17) (nI res) 0 [] [] r.2 (some z.2) q.2)) : Ft ⊕ Zs))
      else .inr (zaT q.1 (tset (zT q.1) (zn S0) (if res = 0 then 16 else 17) (nI res) 0 [] [] r.2 none q.2)))) Q → XL xms D 66 49 [.ref R, .int (nI (zn S0)), .int (nI res), .ref z, xjk, xjk, xjk] [] (Sfr G3 1135 z (some y0)) Q := fun hQ => d_cat hb hsh hD (hEx _ rfl) f r.1 [] _ A2 _ z (z + 1) (z + 1 + 1) 2 xjk xjk xjk w3 i3 hks (by omega) (by omega) hQ
  have n1 := fun Q => d_need1 (D := D) (Q := Q) w3.re (by omega)
  have n0 := fun Q => d_need0 (D := D) (Q := Q) w3.re (by omega)
  have hg3 := w2.gk
  by_cases er : res = 0
  · subst er
    have cw18 := fun Q => d_isWord (D := D) (w := 18) (Q := Q) w3.re (by omega) (by omega)
    have cw19 := fun Q => d_isWord (D := D) (w := 19) (Q := Q) w3.re (by omega) (by omega)
    by_cases c18 : zK t (zj r.1) = 2 ∧ zV t (zj r.1) = 18
    · rw [if_neg (by omega)] at hQ
      have := loop hQ
      simp only [if_pos c18] at cw18
      simp (disch := first | omega | exact cI _ | exact cR _ | exact cK | exact cU | exact cO _ | exact cL _) only [oS, uS.2, Nat.reduceAdd, Nat.reduceSub, Nat.reduceMul, Nat.reduceLeDiff, Nat.reduceEqDiff, Nat.add_sub_cancel, xS, gS, nL, nS, dS, fX2_guard_41, fX2_guard_46, mX2_guard, zX2_guard, hkz, hg3, cw18, n1, this]
    · simp only [if_neg c18] at cw18
      by_cases c19 : zK t (zj r.1) = 2 ∧ zV t (zj r.1) = 19
      · rw [if_neg (by omega)] at hQ
        have := loop hQ
        simp only [if_pos c19] at cw19
        simp (disch := first | omega | exact cI _ | exact cR _ | exact cK | exact cU | exact cO _ | exact cL _) only [oS, uS.2, Nat.reduceAdd, Nat.reduceSub, Nat.reduceMul, Nat.reduceLeDiff, Nat.reduceEqDiff, Nat.add_sub_cancel, xS, gS, nL, nS, dS, fX2_guard_41, fX2_guard_46, mX2_guard, zX2_guard, hkz, hg3, cw18, cw19, n1, this]
      · rw [if_pos (by omega)] at hQ
        simp only [if_neg c19] at cw19
        obtain ⟨c1, u1, kk, kc, ku⟩ := w3.kq
        have this : Q (.inr (Gtp G3)) (fG g (Sfr G3 1135 z (some y0)) 1 (zP t (zj r.1))) := w_flt (g := g) hQ rfl kk (by omega) (by omega)
        simp (disch := first | omega | exact cI _ | exact cR _ | exact cK | exact cU | exact cO _ | exact cL _) only [oS, uS.2, Nat.reduceAdd, Nat.reduceSub, Nat.reduceMul, Nat.reduceLeDiff, Nat.reduceEqDiff, Nat.add_sub_cancel, xS, gS, nL, nS, dS, fX2_guard_45, fX2_guard_46, mX2_guard, zX2_guard, hkz, hg3, cw18, cw19, n0, this]
  · rw [if_neg (by omega)] at hQ
    have := loop hQ
    have er1 : 0 < res := by omega
    simp (disch := first | omega | exact cI _ | exact cR _ | exact cK | exact cU | exact cO _ | exact cL _) only [oS, uS.2, Nat.reduceAdd, Nat.reduceSub, Nat.reduceMul, Nat.reduceLeDiff, Nat.reduceEqDiff, Nat.add_sub_cancel, xS, gS, nL, nS, dS, fX2_guard_41, fX2_guard_46, mX2_guard, zX2_guard, hkz, hg3, er, er1, n1, this]
end GU4
