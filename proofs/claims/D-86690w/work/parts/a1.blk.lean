set_option maxRecDepth 100000
section BLK
variable {D S R p : Nat} {t : Tks} {j J f nk nm b m m' : Nat} {g : Nat → Option Nat} {A : Nat → Nat} {c : Cx} {S0 Z1 Z : Zs} {G0 G G1 G2 : XG} {Q : (Option Value ⊕ Nat) → XG → Prop} {blk : StF}
theorem RY.pl {b' : Nat} (h : RY G R p nk nm A b c Z) : RY (Sfi G 10 R (nI b')) R p nk nm A b' c Z := by
  obtain ⟨a1, a2, a3, a4, a5, a6, a7, a8, a9, a10, a11, a12, a13, a14⟩ := h
  have fo : ∀ x a, x ≠ 10 → Gfi (Sfi G 10 R (nI b')) x a = Gfi G x a := fun x a e => if_neg (fun q => e q.1)
  exact ⟨a1, a2, (fo 7 R (by decide)).trans a3, (fo 6 R (by decide)).trans a4, (fo 8 R (by decide)).trans a5, a6, (fo 9 R (by decide)).trans a7, ⟨(fo 11 R (by decide)).trans a8.1, a8.2⟩, if_pos ⟨rfl, rfl⟩, (fo 12 p (by decide)).trans a10, (fo 13 p (by decide)).trans a11, (fo 14 p (by decide)).trans a12, ⟨(fo 15 p (by decide)).trans a13.1, a13.2⟩, a14⟩
theorem RY.ar {i : Nat} {v : Option Nat} (h : RY G R p nk nm A b c Z) : RY (Sar G (R + 1) i v) R p nk nm A b c Z := by
  obtain ⟨a1, a2, a3, a4, a5, a6, a7, a8, a9, a10, a11, a12, a13, a14⟩ := h
  exact ⟨a1, a2, a3, a4, a5, a6, a7, a8, a9, a10, a11, a12, ⟨a13.1, fun j x hx => ⟨(if_neg (by omega)).trans (a13.2 j x hx).1, (a13.2 j x hx).2⟩⟩, a14⟩
/-- what reading statements comes to -/
def tS' (S R p : Nat) (t : Tks) (J : Nat) (g : Nat → Option Nat) (nk nm : Nat) (A : Nat → Nat) (b : Nat) (c : Cx) (G : XG) (Z : Zs) (r : Zs × List Nat) (o : Option Value ⊕ Nat) (G' : XG) : Prop := ∃ A' z, o = .inl (some (.ref z)) ∧ (∀ x, x < zn Z → A' x = A x) ∧ KQ (rP R p) (10 * (zj r.1 - zj Z) + 1) (400 * (zj r.1 - zj Z) + 80) G G' ∧ kE G G' (p + 3) (zn Z) ∧ kE G G' (R + 1) b ∧ RE G' S R p t J g (zj r.1) ∧ RY G' R p nk nm A' b c r.1 ∧ SA G' (Gtp G) p A' (zT r.1) (zn Z) (zn r.1) ∧ BA G' (Gtp G) A' (some z) r.2
/-- statements on the way -/
def WT (S R p : Nat) (t : Tks) (J : Nat) (g : Nat → Option Nat) (nk nm : Nat) (A : Nat → Nat) (b : Nat) (c : Cx) (G0 : XG) (Z0 : Zs) (A' : Nat → Nat) (l : List Nat) (G : XG) (Z : Zs) : Prop := (∀ x, x < zn Z0 → A' x = A x) ∧ KQ (rP R p) (10 * (zj Z - zj Z0)) (400 * (zj Z - zj Z0)) G0 G ∧ zj Z0 ≤ zj Z ∧ kE G0 G (p + 3) (zn Z0) ∧ kE G0 G (R + 1) b ∧ RE G S R p t J g (zj Z) ∧ RY G R p nk nm A' (b + l.length) c Z ∧ SA G (Gtp G0) p A' (zT Z) (zn Z0) (zn Z) ∧ Sh t 999 [] Z0 Z ∧ l.length + zn Z0 ≤ zn Z ∧ (∀ x, x ∈ l → x < zn Z) ∧ ∀ (i x : Nat), l[i]? = some x → Gar G (R + 1) (b + i) = some (A' x) ∧ Gkd G (A' x) ∈ [19, 21, 22, 23, 24, 25, 26, 27, 28, 29, 30, 31, 32] ∧ A' x < Gtp G
def TT (S R p : Nat) (t : Tks) (J : Nat) (g : Nat → Option Nat) (nk nm f m : Nat) : Prop := ∀ A b c G D Z Q, RE G S R p t J g (zj Z) → RY G R p nk nm A b c Z → pz b c Z → c.2.1 ≤ c.2.2 → J < zj Z + m → 50 + 10 * (6 - c.2.2) ≤ D → HC (rP R p) (10 * (J + 1 - zj Z)) (400 * (J + 1 - zj Z)) G (tS' S R p t J g nk nm A b c G Z) (pStms t f m c Z) Q → XC xms (D + 1) 51 [.ref R] G Q
theorem o_stms (ht : tV t) (hf : J < f) (hJ : J ≤ 200) (hnk : nk ≤ 16) (hb : ∀ k, k < m → XBk S R p t J g nk nm (pBlk t (pStms t f k)) k) : TT S R p t J g nk nm f m := by
  intro A b c G0 D Z0 Q hr0 hy0 hpz hlp hm hD hQ0
  have hK : ∀ {pc rest L st} z G', Q (.inr z) G' → XK xms D 51 pc rest L st Q (.inr z) G' := fun {pc rest L st} z G' h => Eq.mpr (zX2_statements (d := D) (pc := pc) (z := z) (L := L) (G := G') (Q := Q)) h
  have h10 : Gfi G0 10 R = nI b := hy0.2.2.2.2.2.2.2.2.1
  have hb80 : b ≤ 80 := by have := hpz.2.2.2.2; have := hpz.2.2.2.1.2.2.2; omega
  have hRp := hy0.2.1
  have hpt := hy0.1.t
  have lp : ∀ k Z l G A' x2, k ≤ m → WT S R p t J g nk nm A b c G0 Z0 A' l G Z → J < zj Z + k → HC (rP R p) (10 * (J + 1 - zj Z0)) (400 * (J + 1 - zj Z0)) G0 (tS' S R p t J g nk nm A b c G0 Z0) (zb (pStms t f k c Z) (fun r => .inr (r.1, l ++ r.2))) Q → XL xms D 51 5 [.ref R, .int (nI b), x2] [] G Q := by
    intro k
    induction k with
    | zero =>
      intro Z l G A' x2 _ w hk
      have := w.2.2.2.2.2.1.lJ
      omega
    | succ k ih =>
      intro Z l G A' x2 hkm w hk hQ
      obtain ⟨w1, w2, w3, w4, w5, w6, w7, w8, w9, w10, w11, w12⟩ := w
      have hjJ := w6.lJ
      have hg := w6.1.2.1
      have hl := w6.1
      unfold RD SL at hl
      have hpzZ : pz b c Z := hpz.sh w9 (.inl rfl) (fun _ => rfl)
      have cb := fun Q => c_begins (D := D) (Q := Q) w6 (by omega)
      have hn80 := hpzZ.2.2.2.1.2.2.2
      have h10 : Gfi G 10 R = nI (b + l.length) := w7.2.2.2.2.2.2.2.2.1
      have hbl : b + l.length ≤ zn Z := by have := hpz.2.2.2.2; omega
      rw [fX2_statements_5]
      by_cases cbg : begins t (zj Z) = true
      · have e : pStms t f (k + 1) c Z = zb (pStm t f (pBlk t (pStms t f k)) c Z) (fun S1 => zb (pStms t f k c S1) (fun r => .inr (r.1, zn Z :: r.2))) := if_pos cbg
        rw [e] at hQ
        simp only [if_pos cbg] at cb
        have hpzb : pz (b + l.length) c Z := ⟨hpzZ.1, hpzZ.2.1, hpzZ.2.2.1, hpzZ.2.2.2.1, hbl⟩
        simp (disch := first | omega | exact cI _ | exact cR _ | exact cK | exact cU | exact cO _ | exact cL _) only [oS, uS.2, Nat.reduceAdd, Nat.reduceSub, Nat.reduceMul, Nat.reduceLeDiff, Nat.reduceEqDiff, Nat.add_sub_cancel, xS, gS, nL, nS, dS, mX2_statements, zX2_statements, hg, hl, cb, h10]
        obtain ⟨D, rfl⟩ : ∃ d, D = d + 1 := ⟨D - 1, by omega⟩
        refine o_stm w6 w7 hpzb hlp ht hJ hnk cbg hf (hb k (by omega)) (stms_sh ht k).2 (by omega) (by omega) (fun o G' ho => ?_)
        cases hp : pStm t f (pBlk t (pStms t f k)) c Z with
        | inl e =>
          rw [hp] at ho hQ
          obtain ⟨k1, z, rfl, k2⟩ := ho
          exact hK _ _ (hQ _ _ ⟨(w2.trans k1).mono (fun _ q => q) (by omega) (by omega), z, rfl, k2⟩)
        | inr Z' =>
          rw [hp] at ho hQ
          obtain ⟨A2, z, rfl, b1, b2, b3, b4, b5, b6, b7, b8⟩ := ho
          obtain ⟨q1, q2, q3, -⟩ := stm_sh ht (stms_sh ht k).2 hpzZ.2.2.2.1 hlp hp
          have hn80' := q1.2.2.1
          have tf := q1.2.2.2.1
          obtain ⟨d1, d2⟩ := b8 (zn Z) (Nat.le_refl _) q2
          have kd := d2.kd
          rw [b2] at kd
          have zlt : z < Gtp G' := by have := d2.2.1; rw [b2] at this; exact this
          have hp3 := w2.2.1
          have h10' : Gfi G' 10 R = nI (b + l.length) := b7.2.2.2.2.2.2.2.2.1
          have hl' := b6.1
          unfold RD SL at hl'
          have kdt : xrfk G' [19, 21, 22, 23, 24, 25, 26, 27, 28, 29, 30, 31, 32] (some z) = true := decide_eq_true kd
          have kk : KQ (rP R p) 0 0 G' (Sfi (Sar G' (R + 1) (b + l.length) (some z)) 10 R (nI (b + l.length + 1))) := (KQ.ar (.inl ⟨by omega, by omega⟩)).trans (KQ.fi (.inl ⟨by omega, by omega⟩))
          have kq2 : KQ (fun a => a = R ∨ a = R + 1) 0 0 G' (Sfi (Sar G' (R + 1) (b + l.length) (some z)) 10 R (nI (b + l.length + 1))) := (KQ.ar (.inr rfl)).trans (KQ.fi (.inl rfl))
          have w' : WT S R p t J g nk nm A b c G0 Z0 A2 (l ++ [zn Z]) (Sfi (Sar G' (R + 1) (b + l.length) (some z)) 10 R (nI (b + l.length + 1))) Z' := by
            have hZ0 := w9.2.1
            have hl2 : (l ++ [zn Z]).length = l.length + 1 := by rw [List.length_append]; rfl
            refine ⟨fun x hx => (b1 x (by omega)).trans (w1 x hx), ((w2.trans b3).trans kk).mono (fun _ q => q) (by omega) (by omega), by omega, (w4.trans b4 (by omega)).trans (fun i hi => if_neg (by omega)) (Nat.le_refl _), (w5.trans b5 (by omega)).trans (fun i hi => if_neg (by omega)) (Nat.le_refl _), ?_, ?_, fun s s1 s2 => ?_, w9.trans q1 (.inr rfl), by omega, fun x hx => ?_, fun i x hx => ?_⟩
            · exact b6.ar.f (by decide)
            · rw [hl2]
              have b7' : RY (Sar G' (R + 1) (b + l.length) (some z)) R p nk nm A2 (b + l.length) c Z' := b7.ar
              exact b7'.pl
            · by_cases e : s < zn Z
              · obtain ⟨e1, e2⟩ := w8 s s1 e
                refine ⟨(if_neg (by omega)).trans ((b4 s e).trans (e1.trans (congrArg some (b1 s e).symm))), ?_⟩
                have e3 := (e2.kq b3 (fun a h1 h2 => by unfold rP at h2; omega)).A (w9.2.2.2.2.2.2.1 s s1 e) (by omega) e b1 (tf.1 s e)
                exact e3.kq kq2 (fun a h1 h2 => by omega)
              · obtain ⟨e1, e2⟩ := b8 s (by omega) s2
                exact ⟨(if_neg (by omega)).trans e1, (SO.lo hp3 e2).kq kq2 (fun a h1 h2 => by omega)⟩
            · rcases List.mem_append.mp hx with hx | hx
              · have := w11 x hx
                omega
              · rw [List.mem_singleton.mp hx]
                exact q2
            · show (if R + 1 = R + 1 ∧ b + i = b + l.length then some z else Gar G' (R + 1) (b + i)) = some (A2 x) ∧ Gkd G' (A2 x) ∈ _ ∧ A2 x < Gtp G'
              by_cases e : i < l.length
              · rw [List.getElem?_append_left e] at hx
                obtain ⟨e1, e2, e3⟩ := w12 i x hx
                have ex := w11 x (List.mem_of_getElem? hx)
                rw [if_neg (by omega), b5 (b + i) (by omega), b1 x ex, (b3.2.2.2.2.1 _ e3).1]
                exact ⟨e1, e2, Nat.lt_of_lt_of_le e3 b3.2.1⟩
              · rw [List.getElem?_append_right (by omega)] at hx
                have e2 : i = l.length := by
                  rcases Nat.lt_or_ge l.length i with q | q
                  · rw [show i - l.length = (i - l.length - 1) + 1 by omega] at hx
                    simp at hx
                  · omega
                rw [e2, Nat.sub_self] at hx
                simp at hx
                rw [e2, ← hx, if_pos ⟨rfl, rfl⟩, b2]
                exact ⟨rfl, kd, zlt⟩
          have := ih Z' (l ++ [zn Z]) _ A2 x2 (by omega) w' (by omega) (fun o G'' h => hQ o G'' (by
            have e : zb (zb (Sum.inr Z' : Ft ⊕ Zs) (fun S1 => zb (pStms t f k c S1) (fun r : Zs × List Nat => (.inr (r.1, zn Z :: r.2) : Ft ⊕ (Zs × List Nat))))) (fun r : Zs × List Nat => (.inr (r.1, l ++ r.2) : Ft ⊕ (Zs × List Nat))) = zb (pStms t f k c Z') (fun r : Zs × List Nat => (.inr (r.1, l ++ [zn Z] ++ r.2) : Ft ⊕ (Zs × List Nat))) := by
              show zb (zb (pStms t f k c Z') _) _ = _
              rw [zb_assoc]
              congr 1
              funext r
              show (Sum.inr (r.1, l ++ (zn Z :: r.2)) : Ft ⊕ (Zs × List Nat)) = _
              rw [List.append_assoc]
              rfl
            rw [e]
            exact h))
          have hbl2 : b + l.length < 80 := by omega
          simp (disch := first | omega | exact cI _ | exact cR _ | exact cK | exact cU | exact cO _ | exact cL _) only [oS, uS.2, Nat.reduceAdd, Nat.reduceSub, Nat.reduceMul, Nat.reduceLeDiff, Nat.reduceEqDiff, Nat.add_sub_cancel, xS, gS, nL, nS, dS, mX2_statements, zX2_statements, hl', h10', kdt, hbl2, this]
      · have e : pStms t f (k + 1) c Z = .inr (Z, []) := if_neg cbg
        rw [e] at hQ
        simp only [if_neg cbg] at cb
        have hQ : HC (rP R p) (10 * (J + 1 - zj Z0)) (400 * (J + 1 - zj Z0)) G0 (tS' S R p t J g nk nm A b c G0 Z0) (.inr (Z, l)) Q := by
          have e : zb (Sum.inr (Z, []) : Ft ⊕ (Zs × List Nat)) (fun r : Zs × List Nat => (.inr (r.1, l ++ r.2) : Ft ⊕ (Zs × List Nat))) = .inr (Z, l) := by
            show (Sum.inr (Z, l ++ []) : Ft ⊕ (Zs × List Nat)) = _
            rw [List.append_nil]
          rw [e] at hQ
          exact hQ
        have hl80 : l.length ≤ 80 := by omega
        have q3 : (∀ i, i < l.length → xrfk (Sna G 4 l.length) [19, 21, 22, 23, 24, 25, 26, 27, 28, 29, 30, 31, 32] (Gar G (R + 1) (b + i)) = true) = True := by
          refine eq_true (fun i hi => ?_)
          obtain ⟨e1, e2, e3⟩ := w12 i l[i] (List.getElem?_eq_getElem hi)
          rw [e1]
          show decide (Gkd (Sna G 4 l.length) (A' l[i]) ∈ [19, 21, 22, 23, 24, 25, 26, 27, 28, 29, 30, 31, 32]) = true
          have e4 : Gkd (Sna G 4 l.length) (A' l[i]) = Gkd G (A' l[i]) := if_neg (by omega)
          rw [e4]
          exact decide_eq_true e2
        have hRt := w6.R
        have q1 : Gar (Sna G 4 l.length) (Gtp G) = fun _ => none := funext fun i => by rw [h_SnaGar, if_pos rfl]
        have q2 : Gar (Sna G 4 l.length) (R + 1) = Gar G (R + 1) := funext fun i => by rw [h_SnaGar, if_neg (by omega)]
        have n1 : (R = Gtp G) = False := eq_false (by omega)
        have n2 : (R + 1 = Gtp G) = False := eq_false (by omega)
        have ks : KQ (fun a => a = R ∨ Gtp G ≤ a) (1 + 0 + 0) (l.length + 0 + 0) G (Sfi (Rar (Sna G 4 l.length) (Gtp G) (va_cpy (Gar G (R + 1)) (fun _ => none) b 0 l.length)) 10 R (nI b)) := (KQ.na.trans (KQ.rar (.inr (Nat.le_refl _)))).trans (KQ.fi (.inl rfl))
        have kn : KQ (fun a => a = R) (1 + 0 + 0) (l.length + 0 + 0) G (Sfi (Rar (Sna G 4 l.length) (Gtp G) (va_cpy (Gar G (R + 1)) (fun _ => none) b 0 l.length)) 10 R (nI b)) := ks.new
        have kf : KQ (fun a => False ∨ Gtp G ≤ a) (1 + 0) (l.length + 0) G (Rar (Sna G 4 l.length) (Gtp G) (va_cpy (Gar G (R + 1)) (fun _ => none) b 0 l.length)) := KQ.na.trans (KQ.rar (.inr (Nat.le_refl _)))
        have hG0 := w2.2.1
        have fin := hQ (.inl (some (.ref (Gtp G)))) (Sfi (Rar (Sna G 4 l.length) (Gtp G) (va_cpy (Gar G (R + 1)) (fun _ => none) b 0 l.length)) 10 R (nI b)) (by
          refine ⟨A', Gtp G, rfl, w1, (w2.trans (kn.mono (fun a q => by have q : a = R := q; exact .inl ⟨by omega, by omega⟩) (Nat.le_refl _) (Nat.le_refl _))).mono (fun _ q => q) (by show _ ≤ 10 * (zj Z - zj Z0) + 1; omega) (by show _ ≤ 400 * (zj Z - zj Z0) + 80; omega), fun i hi => ?_, fun i hi => ?_, ?_, ?_, fun s s1 s2 => ?_, ?_⟩
          · exact ((kn.2.2.2.2.2 (p + 3) (by omega) (by omega)).2 i).2.1.trans (w4 i hi)
          · exact ((kn.2.2.2.2.2 (R + 1) (by omega) (by omega)).2 i).2.1.trans (w5 i hi)
          · exact ((w6.kq kf.new (fun _ _ _ q => q)).f (by decide))
          · exact ((w7.kf kf.new (fun _ q => q.elim)).pl)
          · obtain ⟨e1, e2⟩ := w8 s s1 s2
            exact ⟨((kn.2.2.2.2.2 (p + 3) (by omega) (by omega)).2 s).2.1.trans e1, e2.kq kn (fun a h1 h2 => by omega)⟩
          · refine ⟨Gtp G, rfl, hG0, Nat.lt_succ_self _, if_pos rfl, if_pos rfl, fun i x hx => ?_⟩
            have hi : i < l.length := by
              rcases Nat.lt_or_ge i l.length with q | q
              · exact q
              · rw [List.getElem?_eq_none q] at hx
                cases hx
            have e1 : Gar (Sfi (Rar (Sna G 4 l.length) (Gtp G) (va_cpy (Gar G (R + 1)) (fun _ => none) b 0 l.length)) 10 R (nI b)) (Gtp G) i = va_cpy (Gar G (R + 1)) (fun _ => none) b 0 l.length i := if_pos rfl
            rw [e1, pk_cpy_in (by omega) (by omega), Nat.sub_zero]
            exact (w12 i x hx).1)
        simp (disch := first | omega | exact cI _ | exact cR _ | exact cK | exact cU | exact cO _ | exact cL _) only [oS, uS.2, Nat.reduceAdd, Nat.reduceSub, Nat.reduceMul, Nat.reduceLeDiff, Nat.reduceEqDiff, Nat.add_sub_cancel, xS, gS, nL, nS, dS, fX2_statements_38, mX2_statements, zX2_statements, hg, hl, cb, h10, hl80, hb80, n1, n2, q1, q2, q3, Nat.add_sub_cancel_left, fin]
  have w0 : WT S R p t J g nk nm A b c G0 Z0 A [] G0 Z0 := ⟨fun _ _ => rfl, KQ.refl.mono (fun _ q => q) (Nat.zero_le _) (Nat.zero_le _), Nat.le_refl _, kE.refl, kE.refl, hr0, hy0, fun s a b => by omega, Sh.tok (j := zj Z0) ht (Nat.le_refl _) hpz.2.2.2.1.2.2.2, by show 0 + zn Z0 ≤ zn Z0; omega, fun _ q => (List.not_mem_nil q).elim, fun i x hx => by simp at hx⟩
  have := lp m Z0 [] G0 A xjk (Nat.le_refl _) w0 hm (fun o G' h => hQ0 o G' (by
    have e : zb (pStms t f m c Z0) (fun r : Zs × List Nat => (.inr (r.1, [] ++ r.2) : Ft ⊕ (Zs × List Nat))) = pStms t f m c Z0 := by
      cases pStms t f m c Z0 with
      | inl e => rfl
      | inr r => rfl
    rw [e] at h
    exact h))
  rw [XC_s]
  simp (disch := first | omega | exact cI _ | exact cR _ | exact cK | exact cU | exact cO _ | exact cL _) only [oS, uS.2, Nat.reduceAdd, Nat.reduceSub, Nat.reduceMul, Nat.reduceLeDiff, Nat.reduceEqDiff, Nat.add_sub_cancel, xS, gS, nL, nS, dS, fX2_statements_0, mX2_statements, zX2_statements, hr0.1.2.1, h10, this]
theorem o_blk (hJ : J ≤ 200) (hT : TT S R p t J g nk nm f m) (ht : tV t) : XBk S R p t J g nk nm (pBlk t (pStms t f m)) m := by
  intro A b c G D Z Q hr hy hpz hm hD hQ
  obtain ⟨D, rfl⟩ : ∃ d, D = d + 1 := ⟨D - 1, by omega⟩
  have hK : ∀ {pc rest L st} z G', Q (.inr z) G' → XK xms D 65 pc rest L st Q (.inr z) G' := fun {pc rest L st} z G' h => Eq.mpr (zX2_block (d := D) (pc := pc) (z := z) (L := L) (G := G') (Q := Q)) h
  have hg := hr.1.2.1
  have ha := hr.2.2.2.1
  have hjJ := hr.lJ
  have hRp := hy.2.1
  have hpt := hy.1.t
  have h6 : Gfi G 6 R = nI c.2.2 := hy.2.2.2.1
  have hc := hpz.2.2.2.1
  have hc6 := hc.2.2.1
  have ck := fun Q => d_kind (D := D) (Q := Q) hr (by omega)
  have hb1 : zK t (zj Z) < 256 := (hr.2.1.2.2 _ hjJ).2.2.2.1
  have n1 := fun Q => d_need1 (D := D) (Q := Q) hr (by omega)
  have n0 := fun Q => d_need0 (D := D) (Q := Q) hr (by omega)
  have r1 := fun Q => d_room1 (D := D) (Q := Q) hr (by omega)
  have r0 := fun Q => d_room0 (D := D) (Q := Q) hr (by omega)
  unfold pBlk at hQ
  rw [XC_s]
  by_cases c1 : zK t (zj Z) = 123
  · rw [zN_1 c1] at hQ
    by_cases c6 : c.2.2 < 6
    · rw [if_neg (by omega)] at hQ
      have hJ1 : zj Z + 1 ≤ J := hr.nx (by omega)
      have hr1 : RE (Sfi (Sfi G 5 R (nI (zj Z + 1))) 6 R (nI (c.2.2 + 1))) S R p t J g (zj (zaj Z (zj Z + 1))) := (hr.at hJ1).f (by decide)
      have hy1 : RY (Sfi (Sfi G 5 R (nI (zj Z + 1))) 6 R (nI (c.2.2 + 1))) R p nk nm A b (c.1, c.2.1, c.2.2 + 1) (zaj Z (zj Z + 1)) := by
        obtain ⟨a1, a2, a3, a4, a5, a6, a7, a8, a9, a10, a11, a12, a13, a14⟩ := hy
        have fo : ∀ x a, x ≠ 6 → x ≠ 5 → Gfi (Sfi (Sfi G 5 R (nI (zj Z + 1))) 6 R (nI (c.2.2 + 1))) x a = Gfi G x a := fun x a e e2 => (if_neg (fun q => e q.1)).trans (if_neg (fun q => e2 q.1))
        exact ⟨a1, a2, (fo 7 R (by decide) (by decide)).trans a3, if_pos ⟨rfl, rfl⟩, (fo 8 R (by decide) (by decide)).trans a5, a6, (fo 9 R (by decide) (by decide)).trans a7, ⟨(fo 11 R (by decide) (by decide)).trans a8.1, a8.2⟩, (fo 10 R (by decide) (by decide)).trans a9, (fo 12 p (by decide) (by decide)).trans a10, (fo 13 p (by decide) (by decide)).trans a11, (fo 14 p (by decide) (by decide)).trans a12, ⟨(fo 15 p (by decide) (by decide)).trans a13.1, a13.2⟩, a14⟩
      have hpz1 : pz b (c.1, c.2.1, c.2.2 + 1) (zaj Z (zj Z + 1)) := ⟨hpz.1, by have := hpz.2.1; show 2 * (zh Z).length ≤ zj Z + 1; omega, hpz.2.2.1, ⟨hc.1, by show c.2.1 ≤ c.2.2 + 1 + 1; have := hc.2.1; omega, by show c.2.2 + 1 ≤ 6; omega, hc.2.2.2⟩, hpz.2.2.2.2⟩
      have kG : KQ (rP R p) 0 0 G (Sfi (Sfi G 5 R (nI (zj Z + 1))) 6 R (nI (c.2.2 + 1))) := (KQ.fi (.inl ⟨by omega, by omega⟩)).trans (KQ.fi (.inl ⟨by omega, by omega⟩))
      simp (disch := first | omega | exact cI _ | exact cR _ | exact cK | exact cU | exact cO _ | exact cL _) only [oS, uS.2, Nat.reduceAdd, Nat.reduceSub, Nat.reduceMul, Nat.reduceLeDiff, Nat.reduceEqDiff, Nat.add_sub_cancel, xS, gS, nL, nS, dS, fX2_block_0, fX2_block_15, fX2_block_33, mX2_block, zX2_block, hg, ha, h6, ck, c1, c6, n1, r1]
      obtain ⟨D, rfl⟩ : ∃ d, D = d + 1 := ⟨D - 1, by omega⟩
      refine hT A b (c.1, c.2.1, c.2.2 + 1) _ D (zaj Z (zj Z + 1)) _ hr1 hy1 hpz1 hc.2.1 (by show J < zj Z + 1 + m; omega) (by show 50 + 10 * (6 - (c.2.2 + 1)) ≤ D; omega) (fun o G' ho => ?_)
      cases hp : pStms t f m (c.1, c.2.1, c.2.2 + 1) (zaj Z (zj Z + 1)) with
      | inl e =>
        rw [hp] at ho hQ
        obtain ⟨k1, z, rfl, k2⟩ := ho
        have e1 : zj (zaj Z (zj Z + 1)) = zj Z + 1 := rfl
        rw [e1] at k1
        exact hK _ _ (hQ _ _ ⟨(kG.trans k1).mono (fun _ q => q) (by omega) (by omega), z, rfl, k2⟩)
      | inr r =>
        rw [hp] at ho hQ
        obtain ⟨A2, y, rfl, b1, b2, b3, b4, b5, b6, b7, b8⟩ := ho
        have e1 : zj (zaj Z (zj Z + 1)) = zj Z + 1 := rfl
        rw [e1] at b2
        obtain ⟨q1, -⟩ := (stms_sh ht m).1 _ _ r.1 r.2 hpz1.2.2.2.1 hc.2.1 hp
        have hj1 : zj Z + 1 ≤ zj r.1 := q1.1
        have hjr := b5.lJ
        have kGr := kG.trans b2
        have hg5 := b5.1.2.1
        simp (disch := first | omega | exact cI _ | exact cR _ | exact cK | exact cU | exact cO _ | exact cL _) only [oS, uS.2, Nat.reduceAdd, Nat.reduceSub, Nat.reduceMul, Nat.reduceLeDiff, Nat.reduceEqDiff, Nat.add_sub_cancel, xS, gS, nL, nS, dS, mX2_block, zX2_block, hg5]
        refine w_take (k := 125) b5 (by omega) (by omega) (by omega) kGr (by omega) (by omega) hQ hK (fun e2 j2 hr2 hQ => ?_)
        have h62 : Gfi (Sfi G' 5 R (nI (zj r.1 + 1))) 6 R = nI (c.2.2 + 1) := (Sfi_o (by decide)).trans b6.2.2.2.1
        have kl : KQ (fun a => a = R) (0 + 0) (0 + 0) G' (Sfi (Sfi G' 5 R (nI (zj r.1 + 1))) 6 R (nI c.2.2)) := KQ.fR.trans KQ.fR
        have fin := hQ (.inl (some (.ref y))) (Sfi (Sfi G' 5 R (nI (zj r.1 + 1))) 6 R (nI c.2.2)) (by
          have hGG := b2.2.1
          have e3 : Gtp (Sfi (Sfi G 5 R (nI (zj Z + 1))) 6 R (nI (c.2.2 + 1))) = Gtp G := rfl
          rw [e3] at hGG
          refine ⟨A2, y, rfl, b1, (kGr.trans (kl.mono (fun a q => by have q : a = R := q; exact .inl ⟨by omega, by omega⟩) (Nat.le_refl _) (Nat.le_refl _))).mono (fun _ q => q) (by show _ ≤ 10 * (zj r.1 + 1 - zj Z); omega) (by show _ ≤ 400 * (zj r.1 + 1 - zj Z); omega), b3, b4, hr2.f (by decide), ?_, fun s s1 s2 => ?_, ?_⟩
          · obtain ⟨a1, a2, a3, a4, a5, a6, a7, a8, a9, a10, a11, a12, a13, a14⟩ := b6
            have fo : ∀ x a, x ≠ 6 → x ≠ 5 → Gfi (Sfi (Sfi G' 5 R (nI (zj r.1 + 1))) 6 R (nI c.2.2)) x a = Gfi G' x a := fun x a e e2 => (if_neg (fun q => e q.1)).trans (if_neg (fun q => e2 q.1))
            exact ⟨a1, a2, (fo 7 R (by decide) (by decide)).trans a3, if_pos ⟨rfl, rfl⟩, (fo 8 R (by decide) (by decide)).trans a5, a6, (fo 9 R (by decide) (by decide)).trans a7, ⟨(fo 11 R (by decide) (by decide)).trans a8.1, a8.2⟩, (fo 10 R (by decide) (by decide)).trans a9, (fo 12 p (by decide) (by decide)).trans a10, (fo 13 p (by decide) (by decide)).trans a11, (fo 14 p (by decide) (by decide)).trans a12, ⟨(fo 15 p (by decide) (by decide)).trans a13.1, a13.2⟩, a14⟩
          · obtain ⟨e4, e5⟩ := b7 s s1 s2
            exact ⟨e4, e5.kq kl (fun a h1 h2 => by have : Gtp G ≤ a := h1; omega)⟩
          · exact b8.kq kl (fun a h1 h2 => by have : Gtp G ≤ a := h1; omega))
        simp (disch := first | omega | exact cI _ | exact cR _ | exact cK | exact cU | exact cO _ | exact cL _) only [oS, uS.2, Nat.reduceAdd, Nat.reduceSub, Nat.reduceMul, Nat.reduceLeDiff, Nat.reduceEqDiff, Nat.add_sub_cancel, xS, gS, nL, nS, dS, mX2_block, zX2_block, hg5, h62, fin]
    · rw [if_pos (by omega)] at hQ
      have := w_flt (g := g) hQ rfl (KQ.refl (P := rP R p) (G := G)) (by omega) (by omega)
      simp (disch := first | omega | exact cI _ | exact cR _ | exact cK | exact cU | exact cO _ | exact cL _) only [oS, uS.2, Nat.reduceAdd, Nat.reduceSub, Nat.reduceMul, Nat.reduceLeDiff, Nat.reduceEqDiff, Nat.add_sub_cancel, xS, gS, nL, nS, dS, fX2_block_0, fX2_block_15, fX2_block_32, fX2_block_33, mX2_block, zX2_block, hg, ha, h6, ck, c1, c6, n1, r0, this]
  · rw [zN_0 c1] at hQ
    have := w_flt (g := g) hQ rfl (KQ.refl (P := rP R p) (G := G)) (by omega) (by omega)
    simp (disch := first | omega | exact cI _ | exact cR _ | exact cK | exact cU | exact cO _ | exact cL _) only [oS, uS.2, Nat.reduceAdd, Nat.reduceSub, Nat.reduceMul, Nat.reduceLeDiff, Nat.reduceEqDiff, Nat.add_sub_cancel, xS, gS, nL, nS, dS, fX2_block_0, fX2_block_14, fX2_block_15, mX2_block, zX2_block, hg, ck, c1, n0, this]
/-- STATEMENTS AND BLOCKS ARE READ -/
theorem TT_all (ht : tV t) (hf : J < f) (hJ : J ≤ 200) (hnk : nk ≤ 16) : ∀ m, TT S R p t J g nk nm f m := by
  have h : ∀ m, ∀ k, k < m → XBk S R p t J g nk nm (pBlk t (pStms t f k)) k := by
    intro m
    induction m with
    | zero => intro k hk; omega
    | succ m ih =>
      intro k hk
      by_cases e : k < m
      · exact ih k e
      · have e : k = m := by omega
        subst e
        exact o_blk hJ (o_stms ht hf hJ hnk ih) ht
  exact fun m => o_stms ht hf hJ hnk (h m)
end BLK
