set_option maxRecDepth 100000
section RUN
variable {D r nm : Nat} {mA : Nat → Nat} {pl : Nat → Int32 → Int32} {B B' : Bk} {G G' : XG} {Q : (Option Value ⊕ Nat) → XG → Prop}
theorem RU.c5 {v : Nat} (h : RU G r mA nm pl B) : RU (Sfi G 23 r (nI v)) r mA nm pl (b1 B 5 v) := by
  obtain ⟨e1, e2, e3, e4, e5, e6, e7, e8, e9, e10, e11⟩ := h.1.2.1
  have fo : ∀ x, x ≠ 23 → Gfi (Sfi G 23 r (nI v)) x r = Gfi G x r := fun x hx => Sfi_o hx
  refine h.fr (YZ.fi ⟨by omega, by omega⟩) rfl (fun k _ => if_neg (by omega)) (fun _ _ => rfl) ⟨(fo 21 (by decide)).trans e1, (fo 22 (by decide)).trans e2, Sfi_S, (fo 24 (by decide)).trans e4, (fo 25 (by decide)).trans e5, (fo 18 (by decide)).trans e6, (fo 19 (by decide)).trans e7, (fo 17 (by decide)).trans e8, (fo 20 (by decide)).trans e9, (fo 27 (by decide)).trans e10, (fo 26 (by decide)).trans e11⟩ (fun o i hv => h.1.2.2.1 o i (vld_x hv (fun _ h => h) (fun _ _ h => h) (fun _ a b => ⟨a, by
    have e0 : (b1 B 5 v).1 (100 + i / 12) = B.1 (100 + i / 12) := if_neg (by omega)
    rw [← e0]
    exact b⟩) (fun _ h => h) (fun _ h => h) (fun _ h => h) (fun _ h => h) (fun _ h => h)))
theorem RU.c7 {v : Nat} (h : RU G r mA nm pl B) : RU (Sfi G 25 r (nI v)) r mA nm pl (b1 B 7 v) := by
  obtain ⟨e1, e2, e3, e4, e5, e6, e7, e8, e9, e10, e11⟩ := h.1.2.1
  have fo : ∀ x, x ≠ 25 → Gfi (Sfi G 25 r (nI v)) x r = Gfi G x r := fun x hx => Sfi_o hx
  refine h.fr (YZ.fi ⟨by omega, by omega⟩) rfl (fun k _ => if_neg (by omega)) (fun _ _ => rfl) ⟨(fo 21 (by decide)).trans e1, (fo 22 (by decide)).trans e2, (fo 23 (by decide)).trans e3, (fo 24 (by decide)).trans e4, Sfi_S, (fo 18 (by decide)).trans e6, (fo 19 (by decide)).trans e7, (fo 17 (by decide)).trans e8, (fo 20 (by decide)).trans e9, (fo 27 (by decide)).trans e10, (fo 26 (by decide)).trans e11⟩ (fun o i hv => h.1.2.2.1 o i (vld_x hv (fun _ h => h) (fun _ _ h => h) (fun _ a b => ⟨a, by
    have e0 : (b1 B 7 v).1 (100 + i / 12) = B.1 (100 + i / 12) := if_neg (by omega)
    rw [← e0]
    exact b⟩) (fun _ h => h) (fun _ h => h) (fun _ h => h) (fun _ h => h) (fun _ h => h)))
/-- one is closed -/
theorem RU.c6 {v : Int32} (h : RU G r mA nm pl B) : RU (Sfi (Sai G (r + 10) (B.1 6) v) 24 r (nI (B.1 6 + 1))) r mA nm pl (b1 (b2 B 10 (B.1 6) v) 6 (B.1 6 + 1)) := by
  obtain ⟨e1, e2, e3, e4, e5, e6, e7, e8, e9, e10, e11⟩ := h.1.2.1
  have fo : ∀ x, x ≠ 24 → Gfi (Sfi (Sai G (r + 10) (B.1 6) v) 24 r (nI (B.1 6 + 1))) x r = Gfi G x r := fun x hx => Sfi_o hx
  refine h.fr ((YZ.ai ⟨by omega, by omega⟩).trans (YZ.fi ⟨by omega, by omega⟩)) rfl (fun k _ => if_neg (by omega)) (fun _ _ => if_neg (by omega)) ⟨(fo 21 (by decide)).trans e1, (fo 22 (by decide)).trans e2, (fo 23 (by decide)).trans e3, Sfi_S, (fo 25 (by decide)).trans e5, (fo 18 (by decide)).trans e6, (fo 19 (by decide)).trans e7, (fo 17 (by decide)).trans e8, (fo 20 (by decide)).trans e9, (fo 27 (by decide)).trans e10, (fo 26 (by decide)).trans e11⟩ (fun o i hv => ?_)
  show (if r + o = r + 10 ∧ i = B.1 6 then v else Gai G (r + o) i) = (if o = 10 ∧ i = B.1 6 then v else B.2 o i)
  by_cases q : o = 10 ∧ i = B.1 6
  · rw [if_pos q, if_pos ⟨by omega, q.2⟩]
  · rw [if_neg q, if_neg (fun z => q ⟨by omega, z.2⟩)]
    exact h.1.2.2.1 o i (vld_x hv (fun _ h => h) (fun _ _ h => h) (fun _ a b => ⟨a, by
      have e0 : (b1 (b2 B 10 (B.1 6) v) 6 (B.1 6 + 1)).1 (100 + i / 12) = B.1 (100 + i / 12) := if_neg (by omega)
      rw [← e0]
      exact b⟩) (fun o10 h => by
      have h : i < B.1 6 + 1 := h
      omega) (fun _ h => h) (fun _ h => h) (fun _ h => h) (fun _ h => h))
/-- what opening comes to: k the frame, s the statement, i the first one's place, o its number -/
def oOp (r k s i o : Nat) (mA : Nat → Nat) (nm : Nat) (pl : Nat → Int32 → Int32) (G : XG) (q : Nat × Rs) (z : Option Value ⊕ Nat) (G' : XG) : Prop := RU G' r mA nm pl q.2.2.2 ∧ YZ (fun a => rgb r a ∨ a = r + 21 + 4 * k) G G' ∧ (q.2.1 = 5 ∧ z = .inr (r + 17) ∧ (∀ y, (y < 8 * s + 4 ∨ 8 * s + 7 ≤ y) → Gai G' (r + 21 + 4 * k) y = Gai G (r + 21 + 4 * k) y) ∨ q.2.1 ≠ 5 ∧ z = .inl (some (.int (nI q.1))) ∧ Gfi G' 31 r = (if q.2.1 = 4 then q.2.2.1 else NN) ∧ i ≤ q.1 ∧ q.1 ≤ 3 ∧ ∀ y, Gai G' (r + 21 + 4 * k) y = if 8 * s + 4 + i ≤ y ∧ y < 8 * s + 4 + q.1 then nI (o + (y - (8 * s + 4))) else Gai G (r + 21 + 4 * k) y)
theorem l_opens {d s k o n : Nat} (hp : vPl pl) (hs : s < 80) (hk : k < 12) (hd : 3 ≤ d) (hn : n ≤ 3) : ∀ m i B G w, m + i = n → RU G r mA nm pl B → Iv 0 0 0 0 0 B → B.1 5 = o + i → (∀ z G', oOp r k s i o mA nm pl G (sOpens pl s m i B) z G' → Q z G') → XL xms d 86 3 [.ref r, .int (nI s), .int (nI n), .ref (r + 21 + 4 * k), .int (nI (8 * s + 4)), .int (nI i), w] [] G Q := by
  intro m
  induction m with
  | zero =>
    intro i B G w hi h hI ho hQ
    have l0 := h.1.1.1
    unfold RL0 at l0
    have e : i = n := by omega
    subst e
    have fin := hQ (.inl (some (.int (nI i)))) (Sfi G 31 r NN) ⟨h.fi (by decide) (by decide) ⟨by omega, by omega⟩, YZ.fi (.inl ⟨by omega, by omega⟩), .inr ⟨by show ¬ (0 : Nat) = 5; decide, rfl, Sfi_S, Nat.le_refl _, hn, fun y => (if_neg (by show ¬ (8 * s + 4 + i ≤ y ∧ y < 8 * s + 4 + i); omega)).symm⟩⟩
    rw [fX5_opens_3]
    simp (disch := first | omega | exact cI _ | exact cR _ | exact cK | exact cU | exact cO _ | exact cL _) only [oS, uS.2, Nat.reduceAdd, Nat.reduceSub, Nat.reduceMul, Nat.reduceLeDiff, Nat.reduceEqDiff, Nat.add_sub_cancel, xS, gS, nL, nS, dS, fX5_opens_73, mX5_opens, zX5_opens, l0, fin]
  | succ m ih =>
    intro i B G w hi h hI ho hQ
    have l0 := h.1.1.1
    unfold RL0 at l0
    have hin : i < n := by omega
    have hcb := hI.cb
    rw [fX5_opens_3]
    simp (disch := first | omega | exact cI _ | exact cR _ | exact cK | exact cU | exact cO _ | exact cL _) only [oS, uS.2, Nat.reduceAdd, Nat.reduceSub, Nat.reduceMul, Nat.reduceLeDiff, Nat.reduceEqDiff, Nat.add_sub_cancel, xS, gS, nL, nS, dS, mX5_opens, zX5_opens, l0, hin]
    refine k_step h hcb (by omega) (fun sp => ?_) (fun G1 h1 y1 ns => ?_)
    · have fin := hQ (.inr (r + 17)) G (by
        have e : sOpens pl s (m + 1) i B = (i, 5, 0, B) := if_pos sp
        rw [e]
        exact ⟨h, YZ.refl, .inl ⟨rfl, rfl, fun _ _ => rfl⟩⟩)
      simp (disch := first | omega | exact cI _ | exact cR _ | exact cK | exact cU | exact cO _ | exact cL _) only [oS, uS.2, Nat.reduceAdd, Nat.reduceSub, Nat.reduceMul, Nat.reduceLeDiff, Nat.reduceEqDiff, Nat.add_sub_cancel, xS, gS, nL, nS, dS, mX5_opens, zX5_opens, l0, fin]
    have l1 := h1.1.1.1
    unfold RL0 at l1
    have I1 := hI.stp (by rw [ns]; decide)
    simp (disch := first | omega | exact cI _ | exact cR _ | exact cK | exact cU | exact cO _ | exact cL _) only [oS, uS.2, Nat.reduceAdd, Nat.reduceSub, Nat.reduceMul, Nat.reduceLeDiff, Nat.reduceEqDiff, Nat.add_sub_cancel, xS, gS, nL, nS, dS, mX5_opens, zX5_opens, l1, hin]
    refine k_passes (s := s) (j := 1 + i) h1 I1.z.cb hs (by omega) (by omega) (fun G2 h2 y2 => ?_)
    rw [← Nat.add_assoc] at h2 ⊢
    have l2 := h2.1.1.1
    unfold RL0 at l2
    have I2 : Iv 1 1 1 1 1 (bPass (7 * s + 1 + i) (bStp B)) := I1.pass
    have e5 : (bPass (7 * s + 1 + i) (bStp B)).1 5 = B.1 5 := bPass_1 (by decide)
    have e4 : (bPass (7 * s + 1 + i) (bStp B)).1 4 = B.1 4 := bPass_1 (by decide)
    have eu : sOpens pl s (m + 1) i B = if pl (7 * s + 1 + i) ((bPass (7 * s + 1 + i) (bStp B)).2 12 (7 * s + 1 + i)) = NN then sOpens pl s m (i + 1) (b1 (bPass (7 * s + 1 + i) (bStp B)) 5 ((bPass (7 * s + 1 + i) (bStp B)).1 5 + 1)) else (i, sFail (pl (7 * s + 1 + i) ((bPass (7 * s + 1 + i) (bStp B)).2 12 (7 * s + 1 + i))) (bPass (7 * s + 1 + i) (bStp B))) := if_neg (by rw [ns]; decide)
    rw [eu] at hQ
    have y12 : YZ (rgb r) G G2 := y1.trans y2
    generalize bPass (7 * s + 1 + i) (bStp B) = B2 at h2 I2 e5 e4 hQ ⊢
    generalize pl (7 * s + 1 + i) (B2.2 12 (7 * s + 1 + i)) = c at hQ ⊢
    have hc4 := I2.1
    have f23 : Gfi G2 23 r = nI (B2.1 5) := h2.1.2.1.2.2.1
    have w1 := (h2.1.1.2 k hk).2.2.2.2.2.2.2.2.2
    have s12 : ∀ y, Gai G2 (r + 21 + 4 * k) y = Gai G (r + 21 + 4 * k) y := fun y => y12.2.2.2.2.2.2.2.2.2.1 _ y (fun q => by have := q.2; omega)
    by_cases hc : c = NN
    · rw [if_pos hc] at hQ
      have h3 : RU (Sfi (Sai G2 (r + 21 + 4 * k) (8 * s + 4 + i) (nI (B2.1 5))) 23 r (nI (B2.1 5 + 1))) r mA nm pl (b1 B2 5 (B2.1 5 + 1)) := (h2.sl hk).c5
      have y3 : YZ (fun a => rgb r a ∨ a = r + 21 + 4 * k) G2 (Sfi (Sai G2 (r + 21 + 4 * k) (8 * s + 4 + i) (nI (B2.1 5))) 23 r (nI (B2.1 5 + 1))) := (YZ.ai (.inr rfl)).trans (YZ.fi (.inl ⟨by omega, by omega⟩))
      have s3 : ∀ y, Gai (Sfi (Sai G2 (r + 21 + 4 * k) (8 * s + 4 + i) (nI (B2.1 5))) 23 r (nI (B2.1 5 + 1))) (r + 21 + 4 * k) y = if y = 8 * s + 4 + i then nI (o + i) else Gai G (r + 21 + 4 * k) y := fun y => by
        by_cases q : y = 8 * s + 4 + i
        · rw [if_pos q, q]
          show (if r + 21 + 4 * k = r + 21 + 4 * k ∧ 8 * s + 4 + i = 8 * s + 4 + i then nI (B2.1 5) else _) = _
          rw [if_pos ⟨rfl, rfl⟩, e5, ho]
        · rw [if_neg q, ← s12]
          exact if_neg (fun z => q z.2)
      have ih' := ih (i + 1) (b1 B2 5 (B2.1 5 + 1)) _ (.int c) (by omega) h3 I2.s5.z (by show B2.1 5 + 1 = o + (i + 1); omega) (fun z G' hz => hQ z G' (by
        obtain ⟨z1, z2, z3⟩ := hz
        refine ⟨z1, ((y12.mono (fun a q => .inl q)).trans y3).trans z2, ?_⟩
        rcases z3 with ⟨a1, a2, a3⟩ | ⟨a1, a2, a3, a4, a5, a6⟩
        · exact .inl ⟨a1, a2, fun y hy => (a3 y hy).trans ((s3 y).trans (if_neg (by omega)))⟩
        · refine .inr ⟨a1, a2, a3, by omega, a5, fun y => ?_⟩
          rw [a6 y, s3 y]
          by_cases q1 : 8 * s + 4 + (i + 1) ≤ y ∧ y < 8 * s + 4 + (sOpens pl s m (i + 1) (b1 B2 5 (B2.1 5 + 1))).1
          · rw [if_pos q1, if_pos ⟨by omega, q1.2⟩]
          · rw [if_neg q1]
            by_cases q2 : y = 8 * s + 4 + i
            · rw [if_pos q2, if_pos ⟨by omega, by omega⟩, q2]
              congr 1
              omega
            · rw [if_neg q2, if_neg (fun q => q1 ⟨by omega, q.2⟩)]))
      have w7 := w1.1
      have w8 := w1.2
      have hi8 : 8 * s + 4 + i < 640 := by omega
      have hc5 : B2.1 5 < 2147483647 := by omega
      rw [hc] at ih' ⊢
      simp (disch := first | omega | exact cI _ | exact cR _ | exact cK | exact cU | exact cO _ | exact cL _) only [oS, uS.2, Nat.reduceAdd, Nat.reduceSub, Nat.reduceMul, Nat.reduceLeDiff, Nat.reduceEqDiff, Nat.add_sub_cancel, xS, gS, nL, nS, dS, fX5_opens_46, mX5_opens, zX5_opens, l2, f23, w7, w8, hi8, hc5, ih']
    · rw [if_neg hc] at hQ
      have hcf : (c = NN) = False := eq_false hc
      simp (disch := first | omega | exact cI _ | exact cR _ | exact cK | exact cU | exact cO _ | exact cL _) only [oS, uS.2, Nat.reduceAdd, Nat.reduceSub, Nat.reduceMul, Nat.reduceLeDiff, Nat.reduceEqDiff, Nat.add_sub_cancel, xS, gS, nL, nS, dS, mX5_opens, zX5_opens, l2, hcf]
      refine k_makes (D := d) h2 I2.z.cb (by omega) (by omega) (fun G3 h3 y3 => ?_)
      have l3 := h3.1.1.1
      unfold RL0 at l3
      have fin := hQ (.inl (some (.int (nI i)))) (Sfi G3 31 r (nI (B2.1 4))) ⟨h3.fi (by decide) (by decide) ⟨by omega, by omega⟩, ((y12.trans y3).trans (YZ.fi ⟨by omega, by omega⟩)).mono (fun a q => .inl q), .inr ⟨by show ¬ (4 : Nat) = 5; decide, rfl, Sfi_S, Nat.le_refl _, by show i ≤ 3; omega, fun y => by
        have e1 : ¬ (8 * s + 4 + i ≤ y ∧ y < 8 * s + 4 + i) := by omega
        refine Eq.trans ?_ (if_neg e1).symm
        rw [← s12 y]
        exact y3.2.2.2.2.2.2.2.2.2.1 _ y (fun q => by have := q.2; omega)⟩⟩
      simp (disch := first | omega | exact cI _ | exact cR _ | exact cK | exact cU | exact cO _ | exact cL _) only [oS, uS.2, Nat.reduceAdd, Nat.reduceSub, Nat.reduceMul, Nat.reduceLeDiff, Nat.reduceEqDiff, Nat.add_sub_cancel, xS, gS, nL, nS, dS, mX5_opens, zX5_opens, l3, fin]
theorem k_opens {s k n : Nat} (hp : vPl pl) (hs : s < 80) (hk : k < 12) (hD : 4 ≤ D) (hn : n ≤ 3) (h : RU G r mA nm pl B) (hI : Iv 0 0 0 0 0 B) (hQ : ∀ z G', oOp r k s 0 (B.1 5) mA nm pl G (sOpens pl s n 0 B) z G' → Q z G') : XC xms D 86 [.ref r, .int (nI s), .int (nI n), .ref (r + 21 + 4 * k), .int (nI (8 * s + 4))] G Q := by
  obtain ⟨d, rfl⟩ : ∃ d, D = d + 1 := ⟨D - 1, by omega⟩
  have lp := l_opens (d := d) hp hs hk (by omega) hn n 0 B G xjk (Nat.add_zero _) h hI rfl hQ
  rw [XC_s]
  simp (disch := first | omega | exact cI _ | exact cR _ | exact cK | exact cU | exact cO _ | exact cL _) only [oS, uS.2, Nat.reduceAdd, Nat.reduceSub, Nat.reduceMul, Nat.reduceLeDiff, Nat.reduceEqDiff, Nat.add_sub_cancel, xS, gS, nL, nS, dS, fX5_opens_0, mX5_opens, zX5_opens, lp]
end RUN
