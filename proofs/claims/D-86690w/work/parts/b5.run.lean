set_option maxRecDepth 100000
section RUN
variable {D r nm : Nat} {mA : Nat → Nat} {pl : Nat → Int32 → Int32} {B B' : Bk} {G G' : XG} {Q : (Option Value ⊕ Nat) → XG → Prop}
/-- a stretch of an array is filled -/
def Zf (a lo hi : Nat) (v : Int32) (G G' : XG) : Prop := (∀ x, lo ≤ x → x < hi → Gai G' a x = v) ∧ (∀ x, (x < lo ∨ hi ≤ x) → Gai G' a x = Gai G a x) ∧ YZ (fun b => b = a) G G' ∧ ∀ f b, Gfi G' f b = Gfi G f b
theorem Zf.refl {a hi : Nat} {v : Int32} : Zf a hi hi v G G := ⟨fun x h1 h2 => by omega, fun _ _ => rfl, YZ.refl, fun _ _ => rfl⟩
theorem Zf.step {a lo hi : Nat} {v : Int32} (h : Zf a (lo + 1) hi v (Sai G a lo v) G') (hl : lo < hi) : Zf a lo hi v G G' := by
  obtain ⟨h1, h2, h3, h4⟩ := h
  refine ⟨fun x a1 a2 => ?_, fun x hx => (h2 x (by omega)).trans (Sai_o (.inr (by omega))), (YZ.ai (P := fun b => b = a) rfl).trans h3, h4⟩
  by_cases c : x = lo
  · rw [c, h2 lo (.inl (Nat.lt_succ_self lo))]
    exact Sai_s
  · exact h1 x (by omega) a2
theorem z68 {d : Nat} {mo : Int32} : ∀ m i G, m + i = 80 → RL G r → (∀ G', Zf (r + 11) i 80 0 G G' → XL xms d 80 87 [.ref r, .int mo, .int (nI 80)] [] G' Q) → XL xms d 80 68 [.ref r, .int mo, .int (nI i)] [] G Q := by
  intro m
  induction m with
  | zero =>
    intro i G hi hl hQ
    have e : i = 80 := by omega
    subst e
    have fin := hQ G Zf.refl
    rw [fX5_begin_68]
    simp (disch := first | omega | exact cI _ | exact cR _ | exact cK | exact cU | exact cO _ | exact cL _) only [oS, uS.2, Nat.reduceAdd, Nat.reduceSub, Nat.reduceMul, Nat.reduceLeDiff, Nat.reduceEqDiff, Nat.add_sub_cancel, xS, gS, nL, nS, dS, mX5_begin, zX5_begin, fin]
  | succ m ih =>
    intro i G hi hl hQ
    have l0 := hl.1
    unfold RL0 at l0
    have i80 : i < 80 := by omega
    have ih' := ih (i + 1) (Sai G (r + 11) i (nI 0)) (by omega) (hl.xz (P := fun b => b = r + 11) (YZ.ai rfl)) (fun G' hz => hQ G' (hz.step i80))
    rw [fX5_begin_68]
    simp (disch := first | omega | exact cI _ | exact cR _ | exact cK | exact cU | exact cO _ | exact cL _) only [oS, uS.2, Nat.reduceAdd, Nat.reduceSub, Nat.reduceMul, Nat.reduceLeDiff, Nat.reduceEqDiff, Nat.add_sub_cancel, xS, gS, nL, nS, dS, mX5_begin, zX5_begin, l0, i80, ih']
theorem z89 {d : Nat} {mo : Int32} : ∀ m i G, m + i = 560 → RL G r → (∀ G', Zf (r + 12) i 560 0 G G' → Q (.inl none) G') → XL xms d 80 89 [.ref r, .int mo, .int (nI i)] [] G Q := by
  intro m
  induction m with
  | zero =>
    intro i G hi hl hQ
    have e : i = 560 := by omega
    subst e
    have fin := hQ G Zf.refl
    rw [fX5_begin_89]
    simp (disch := first | omega | exact cI _ | exact cR _ | exact cK | exact cU | exact cO _ | exact cL _) only [oS, uS.2, Nat.reduceAdd, Nat.reduceSub, Nat.reduceMul, Nat.reduceLeDiff, Nat.reduceEqDiff, Nat.add_sub_cancel, xS, gS, nL, nS, dS, fX5_begin_109, mX5_begin, zX5_begin, fin]
  | succ m ih =>
    intro i G hi hl hQ
    have l0 := hl.1
    unfold RL0 at l0
    have i80 : i < 560 := by omega
    have ih' := ih (i + 1) (Sai G (r + 12) i (nI 0)) (by omega) (hl.xz (P := fun b => b = r + 12) (YZ.ai rfl)) (fun G' hz => hQ G' (hz.step i80))
    rw [fX5_begin_89]
    simp (disch := first | omega | exact cI _ | exact cR _ | exact cK | exact cU | exact cO _ | exact cL _) only [oS, uS.2, Nat.reduceAdd, Nat.reduceSub, Nat.reduceMul, Nat.reduceLeDiff, Nat.reduceEqDiff, Nat.add_sub_cancel, xS, gS, nL, nS, dS, mX5_begin, zX5_begin, l0, i80, ih']
/-- what a run has, without its book -/
def RS (G : XG) (r : Nat) (mA : Nat → Nat) (nm : Nat) (pl : Nat → Int32 → Int32) : Prop := RL G r ∧ (∀ m, m < nm → Gkd G (mA m) = 12 ∧ Gfi G 76 (mA m) = nI m ∧ ¬ rgn r (mA m)) ∧ nm ≤ 8 ∧ ∃ pa n pp pt pk, Gfr G 1030 r = some pa ∧ PL G pa n pp pt pk ∧ (∀ k t, pl k t = kAt pp pt pk (nI k) t n 0) ∧ ∀ a, pa ≤ a → a < pa + 4 → ¬ rgn r a
theorem RU.rs (h : RU G r mA nm pl B) : RS G r mA nm pl := ⟨h.1.1, h.2.1, h.2.2.2.1, h.2.2.2.2⟩
theorem RS.ru (h : RS G r mA nm pl) (hb : RB G r mA B) (hm : ∀ k, k < B.1 10 → B.1 (600 + k) < nm) : RU G r mA nm pl B := ⟨hb, h.2.1, hm, h.2.2.1, h.2.2.2⟩
theorem RS.yi (h : RS G r mA nm pl) (k : YI (rgn r) G G') : RS G' r mA nm pl := by
  obtain ⟨h0, h2, h4, pa, n, pp, pt, pk, h5, ⟨q1, q2, q3, q4, q5, q6, q7, q8, q9⟩, h7, h8⟩ := h
  have hl := h0.xi k
  obtain ⟨a1, a2, a3, a4, a5, a6, a7, a8, a9, a10⟩ := k
  refine ⟨hl, fun m hm => ?_, h4, pa, n, pp, pt, pk, by rw [a1]; exact h5, ⟨by rw [a4]; exact q1, by rw [a9 16 pa (h8 pa (Nat.le_refl _) (by omega))]; exact q2, q3, by rw [a1]; exact q4, by rw [a1]; exact q5, by rw [a1]; exact q6, by rw [a4]; exact q7, by rw [a5]; exact q8, fun i hi => ?_⟩, h7, h8⟩
  · obtain ⟨e1, e2, e3⟩ := h2 m hm
    rw [a4, a9 76 (mA m) e3]
    exact ⟨e1, e2, e3⟩
  · rw [a10 (pa + 1) i (h8 _ (by omega) (by omega)), a10 (pa + 2) i (h8 _ (by omega) (by omega)), a10 (pa + 3) i (h8 _ (by omega) (by omega))]
    exact q9 i hi
/-- a run begins -/
theorem k_begin {most : Nat} (h : RS G r mA nm pl) (hD : 1 ≤ D) (h1 : ∀ G', RU G' r mA nm pl (bZero most) → YI (rgb r) G G' → (∀ f, f < 17 ∨ 27 < f → f ≠ 29 → f ≠ 30 → Gfi G' f r = Gfi G f r) → Gfi G' 29 r = 0 → Gfi G' 30 r = NN → Q (.inl none) G') : XC xms D 80 [.ref r, .int (nI most)] G Q := by
  obtain ⟨d, rfl⟩ : ∃ d, D = d + 1 := ⟨D - 1, by omega⟩
  have hl := h.1
  have l0 := h.1.1
  unfold RL0 at l0
  obtain ⟨G1, hG1⟩ : ∃ G1, G1 = Sfi (Sfi (Sfi (Sfi (Sfi (Sfi (Sfi (Sfi (Sfi (Sfi (Sfi (Sfi (Sfi G 20 r (nI most)) 17 r (nI 0)) 18 r (nI 0)) 19 r (nI 0)) 21 r (nI 0)) 22 r (nI 0)) 23 r (nI 0)) 24 r (nI 0)) 25 r (nI 0)) 27 r (nI 0)) 26 r (nI 0)) 29 r (nI 0)) 30 r NN := ⟨_, rfl⟩
  have y1 : YI (rgb r) G G1 := by
    have y : ∀ (g : Nat) (v : Int32) (H : XG), YI (rgb r) H (Sfi H g r v) := fun g v H => YI.fi ⟨Nat.le_refl _, by omega⟩
    rw [hG1]
    exact (((((((((((((y _ _ _).trans (y _ _ _)).trans (y _ _ _)).trans (y _ _ _)).trans (y _ _ _)).trans (y _ _ _)).trans (y _ _ _)).trans (y _ _ _)).trans (y _ _ _)).trans (y _ _ _)).trans (y _ _ _)).trans (y _ _ _)).trans (y _ _ _))
  have hv : Gfi G1 20 r = nI most ∧ Gfi G1 17 r = nI 0 ∧ Gfi G1 18 r = nI 0 ∧ Gfi G1 19 r = nI 0 ∧ Gfi G1 21 r = nI 0 ∧ Gfi G1 22 r = nI 0 ∧ Gfi G1 23 r = nI 0 ∧ Gfi G1 24 r = nI 0 ∧ Gfi G1 25 r = nI 0 ∧ Gfi G1 27 r = nI 0 ∧ Gfi G1 26 r = nI 0 ∧ Gfi G1 29 r = nI 0 ∧ Gfi G1 30 r = NN := by
    rw [hG1]
    simp (disch := decide) only [Sfi_S, Sfi_o, and_self]
  have ho : ∀ f, f < 17 ∨ 27 < f → f ≠ 29 → f ≠ 30 → Gfi G1 f r = Gfi G f r := fun f q1 q2 q3 => by
    rw [hG1]
    simp (disch := omega) only [Sfi_o]
  have hl1 := hl.xi y1
  have z := z68 (d := d) (mo := nI most) (Q := Q) 80 0 G1 (Nat.add_zero _) hl1 (fun G2 hz2 => by
    have hl2 := hl1.xz hz2.2.2.1
    have z2 := z89 (d := d) (mo := nI most) (Q := Q) 560 0 G2 (Nat.add_zero _) hl2 (fun G3 hz3 => by
      have f3 : ∀ f, Gfi G3 f r = Gfi G1 f r := fun f => (hz3.2.2.2 f r).trans (hz2.2.2.2 f r)
      have y3 : YI (rgb r) G G3 := (y1.trans (hz2.2.2.1.yi.mono (fun a e => by rw [e]; exact ⟨by omega, by omega⟩))).trans (hz3.2.2.1.yi.mono (fun a e => by rw [e]; exact ⟨by omega, by omega⟩))
      obtain ⟨v1, v2, v3, v4, v5, v6, v7, v8, v9, v10, v11, v12, v13⟩ := hv
      refine h1 G3 ((h.yi (y3.mono (P' := rgn r) (fun a q => ⟨q.1, by have := q.2; omega⟩))).ru ⟨hl.xi y3, ⟨(f3 21).trans v5, (f3 22).trans v6, (f3 23).trans v7, (f3 24).trans v8, (f3 25).trans v9, (f3 18).trans v3, (f3 19).trans v4, (f3 17).trans v2, (f3 20).trans v1, (f3 27).trans v10, (f3 26).trans v11⟩, fun o i hv => ?_, fun k hk => absurd hk (Nat.not_lt_zero k)⟩ (fun k hk => absurd hk (Nat.not_lt_zero k))) y3 (fun f q1 q2 q3 => (f3 f).trans (ho f q1 q2 q3)) ((f3 29).trans v12) ((f3 30).trans v13)
      show Gai G3 (r + o) i = 0
      have c0 : ∀ x, x ≠ 11 → (bZero most).1 x = 0 := fun x hx => if_neg hx
      unfold vld at hv
      rw [c0 3 (by decide), c0 4 (by decide), c0 6 (by decide), c0 13 (by decide), c0 12 (by decide), c0 10 (by decide)] at hv
      by_cases q : o = 11
      · rw [q, hz3.2.2.1.2.2.2.2.2.2.2.2.2.1 (r + 11) i (by omega)]
        exact hz2.1 i (Nat.zero_le _) (by omega)
      · have q2 : o = 12 := by omega
        rw [q2]
        exact hz3.1 i (Nat.zero_le _) (by omega))
    simp (disch := first | omega | exact cI _ | exact cR _ | exact cK | exact cU | exact cO _ | exact cL _) only [oS, uS.2, Nat.reduceAdd, Nat.reduceSub, Nat.reduceMul, Nat.reduceLeDiff, Nat.reduceEqDiff, Nat.add_sub_cancel, xS, gS, nL, nS, dS, fX5_begin_87, mX5_begin, zX5_begin, z2])
  rw [hG1] at z
  rw [XC_s]
  simp (disch := first | omega | exact cI _ | exact cR _ | exact cK | exact cU | exact cO _ | exact cL _) only [oS, uS.2, Nat.reduceAdd, Nat.reduceSub, Nat.reduceMul, Nat.reduceLeDiff, Nat.reduceEqDiff, Nat.add_sub_cancel, xS, gS, nL, nS, dS, fX5_begin_0, mX5_begin, zX5_begin, l0, z]
end RUN
