set_option maxRecDepth 100000
/-! A RUN's methods, told with the book -/
def rgb (r a : Nat) : Prop := r ≤ a ∧ a < r + 18
/-- methods mA; the plan pl -/
def RU (G : XG) (r : Nat) (mA : Nat → Nat) (nm : Nat) (pl : Nat → Int32 → Int32) (B : Bk) : Prop := RB G r mA B ∧ (∀ m, m < nm → Gkd G (mA m) = 12 ∧ Gfi G 76 (mA m) = nI m ∧ ¬ rgn r (mA m)) ∧ (∀ k, k < B.1 10 → B.1 (600 + k) < nm) ∧ nm ≤ 8 ∧ ∃ pa n pp pt pk, Gfr G 1030 r = some pa ∧ PL G pa n pp pt pk ∧ (∀ k t, pl k t = kAt pp pt pk (nI k) t n 0) ∧ ∀ a, pa ≤ a → a < pa + 4 → ¬ rgn r a
/-- counters within bounds -/
def CB (B : Bk) : Prop := B.1 11 ≤ 400 ∧ B.1 9 ≤ B.1 11 ∧ B.1 3 ≤ 400 ∧ B.1 4 ≤ 400 ∧ B.1 5 ≤ 400 ∧ B.1 6 ≤ 400 ∧ B.1 12 ≤ 400 ∧ B.1 13 ≤ 60 ∧ 1 ≤ B.1 10 ∧ B.1 10 ≤ 12 ∧ B.1 8 ≤ 12
theorem Iv.cb {x3 x4 x5 x6 x12 : Nat} {B : Bk} (h : Iv x3 x4 x5 x6 x12 B) : CB B := by
  obtain ⟨⟨a1, a2, a3, a4, a5, a6, a7, a8, a9, a10, a11⟩, -⟩ := h
  exact ⟨by omega, by omega, by omega, by omega, by omega, by omega, by omega, by omega, by omega, by omega, by omega⟩
section RUN
variable {D r nm : Nat} {mA : Nat → Nat} {pl : Nat → Int32 → Int32} {B B' : Bk} {G G' : XG} {Q : (Option Value ⊕ Nat) → XG → Prop}
theorem YI.mono {P P' : Nat → Prop} (h : YI P G G') (hp : ∀ a, P a → P' a) : YI P' G G' := by
  obtain ⟨a1, a2, a3, a4, a5, a6, a7, a8, a9, a10⟩ := h
  exact ⟨a1, a2, a3, a4, a5, a6, a7, a8, fun g a q => a9 g a (fun e => q (hp a e)), fun a i q => a10 a i (fun e => q (hp a e))⟩
/-- nothing but ints within P is changed, no field 28 29 30 -/
def YZ (P : Nat → Prop) (G G' : XG) : Prop := Gfr G' = Gfr G ∧ Gal G' = Gal G ∧ Gar G' = Gar G ∧ Gkd G' = Gkd G ∧ Gln G' = Gln G ∧ Gsv G' = Gsv G ∧ Gtp G' = Gtp G ∧ Gus G' = Gus G ∧ (∀ g a, ¬ P a → Gfi G' g a = Gfi G g a) ∧ (∀ a i, ¬ P a → Gai G' a i = Gai G a i) ∧ ∀ g a, 28 ≤ g → g ≤ 30 → Gfi G' g a = Gfi G g a
theorem YZ.yi {P : Nat → Prop} (h : YZ P G G') : YI P G G' := by
  obtain ⟨a1, a2, a3, a4, a5, a6, a7, a8, a9, a10, -⟩ := h
  exact ⟨a1, a2, a3, a4, a5, a6, a7, a8, a9, a10⟩
theorem YZ.refl {P : Nat → Prop} : YZ P G G := ⟨rfl, rfl, rfl, rfl, rfl, rfl, rfl, rfl, fun _ _ _ => rfl, fun _ _ _ => rfl, fun _ _ _ _ => rfl⟩
theorem YZ.trans {P : Nat → Prop} {G G' G2 : XG} (h : YZ P G G') (k : YZ P G' G2) : YZ P G G2 := by
  obtain ⟨a1, a2, a3, a4, a5, a6, a7, a8, a9, a10, a11⟩ := h
  obtain ⟨b1, b2, b3, b4, b5, b6, b7, b8, b9, b10, b11⟩ := k
  exact ⟨b1.trans a1, b2.trans a2, b3.trans a3, b4.trans a4, b5.trans a5, b6.trans a6, b7.trans a7, b8.trans a8, fun g a q => (b9 g a q).trans (a9 g a q), fun a i q => (b10 a i q).trans (a10 a i q), fun g a q q2 => (b11 g a q q2).trans (a11 g a q q2)⟩
theorem YZ.fi {P : Nat → Prop} {G : XG} {g a : Nat} {v : Int32} (h : P a) (hg : g < 28 ∨ 30 < g := by omega) : YZ P G (Sfi G g a v) := ⟨rfl, rfl, rfl, rfl, rfl, rfl, rfl, rfl, fun g' a' q => by
  show (if g' = g ∧ a' = a then v else Gfi G g' a') = _
  rw [if_neg (fun e => q (by rw [e.2]; exact h))], fun _ _ _ => rfl, fun g' a' q q2 => by
  show (if g' = g ∧ a' = a then v else Gfi G g' a') = _
  rw [if_neg (by omega)]⟩
theorem YZ.ai {P : Nat → Prop} {G : XG} {a i : Nat} {v : Int32} (h : P a) : YZ P G (Sai G a i v) := ⟨rfl, rfl, rfl, rfl, rfl, rfl, rfl, rfl, fun _ _ _ => rfl, fun a' i' q => by
  show (if a' = a ∧ i' = i then v else Gai G a' i') = _
  rw [if_neg (fun e => q (by rw [e.1]; exact h))], fun _ _ _ _ => rfl⟩
theorem YZ.rai {P : Nat → Prop} {G : XG} {a : Nat} {f : Nat → Int32} (h : P a) : YZ P G (Rai G a f) := ⟨rfl, rfl, rfl, rfl, rfl, rfl, rfl, rfl, fun _ _ _ => rfl, fun a' i' q => by
  show (if a' = a then f i' else Gai G a' i') = _
  rw [if_neg (fun e => q (by rw [e]; exact h))], fun _ _ _ _ => rfl⟩
theorem YZ.mono {P P' : Nat → Prop} (h : YZ P G G') (hp : ∀ a, P a → P' a) : YZ P' G G' := by
  obtain ⟨a1, a2, a3, a4, a5, a6, a7, a8, a9, a10, a11⟩ := h
  exact ⟨a1, a2, a3, a4, a5, a6, a7, a8, fun g a q => a9 g a (fun e => q (hp a e)), fun a i q => a10 a i (fun e => q (hp a e)), a11⟩
theorem RL.xz {P : Nat → Prop} (h : RL G r) (k : YZ P G G') : RL G' r := h.xi k.yi
theorem RU.yi (h : RU G r mA nm pl B) (k : YI (rgn r) G G') (hb : RB G' r mA B') (hm : ∀ k, k < B'.1 10 → B'.1 (600 + k) < nm) : RU G' r mA nm pl B' := by
  obtain ⟨h1, h2, h3, h4, pa, n, pp, pt, pk, h5, ⟨q1, q2, q3, q4, q5, q6, q7, q8, q9⟩, h7, h8⟩ := h
  obtain ⟨a1, a2, a3, a4, a5, a6, a7, a8, a9, a10⟩ := k
  refine ⟨hb, fun m hm => ?_, hm, h4, pa, n, pp, pt, pk, by rw [a1]; exact h5, ⟨by rw [a4]; exact q1, by rw [a9 16 pa (h8 pa (Nat.le_refl _) (by omega))]; exact q2, q3, by rw [a1]; exact q4, by rw [a1]; exact q5, by rw [a1]; exact q6, by rw [a4]; exact q7, by rw [a5]; exact q8, fun i hi => ?_⟩, h7, h8⟩
  · obtain ⟨e1, e2, e3⟩ := h2 m hm
    rw [a4, a9 76 (mA m) e3]
    exact ⟨e1, e2, e3⟩
  · rw [a10 (pa + 1) i (h8 _ (by omega) (by omega)), a10 (pa + 2) i (h8 _ (by omega) (by omega)), a10 (pa + 3) i (h8 _ (by omega) (by omega))]
    exact q9 i hi
theorem RU.yz (h : RU G r mA nm pl B) (k : YZ (rgn r) G G') (hb : RB G' r mA B') (hm : ∀ k, k < B'.1 10 → B'.1 (600 + k) < nm) : RU G' r mA nm pl B' := h.yi k.yi hb hm
theorem vld_c {o i : Nat} (h4 : B.1 4 ≤ 401) (h : ∀ x, (x = 3 ∨ x = 4 ∨ x = 6 ∨ x = 10 ∨ x = 12 ∨ x = 13 ∨ (100 ≤ x ∧ x < 600)) → B'.1 x = B.1 x) (hv : vld B' o i) : vld B o i := by
  unfold vld at hv ⊢
  rw [h 3 (by omega), h 4 (by omega), h 6 (by omega), h 10 (by omega), h 12 (by omega), h 13 (by omega)] at hv
  rcases hv with e | e | ⟨e1, e2, e3⟩ | e | e | e | e | e | e | e
  · exact .inl e
  · exact .inr (.inl e)
  · rw [h (100 + i / 12) (by omega)] at e3
    exact .inr (.inr (.inl ⟨e1, e2, e3⟩))
  · exact .inr (.inr (.inr (.inl e)))
  · exact .inr (.inr (.inr (.inr (.inl e))))
  · exact .inr (.inr (.inr (.inr (.inr (.inl e)))))
  · exact .inr (.inr (.inr (.inr (.inr (.inr (.inl e))))))
  · exact .inr (.inr (.inr (.inr (.inr (.inr (.inr (.inl e)))))))
  · exact .inr (.inr (.inr (.inr (.inr (.inr (.inr (.inr (.inl e))))))))
  · exact .inr (.inr (.inr (.inr (.inr (.inr (.inr (.inr (.inr e))))))))
/-- a step: spent, or counted -/
theorem k_step (h : RU G r mA nm pl B) (hc : CB B) (hD : 1 ≤ D) (h0 : isSpent B = true → Q (.inr (r + 17)) G) (h1 : ∀ G', RU G' r mA nm pl (bStp B) → YZ (rgb r) G G' → isSpent B = false → Q (.inl none) G') : XC xms D 85 [.ref r] G Q := by
  obtain ⟨d, rfl⟩ : ∃ d, D = d + 1 := ⟨D - 1, by omega⟩
  have hh := h
  obtain ⟨⟨b1, b2, b3, b4⟩, -⟩ := h
  obtain ⟨e1, e2, e3, e4, e5, e6, e7, e8, e9, e10, e11⟩ := b2
  obtain ⟨c1, c2, c3, c4, -⟩ := hc
  rw [s_step b1, e7, e9]
  by_cases c : B.1 9 = B.1 11
  · rw [if_pos (by rw [c])]
    exact h0 (by unfold isSpent; simp [c])
  · rw [if_neg (fun q => c (nI_inj (by omega) (by omega) q))]
    have e : nI (B.1 9) + 1 = nI (B.1 9 + 1) := nI_add _ 1
    rw [e]
    have y : YZ (rgb r) G (Sfi G 19 r (nI (B.1 9 + 1))) := YZ.fi ⟨Nat.le_refl _, by omega⟩
    have fo : ∀ x, x ≠ 19 → Gfi (Sfi G 19 r (nI (B.1 9 + 1))) x r = Gfi G x r := fun x hx => Sfi_o hx
    refine h1 _ (hh.yz (y.mono (fun a q => ⟨q.1, by have := q.2; omega⟩)) ⟨b1.xz y, ⟨(fo 21 (by decide)).trans e1, (fo 22 (by decide)).trans e2, (fo 23 (by decide)).trans e3, (fo 24 (by decide)).trans e4, (fo 25 (by decide)).trans e5, (fo 18 (by decide)).trans e6, Sfi_S, (fo 17 (by decide)).trans e8, (fo 20 (by decide)).trans e9, (fo 27 (by decide)).trans e10, (fo 26 (by decide)).trans e11⟩, fun o i hv => b3 o i (vld_c (by omega) (fun x hx => if_neg (by omega)) hv), fun k hk => ⟨(Sfi_o (by decide)).trans (b4 k hk).1, by
      show Gfr G 1056 (r + 18 + 4 * k) = some (mA (if 600 + k = 9 then _ else B.1 (600 + k)))
      rw [if_neg (by omega)]
      exact (b4 k hk).2⟩⟩ (fun k hk => by
      show (if 600 + k = 9 then _ else B.1 (600 + k)) < nm
      rw [if_neg (by omega)]
      exact hh.2.2.1 k hk)) y (by unfold isSpent; simp [c])
theorem sai_f {a i : Nat} {v : Int32} : ∀ x b, Gfi (Sai G a i v) x b = Gfi G x b := fun _ _ => rfl
/-- a new failure -/
theorem k_makes {kind cause : Int32} (h : RU G r mA nm pl B) (hc : CB B) (h4 : B.1 4 < 401) (hD : 2 ≤ D) (h1 : ∀ G', RU G' r mA nm pl (bMakes kind cause B) → YZ (rgb r) G G' → Q (.inl (some (.int (nI (B.1 4))))) G') : XC xms D 83 [.ref r, .int kind, .int cause] G Q := by
  obtain ⟨d, rfl⟩ : ∃ d, D = d + 1 + 1 := ⟨D - 2, by omega⟩
  have hh := h
  obtain ⟨⟨b1, b2, b3, b4⟩, m1, m2, m3, -⟩ := h
  obtain ⟨e1, e2, e3, e4, e5, e6, e7, e8, e9, e10, e11⟩ := b2
  obtain ⟨c1, c2, c3, c4, c5, c6, c7, c8, c9, c10, c11⟩ := hc
  have hl := b1
  obtain ⟨l0, l1⟩ := b1
  unfold RL0 at l0
  obtain ⟨n, hn⟩ : ∃ n, B.1 10 = n + 1 := ⟨B.1 10 - 1, by omega⟩
  have top : ∀ G1 : XG, RL G1 r → Gfi G1 17 r = nI (n + 1) → ∀ Q, XC xms (d + 1) 84 [.ref r] G1 Q = Q (.inl (some (.ref (r + 18 + 4 * n)))) G1 := fun G1 a b Q => s_top a b (by omega)
  obtain ⟨G1, hG1⟩ : ∃ G1, G1 = Sai (Sai (Sai (Sai (Sai (Sfi G 22 r (nI (B.1 4 + 1))) (r + 3) (B.1 4) kind) (r + 4) (B.1 4) cause) (r + 5) (B.1 4) NN) (r + 6) (B.1 4) NN) (r + 7) (B.1 4) (B.2 (18 + 4 * n) 0) := ⟨_, rfl⟩
  obtain ⟨G2, hG2⟩ : ∃ G2, G2 = Sai G1 (r + 8) (B.1 4) (nI (B.1 10)) := ⟨_, rfl⟩
  have y2 : YZ (rgb r) G G2 := by
    rw [hG2, hG1]
    exact ((((((YZ.fi ⟨by omega, by omega⟩).trans (YZ.ai ⟨by omega, by omega⟩)).trans (YZ.ai ⟨by omega, by omega⟩)).trans (YZ.ai ⟨by omega, by omega⟩)).trans (YZ.ai ⟨by omega, by omega⟩)).trans (YZ.ai ⟨by omega, by omega⟩)).trans (YZ.ai ⟨by omega, by omega⟩)
  have hl2 : RL G2 r := hl.xz y2
  have f22 : ∀ x b, (x ≠ 22 ∨ b ≠ r) → Gfi G2 x b = Gfi G x b := fun x b hx => by
    rw [hG2, hG1]
    exact if_neg (fun q => by omega)
  have f22' : Gfi G2 22 r = nI (B.1 4 + 1) := by
    rw [hG2, hG1]
    exact Sfi_S
  have a2 : ∀ a i, (a < r + 3 ∨ r + 8 < a ∨ i ≠ B.1 4) → Gai G2 a i = Gai G a i := fun a i hx => by
    rw [hG2, hG1]
    exact (Sai_o (by omega)).trans ((Sai_o (by omega)).trans ((Sai_o (by omega)).trans ((Sai_o (by omega)).trans ((Sai_o (by omega)).trans (Sai_o (by omega))))))
  have a3 : Gai G2 (r + 3) (B.1 4) = kind := by
    rw [hG2, hG1]
    exact (Sai_o (by omega)).trans ((Sai_o (by omega)).trans ((Sai_o (by omega)).trans ((Sai_o (by omega)).trans ((Sai_o (by omega)).trans Sai_s))))
  have a4 : Gai G2 (r + 4) (B.1 4) = cause := by
    rw [hG2, hG1]
    exact (Sai_o (by omega)).trans ((Sai_o (by omega)).trans ((Sai_o (by omega)).trans ((Sai_o (by omega)).trans Sai_s)))
  have a5 : Gai G2 (r + 5) (B.1 4) = NN := by
    rw [hG2, hG1]
    exact (Sai_o (by omega)).trans ((Sai_o (by omega)).trans ((Sai_o (by omega)).trans Sai_s))
  have a6 : Gai G2 (r + 6) (B.1 4) = NN := by
    rw [hG2, hG1]
    exact (Sai_o (by omega)).trans ((Sai_o (by omega)).trans Sai_s)
  have a7 : Gai G2 (r + 7) (B.1 4) = B.2 (18 + 4 * n) 0 := by
    rw [hG2, hG1]
    exact (Sai_o (by omega)).trans Sai_s
  have a8 : Gai G2 (r + 8) (B.1 4) = nI (B.1 10) := by
    rw [hG2]
    exact Sai_s
  have hfr : ∀ k, k < B.1 10 → Gfi G2 35 (r + 18 + 4 * k) = B.2 (18 + 4 * k) 0 ∧ Gfr G2 1056 (r + 18 + 4 * k) = some (mA (B.1 (600 + k))) ∧ Gkd G2 (mA (B.1 (600 + k))) = 12 ∧ Gfi G2 76 (mA (B.1 (600 + k))) = nI (B.1 (600 + k)) := fun k hk => by
    obtain ⟨p1, p2⟩ := b4 k hk
    obtain ⟨q1, q2, q3⟩ := m1 _ (m2 k hk)
    refine ⟨(f22 _ _ (.inl (by decide))).trans p1, ?_, ?_, (f22 _ _ (.inl (by decide))).trans q2⟩
    · rw [y2.1]
      exact p2
    · rw [y2.2.2.2.1]
      exact q1
  have lm := l_makes (d := d + 1) (Q := Q) (kind := kind) (cause := cause) (f := B.1 4) (D := B.1 10) (at1 := fun k => B.2 (18 + 4 * k) 0) (mm := fun k => mA (B.1 (600 + k))) (j1 := fun k => B.1 (600 + k)) hl2 ((f22 17 r (.inl (by decide))).trans e8) c10 (by omega) hfr (B.1 10) 0 xjk (Nat.add_zero _)
  have id0 : Rai G2 (r + 9) (fun i => if 12 * B.1 4 ≤ i ∧ i < 12 * B.1 4 + 0 then nI (1000 * B.1 (600 + (B.1 10 - 1 - (i - 12 * B.1 4)))) + B.2 (18 + 4 * (B.1 10 - 1 - (i - 12 * B.1 4))) 0 else Gai G2 (r + 9) i) = G2 := by
    have : (fun i => if 12 * B.1 4 ≤ i ∧ i < 12 * B.1 4 + 0 then nI (1000 * B.1 (600 + (B.1 10 - 1 - (i - 12 * B.1 4)))) + B.2 (18 + 4 * (B.1 10 - 1 - (i - 12 * B.1 4))) 0 else Gai G2 (r + 9) i) = Gai G2 (r + 9) := by
      funext i
      rw [if_neg (by omega)]
    rw [this, Rai_id]
  rw [id0] at lm
  obtain ⟨G3, hG3⟩ : ∃ G3, G3 = Rai G2 (r + 9) (fun i => if 12 * B.1 4 ≤ i ∧ i < 12 * B.1 4 + B.1 10 then nI (1000 * B.1 (600 + (B.1 10 - 1 - (i - 12 * B.1 4)))) + B.2 (18 + 4 * (B.1 10 - 1 - (i - 12 * B.1 4))) 0 else Gai G2 (r + 9) i) := ⟨_, rfl⟩
  rw [← hG3] at lm
  have y3 : YZ (rgb r) G G3 := y2.trans (by rw [hG3]; exact YZ.rai ⟨by omega, by omega⟩)
  have f3 : ∀ x b, Gfi G3 x b = Gfi G2 x b := fun x b => by rw [hG3]; rfl
  have g3 : ∀ a i, a ≠ r + 9 → Gai G3 a i = Gai G2 a i := fun a i ha => by rw [hG3]; exact if_neg ha
  have g9 : ∀ i, Gai G3 (r + 9) i = if 12 * B.1 4 ≤ i ∧ i < 12 * B.1 4 + B.1 10 then nI (1000 * B.1 (600 + (B.1 10 - 1 - (i - 12 * B.1 4)))) + B.2 (18 + 4 * (B.1 10 - 1 - (i - 12 * B.1 4))) 0 else Gai G (r + 9) i := fun i => by
    rw [hG3, ← a2 (r + 9) i (.inr (.inl (by omega)))]
    exact if_pos rfl
  have k1 : ∀ x, x ≠ 4 → x < 100 ∨ 600 ≤ x → (bMakes kind cause B).1 x = B.1 x := fun x h1 h2 => by
    show (if x = 4 then _ else if x = 100 + B.1 4 then _ else B.1 x) = _
    rw [if_neg h1, if_neg (by omega)]
  have hb : RB G3 r mA (bMakes kind cause B) := by
    have k4 : (bMakes kind cause B).1 4 = B.1 4 + 1 := rfl
    refine ⟨hl.xz y3, ?_, fun o i hv => ?_, fun k hk => ?_⟩
    · unfold RC
      rw [f3, f3, f3, f3, f3, f3, f3, f3, f3, f3, f3, k1 3 (by omega) (by omega), k4, k1 5 (by omega) (by omega), k1 6 (by omega) (by omega), k1 7 (by omega) (by omega), k1 8 (by omega) (by omega), k1 9 (by omega) (by omega), k1 10 (by omega) (by omega), k1 11 (by omega) (by omega), k1 12 (by omega) (by omega), k1 13 (by omega) (by omega)]
      exact ⟨(f22 _ _ (.inl (by decide))).trans e1, f22', (f22 _ _ (.inl (by decide))).trans e3, (f22 _ _ (.inl (by decide))).trans e4, (f22 _ _ (.inl (by decide))).trans e5, (f22 _ _ (.inl (by decide))).trans e6, (f22 _ _ (.inl (by decide))).trans e7, (f22 _ _ (.inl (by decide))).trans e8, (f22 _ _ (.inl (by decide))).trans e9, (f22 _ _ (.inl (by decide))).trans e10, (f22 _ _ (.inl (by decide))).trans e11⟩
    · show Gai G3 (r + o) i = (if i = B.1 4 ∧ 3 ≤ o ∧ o ≤ 8 then (if o = 3 then kind else if o = 4 then cause else if o = 7 then B.2 (14 + 4 * B.1 10) 0 else if o = 8 then nI (B.1 10) else NN) else if o = 9 ∧ i / 12 = B.1 4 ∧ i % 12 < B.1 10 then nI (1000 * B.1 (600 + (B.1 10 - 1 - i % 12))) + B.2 (18 + 4 * (B.1 10 - 1 - i % 12)) 0 else B.2 o i)
      by_cases q1 : i = B.1 4 ∧ 3 ≤ o ∧ o ≤ 8
      · rw [if_pos q1]
        obtain ⟨rfl, q2, q3⟩ := q1
        rw [g3 _ _ (by omega)]
        by_cases o3 : o = 3
        · rw [if_pos o3, o3]
          exact a3
        rw [if_neg o3]
        by_cases o4 : o = 4
        · rw [if_pos o4, o4]
          exact a4
        rw [if_neg o4]
        by_cases o7 : o = 7
        · rw [if_pos o7, o7, hn, show 14 + 4 * (n + 1) = 18 + 4 * n by omega]
          exact a7
        rw [if_neg o7]
        by_cases o8 : o = 8
        · rw [if_pos o8, o8]
          exact a8
        rw [if_neg o8]
        by_cases o5 : o = 5
        · rw [o5]
          exact a5
        · have o6 : o = 6 := by omega
          rw [o6]
          exact a6
      · rw [if_neg q1]
        by_cases q9 : o = 9
        · subst q9
          rw [g9 i]
          by_cases q2 : 12 * B.1 4 ≤ i ∧ i < 12 * B.1 4 + B.1 10
          · have d1 : i / 12 = B.1 4 := by omega
            have d2 : i % 12 = i - 12 * B.1 4 := by omega
            rw [if_pos q2, if_pos ⟨rfl, d1, by omega⟩, d2]
          · have d1 : ¬ (9 = 9 ∧ i / 12 = B.1 4 ∧ i % 12 < B.1 10) := by
              rintro ⟨-, d1, d2⟩
              omega
            rw [if_neg q2, if_neg d1]
            refine b3 9 i ?_
            unfold vld at hv
            have hv : i / 12 < B.1 4 + 1 ∧ i % 12 < (bMakes kind cause B).1 (100 + i / 12) := by
              rcases hv with ⟨e, -⟩ | ⟨-, e, -⟩ | ⟨-, e⟩ | ⟨e, -⟩ | ⟨e, -⟩ | ⟨e, -⟩ | ⟨e, -⟩ | ⟨e, -⟩ | ⟨e, -⟩ | ⟨e, -⟩ <;> first | omega | exact e
            by_cases e5 : i / 12 = B.1 4
            · have e6 : (bMakes kind cause B).1 (100 + i / 12) = B.1 10 := by
                rw [e5]
                show (if 100 + B.1 4 = 4 then _ else if 100 + B.1 4 = 100 + B.1 4 then B.1 10 else _) = _
                rw [if_neg (by omega), if_pos rfl]
              rw [e6] at hv
              exact absurd ⟨rfl, e5, hv.2⟩ d1
            · have e6 : (bMakes kind cause B).1 (100 + i / 12) = B.1 (100 + i / 12) := by
                show (if 100 + i / 12 = 4 then _ else if 100 + i / 12 = 100 + B.1 4 then B.1 10 else _) = _
                rw [if_neg (by omega), if_neg (by omega)]
              rw [e6] at hv
              exact .inr (.inr (.inl ⟨rfl, by omega, hv.2⟩))
        · rw [if_neg (fun q => q9 q.1), g3 _ _ (by omega), a2 _ _ (by omega)]
          refine b3 o i ?_
          unfold vld at hv ⊢
          rw [k4, k1 3 (by omega) (by omega), k1 6 (by omega) (by omega), k1 13 (by omega) (by omega), k1 12 (by omega) (by omega), k1 10 (by omega) (by omega)] at hv
          rcases hv with e | e | e | e | e | e | e | e | e | e
          · exact .inl e
          · exact .inr (.inl ⟨e.1, e.2.1, by omega⟩)
          · exact absurd e.1 q9
          · exact .inr (.inr (.inr (.inl e)))
          · exact .inr (.inr (.inr (.inr (.inl e))))
          · exact .inr (.inr (.inr (.inr (.inr (.inl e)))))
          · exact .inr (.inr (.inr (.inr (.inr (.inr (.inl e))))))
          · exact .inr (.inr (.inr (.inr (.inr (.inr (.inr (.inl e)))))))
          · exact .inr (.inr (.inr (.inr (.inr (.inr (.inr (.inr (.inl e))))))))
          · exact .inr (.inr (.inr (.inr (.inr (.inr (.inr (.inr (.inr e))))))))
    · rw [k1 10 (by omega) (by omega)] at hk
      rw [k1 (600 + k) (by omega) (by omega), bMakes_o (by omega), f3]
      obtain ⟨p1, p2⟩ := b4 k hk
      refine ⟨(f22 _ _ (.inl (by decide))).trans p1, ?_⟩
      rw [y3.1]
      exact p2
  have fin := h1 G3 (hh.yz (y3.mono (fun a q => ⟨q.1, by have := q.2; omega⟩)) hb (fun k hk => by
    rw [k1 10 (by omega) (by omega)] at hk
    rw [k1 (600 + k) (by omega) (by omega)]
    exact m2 k hk)) y3
  rw [← lm] at fin
  have f35 : Gfi G 35 (r + 18 + 4 * n) = B.2 (18 + 4 * n) 0 := (b4 n (by omega)).1
  have kt : Gkd G (r + 18 + 4 * n) = 9 := (l1 n (by omega)).2.1
  have t1 := top (Sai (Sai (Sai (Sai (Sfi G 22 r (nI (B.1 4 + 1))) (r + 3) (B.1 4) kind) (r + 4) (B.1 4) cause) (r + 5) (B.1 4) NN) (r + 6) (B.1 4) NN) (hl.xz (P := rgb r) (((((YZ.fi ⟨by omega, by omega⟩).trans (YZ.ai ⟨by omega, by omega⟩)).trans (YZ.ai ⟨by omega, by omega⟩)).trans (YZ.ai ⟨by omega, by omega⟩)).trans (YZ.ai ⟨by omega, by omega⟩))) ((Sfi_o (G := G) (f := 22) (a := r) (v := nI (B.1 4 + 1)) (by decide)).trans (e8.trans (by rw [hn])))
  rw [hG2, hG1] at fin
  rw [XC_s]
  rw [hn] at e8 fin
  have hn12 : n < 12 := by omega
  simp (disch := first | omega | exact cI _ | exact cR _ | exact cK | exact cU | exact cO _ | exact cL _) only [oS, uS.2, Nat.reduceAdd, Nat.reduceSub, Nat.reduceMul, Nat.reduceLeDiff, Nat.reduceEqDiff, Nat.add_sub_cancel, xS, gS, nL, nS, dS, fX5_makes_0, mX5_makes, zX5_makes, l0, e2, e8, t1, kt, f35, fin]
end RUN
