set_option maxRecDepth 100000
/-! failures' kinds are all fit -/
def kB (P : Int32 → Prop) (B : Bk) : Prop := ∀ f, f < B.1 4 → P (B.2 3 f)
/-- blocks well shaped, within N statements -/
def wPn (T : Pg) (nm N : Nat) : Prop := ∀ mi, mi < nm → ∃ mw lo hi, wB T nm mw 999 0 6 (Tm T mi) lo hi ∧ hi ≤ N
def kbB (P : Int32 → Prop) (T : Pg) (nm N : Nat) (bk : Wk) : Prop := ∀ mw tg lp dp ss lo hi tk B, wB T nm mw tg lp dp ss lo hi → hi ≤ N → kB P B → kB P (bk ss tk B).2.2
section KB
variable {P : Int32 → Prop} {T : Pg} {nm N : Nat} {pl : Nat → Int32 → Int32} {bk : Wk} {B B' : Bk}
theorem wPn.pg (h : wPn T nm N) : wPg T nm := fun mi hmi => by
  obtain ⟨mw, lo, hi, w, -⟩ := h mi hmi
  exact ⟨mw, 6, lo, hi, w⟩
theorem kB.of (h : kB P B) (e4 : B'.1 4 = B.1 4) (e3 : ∀ f, B'.2 3 f = B.2 3 f) : kB P B' := fun f hf => by
  rw [e3]
  exact h f (by omega)
theorem kB.s2 (h : kB P B) {o i : Nat} {v : Int32} (ho : o ≠ 3) : kB P (b2 B o i v) := h.of rfl (fun f => by
  show (if 3 = o ∧ f = i then v else B.2 3 f) = _
  rw [if_neg (by omega)])
theorem kB.s1 (h : kB P B) {c v : Nat} (hc : c ≠ 4) : kB P (b1 B c v) := h.of (by
  show (if 4 = c then v else B.1 4) = _
  rw [if_neg (by omega)]) (fun f => rfl)
theorem kB.makes (h : kB P B) {k c : Int32} (hk : P k) : kB P (bMakes k c B) := fun f hf => by
  have hf : f < B.1 4 + 1 := by
    have e4 : (bMakes k c B).1 4 = B.1 4 + 1 := by simp [bMakes]
    rw [e4] at hf
    exact hf
  by_cases ef : f = B.1 4
  · subst ef
    have r3 : (bMakes k c B).2 3 (B.1 4) = k := by simp [bMakes]
    rw [r3]
    exact hk
  · have rr : (bMakes k c B).2 3 f = B.2 3 f := by
      simp only [bMakes]
      rw [if_neg (by omega), if_neg (by omega)]
    rw [rr]
    exact h f (by omega)
theorem kB.pass (h : kB P B) {k : Nat} : kB P (bPass k B) := h.of bPass_4 (fun f => by
  unfold bPass
  by_cases c : B.1 13 < 60
  · simp only [if_pos c, b1, b2]
    rw [if_neg (by omega), if_neg (by omega), if_neg (by omega)]
  · simp only [if_neg c, b2]
    rw [if_neg (by omega)])
theorem kB.sup (h : kB P B) {f : Nat} {g : Int32} : kB P (bSup f g B) := by
  unfold bSup
  split
  · exact h.s2 (by decide)
  · exact h.s2 (by decide)
theorem kB.stp (h : kB P B) : kB P (bStp B) := h.s1 (by decide)
theorem kB.ent (h : kB P B) {m : Nat} {x y : Int32} : kB P (bEnter m x y B) := h.of (by simp only [bEnter]; rw [if_neg (by omega), if_neg (by omega), if_neg (by omega)]) (fun f => by
  simp only [bEnter]
  rw [if_neg (by omega), if_neg (by omega), if_neg (by omega)])
theorem kB.ext (h : kB P B) : kB P (bExit B) := h.s1 (by decide)
theorem sOpens_kb (hp : ∀ k t, pl k t = NN ∨ P (pl k t)) {s : Nat} : ∀ (n i : Nat) (B : Bk), kB P B → kB P (sOpens pl s n i B).2.2.2 := by
  intro n
  induction n with
  | zero => intro i B h; exact h
  | succ n ih =>
    intro i B h
    unfold sOpens
    split
    · exact h
    · dsimp only
      split
      · exact ih _ _ (h.stp.pass.s1 (by decide))
      · next hk => exact h.stp.pass.makes ((hp _ _).resolve_left hk)
theorem sCl_kb (hp : ∀ k t, pl k t = NN ∨ P (pl k t)) {s o : Nat} : ∀ (n p : Nat) (v : Int32) (B : Bk), kB P B → kB P (sCl pl s o n p v B).2.2 := by
  intro n
  induction n with
  | zero => intro p v B h; exact h
  | succ n ih =>
    intro p v B h
    unfold sCl
    split
    · exact h
    · dsimp only
      have h2 : kB P (bPass (7 * s + 4 + n) (b1 (b2 (bStp B) 10 ((bStp B).1 6) (nI (o + n))) 6 ((bStp B).1 6 + 1))) := ((h.stp.s2 (by decide)).s1 (by decide)).pass
      generalize bPass (7 * s + 4 + n) (b1 (b2 (bStp B) 10 ((bStp B).1 6) (nI (o + n))) 6 ((bStp B).1 6 + 1)) = B2 at *
      split
      · exact ih _ _ _ h2
      · next hk =>
        have hd := (hp (7 * s + 4 + n) (B2.2 12 (7 * s + 4 + n))).resolve_left hk
        split
        · exact ih _ _ _ (h2.makes hd).sup
        · exact ih _ _ _ (h2.makes hd)
theorem sLoop_kb (hb : kbB P T nm N bk) {mw tg lp dp lo hi : Nat} {ss : List Nat} {tk : Int32} (w : wB T nm mw tg lp dp ss lo hi) (hN : hi ≤ N) : ∀ (t : Nat) (B : Bk), kB P B → kB P (sLoop bk ss tk t B).2.2 := by
  intro t
  induction t with
  | zero => intro B h; exact h
  | succ t ih =>
    intro B h
    unfold sLoop
    split
    · exact h
    · have r1 := hb mw tg lp dp ss lo hi tk (bStp B) w hN h.stp
      dsimp only
      generalize bk ss tk (bStp B) = q at *
      split
      · exact ih _ r1
      · split
        · exact r1
        · split
          · exact r1
          · exact r1
theorem sInner_kb (hp : ∀ k t, pl k t = NN ∨ P (pl k t)) (hb : kbB P T nm N bk) {mw tg lp dp s hi : Nat} {tk : Int32} (w : wB T nm mw tg lp dp (Tl T s) (s + 1) hi) (hN : hi ≤ N) (h : kB P B) : kB P (sInner T pl bk s tk B).2.2 := by
  unfold sInner
  split
  · exact hb _ _ _ _ _ _ _ _ _ w hN h
  · have r0 := sOpens_kb hp (s := s) (Ta T s).toNatClampNeg 0 B h
    dsimp only
    generalize sOpens pl s (Ta T s).toNatClampNeg 0 B = z at *
    split
    · exact r0
    · have rq : kB P (if z.2.1 = 0 then bk (Tl T s) tk z.2.2.2 else z.2).2.2 := by
        split
        · exact hb _ _ _ _ _ _ _ _ _ w hN r0
        · exact r0
      generalize (if z.2.1 = 0 then bk (Tl T s) tk z.2.2.2 else z.2) = q at *
      split
      · exact rq
      · exact sCl_kb hp _ _ _ _ (rq.s2 (by unfold oAt; omega))
theorem cau_kb (hb : kbB P T nm N bk) {mw lp dp s x y : Nat} {r : Rs} (w : wC (wB T nm mw) s lp dp (Tc T s) x y) (hN : y ≤ N) (hr : kB P r.2.2) : kB P (cau T bk s r).2.2 := by
  unfold cau
  split
  · cases hc : catchFor T (r.2.2.2 3 r.2.1.toNatClampNeg) (Tc T s) with
    | none => exact hr
    | some b =>
      obtain ⟨x1, y1, w1, -, w3⟩ := wC_in (wB_le T nm mw) w hc
      exact hb _ _ _ _ _ _ _ _ _ w1 (by omega) hr
  · exact hr
theorem fin_kb (hb : kbB P T nm N bk) {mw tg lp dp s x y : Nat} {tk : Int32} {r : Rs} (w : wO (wB T nm mw) tg lp dp (To T s) x y) (hN : y ≤ N) (hr : kB P r.2.2) : kB P (fin T bk s tk r).2.2 := by
  unfold fin
  cases hT : To T s with
  | none => exact hr
  | some b =>
    rw [hT] at w
    dsimp only
    split
    · exact hr
    · have r1 := hb mw tg lp dp b x y tk (b2 r.2.2 11 s (r.2.2.2 11 s + 1)) w hN (hr.s2 (by decide))
      generalize bk b tk (b2 r.2.2 11 s (r.2.2.2 11 s + 1)) = z at *
      split
      · exact r1
      · split
        · exact r1
        · split
          · exact r1.s1 (by decide)
          · exact r1
theorem sCall_kb (hb : kbB P T nm N bk) (hP : wPn T nm N) (h6 : ∀ j, 2 ≤ j → j ≤ 6 → P (nI j)) {s : Nat} {tk x y : Int32} (h : kB P B) (hm : ∃ mi, Tb T s = nI mi ∧ mi < nm) (hnm : nm ≤ 8) : kB P (sCall T bk s tk x y B).2.2 := by
  unfold sCall
  split
  · exact h.makes (h6 6 (by omega) (by omega))
  · obtain ⟨mi, em, hmi⟩ := hm
    rw [em, nI_clamp (by omega)]
    obtain ⟨mw, lo, hi, w, hN⟩ := hP mi hmi
    have r1 := hb mw 999 0 6 (Tm T mi) lo hi tk (bEnter mi x y B) w hN h.ent
    dsimp only
    generalize bk (Tm T mi) tk (bEnter mi x y B) = q at *
    split
    · exact r1
    · split
      · exact r1.ext
      · show kB P (if Tk T s = 2 then _ else _ : Bk)
        split
        · exact r1.ext.s2 (by unfold oVar; omega)
        · exact r1.ext
theorem evE_p {es : List En} (h6 : ∀ j, 2 ≤ j → j ≤ 6 → P (nI j)) (h : (evE B es).1 ≠ 0) : P (evE B es).1 := by
  unfold evE at h ⊢
  dsimp only at h ⊢
  rcases evE_k (B := B) es [] with e | e | e | e
  · exact absurd e h
  · rw [e]; exact h6 2 (by omega) (by omega)
  · rw [e]; exact h6 3 (by omega) (by omega)
  · rw [e]; exact h6 4 (by omega) (by omega)
theorem stm_kb (hp : ∀ k t, pl k t = NN ∨ P (pl k t)) (hb : kbB P T nm N bk) (hP : wPn T nm N) (hnm : nm ≤ 8) (h6 : ∀ j, 2 ≤ j → j ≤ 6 → P (nI j)) {mw tg lp dp s e : Nat} {tk : Int32} (w : wS T nm (wB T nm mw) tg lp dp s e) (hN : e ≤ N) (hT : (Tk T s = 13 ∨ Tk T s = 14) → P (Ta T s)) (h : kB P B) : kB P (stm T pl bk s tk B).2.2 := by
  obtain ⟨⟨w0, -, -, -, -, -, -, -, w8, -⟩, w⟩ := w
  have hpi : kB P (bPass (7 * s) B) := h.pass
  unfold stm
  dsimp only
  generalize bPass (7 * s) B = B1 at *
  by_cases k0 : Tk T s = 0
  · rw [if_pos k0]
    split
    · exact (hpi.s2 (by decide)).s1 (by decide)
    · next hk => exact hpi.makes ((hp _ _).resolve_left hk)
  rw [if_neg k0]
  by_cases k4 : Tk T s = 4
  · rw [if_pos k4]
    exact h.s2 (by unfold oRow; omega)
  rw [if_neg k4]
  by_cases k5 : Tk T s = 5
  · rw [if_pos k5]
    exact h.s2 (by unfold oRow; omega)
  rw [if_neg k5]
  by_cases k11 : Tk T s = 11
  · rw [if_pos k11]
    exact h
  rw [if_neg k11]
  by_cases k12 : Tk T s = 12
  · rw [if_pos k12]
    exact h
  rw [if_neg k12]
  by_cases k13 : Tk T s = 13
  · rw [if_pos k13]
    exact h.makes (hT (Or.inl k13))
  rw [if_neg k13]
  by_cases k14 : Tk T s = 14
  · rw [if_pos k14]
    exact h.makes (hT (Or.inr k14))
  rw [if_neg k14]
  by_cases k15 : Tk T s = 15
  · rw [if_pos k15]
    exact h
  rw [if_neg k15]
  by_cases k16 : Tk T s = 16 ∨ Tk T s = 17
  · rw [if_pos k16]
    rw [if_neg (by omega), if_neg (by omega), if_pos k16] at w
    obtain ⟨d, x, y, -, wa, wb, wc, -⟩ := w
    have l1 := wC_le (wB_le T nm mw) wb
    have l2 := wO_le (wB_le T nm mw) wc
    rw [sGuard_e]
    exact fin_kb hb wc hN (cau_kb hb wb (by omega) (sInner_kb hp hb wa (by omega) h))
  rw [if_neg k16]
  by_cases k9' : (evE B (T1 T s)).1 ≠ 0
  · rw [if_pos k9']
    exact h.makes (evE_p h6 k9')
  rw [if_neg k9']
  by_cases k1 : Tk T s = 1
  · rw [if_pos k1]
    exact h.s2 (by unfold oVar; omega)
  rw [if_neg k1]
  by_cases k3 : Tk T s = 3
  · rw [if_pos k3]
    split
    · refine h.of rfl (fun f => ?_)
      show (if 3 = 14 ∧ f = B.1 12 then (evE B (T1 T s)).2 else if 3 = 15 ∧ 8 * B.1 12 ≤ f ∧ f < 8 * B.1 12 + 8 then 0 else if 3 = oRow B ∧ f = (Ta T s).toNatClampNeg then nI (B.1 12) else B.2 3 f) = _
      rw [if_neg (by omega), if_neg (by omega), if_neg (by unfold oRow; omega)]
    · exact h.makes (h6 5 (by omega) (by omega))
  rw [if_neg k3]
  by_cases k8 : Tk T s = 8
  · rw [if_pos k8]
    exact h
  rw [if_neg k8]
  by_cases k10 : Tk T s = 10
  · rw [if_pos k10]
    rw [if_neg (by omega), if_pos k10] at w
    obtain ⟨d, -, wa⟩ := w
    exact sLoop_kb hb wa hN _ _ h
  rw [if_neg k10]
  by_cases k2' : (evE B (T2 T s)).1 ≠ 0
  · rw [if_pos k2']
    exact h.makes (evE_p h6 k2')
  rw [if_neg k2']
  by_cases k6 : Tk T s = 6
  · rw [if_pos k6]
    split
    · exact h.makes (h6 4 (by omega) (by omega))
    · split
      · exact h.s2 (by decide)
      · exact h.makes (h6 3 (by omega) (by omega))
  rw [if_neg k6]
  by_cases k9 : Tk T s = 9
  · rw [if_pos k9]
    rw [if_pos k9] at w
    obtain ⟨d, x, -, wa, wb⟩ := w
    have l2 := wO_le (wB_le T nm mw) wb
    split
    · exact hb _ _ _ _ _ _ _ _ _ wa (by omega) h
    · cases hT : To T s with
      | none =>
        exact hb 0 tg lp d [] 0 0 tk B ⟨rfl, rfl⟩ (Nat.zero_le _) h
      | some b =>
        rw [hT] at wb
        exact hb _ _ _ _ _ _ _ _ _ wb hN h
  rw [if_neg k9]
  have k27 : Tk T s = 2 ∨ Tk T s = 7 := by omega
  exact sCall_kb hb hP h6 h (w8 k27) hnm
theorem sBlk_kb (hp : ∀ k t, pl k t = NN ∨ P (pl k t)) (hP : wPn T nm N) (hnm : nm ≤ 8) (h6 : ∀ j, 2 ≤ j → j ≤ 6 → P (nI j)) (hT : ∀ s, s < N → (Tk T s = 13 ∨ Tk T s = 14) → P (Ta T s)) : ∀ n, kbB P T nm N (sBlk T pl n) := by
  intro n
  induction n with
  | zero =>
    intro mw tg lp dp ss lo hi tk B w hN h
    unfold sBlk
    split
    · exact h
    · exact h
  | succ n ih =>
    intro mw tg lp dp ss lo hi tk B w hN h
    unfold sBlk
    split
    · exact h
    · next s r =>
      split
      · exact h
      · cases mw with
        | zero => exact absurd w.1 (by intro h; cases h)
        | succ mw =>
          obtain ⟨rfl, e, he, ws, wr⟩ := w
          have l1 := wB_le T nm mw _ _ _ _ _ _ wr
          have r1 := stm_kb (e := e) hp ih hP hnm h6 (tk := tk) ws (by omega) (hT s (by omega)) (h.stp.s2 (o := oAt B) (i := 0) (v := nI s) (by unfold oAt; omega))
          dsimp only
          generalize stm T pl (sBlk T pl n) s tk (b2 (bStp B) (oAt B) 0 (nI s)) = q at *
          split
          · exact ih mw tg lp dp r e hi tk q.2.2 wr hN r1
          · exact r1
end KB
