set_option maxRecDepth 100000
section CODEX
variable {D d r k lo hi p n nm nk a b : Nat} {A mA : Nat → Nat} {T : Pg} {C : Cd} {lw oa ta : Nat} {F F' : Nat → Cf} {pl : Nat → Int32 → Int32} {B B' : Bk} {G G' G2 : XG} {Q : (Option Value ⊕ Nat) → XG → Prop}
/-- behind an instruction -/
def P1 (C : Cd) (v : Nat) : Prop := ∃ q, v = q + 1 ∧ (C.1 q).1 ≤ 22
def pcI (C : Cd) (x : Cs) : Prop := (x.1 = 0 → ∀ j, j + 1 < x.2.2.2.1 10 → P1 C (x.2.2.1 j).1) ∧ (x.1 = 4 → ∀ j, j < x.2.2.2.1 10 → P1 C (x.2.2.1 j).1)
theorem pcI.of {s : Nat} {v : Int32} (hpc : ∀ j, j < k + 1 → P1 C (F j).1) (hd : (s = 0 ∨ s = 4) → B'.1 10 ≤ k + 1) (h1 : ∀ j, j < k → (F' j).1 = (F j).1) (h2 : s = 4 → (F' k).1 = (F k).1) : pcI C (s, v, F', B') := by
  refine ⟨fun s0 j hj => ?_, fun s4 j hj => ?_⟩
  · have s0 : s = 0 := s0
    have hj : j + 1 < B'.1 10 := hj
    have := hd (.inl s0)
    show P1 C (F' j).1
    rw [h1 j (by omega)]
    exact hpc j (by omega)
  · have s4 : s = 4 := s4
    have hj : j < B'.1 10 := hj
    have := hd (.inr s4)
    show P1 C (F' j).1
    by_cases c : j = k
    · rw [c, h2 s4]
      exact hpc k (by omega)
    · rw [h1 j (by omega)]
      exact hpc j (by omega)
theorem cRs_iv {q : Rs} (hpc : ∀ j, j < k + 1 → P1 C (F j).1) (hkb : kB (kV nk) q.2.2) (hd : q.1 ≠ 5 → q.2.2.1 10 ≤ k + 1) (h1 : ∀ j, j < k + 1 → (F' j).1 = (F j).1) : kB (kV nk) (cRs F' q).2.2.2 ∧ pcI C (cRs F' q) := by
  unfold cRs
  by_cases c : q.1 = 0
  · rw [if_pos c]
    exact ⟨hkb, pcI.of hpc (fun _ => hd (by omega)) (fun j hj => h1 j (by omega)) (fun e => absurd e (by decide))⟩
  rw [if_neg c]
  by_cases c5 : q.1 = 5
  · rw [if_pos c5]
    exact ⟨hkb, fun e => absurd e (show ¬ (5 : Nat) = 0 by decide), fun e => absurd e (show ¬ (5 : Nat) = 4 by decide)⟩
  rw [if_neg c5]
  exact ⟨hkb, pcI.of hpc (fun _ => hd c5) (fun j hj => h1 j (by omega)) (fun _ => h1 k (by omega))⟩
theorem cFl_iv {kd : Int32} (hpc : ∀ j, j < k + 1 → P1 C (F j).1) (hkb : kB (kV nk) B) (h10 : B.1 10 = k + 1) (hk : kV nk kd) : kB (kV nk) (cFl kd F B).2.2.2 ∧ pcI C (cFl kd F B) := ⟨hkb.makes hk, pcI.of hpc (fun _ => Nat.le_of_eq (bMakes_c.2.1.trans h10)) (fun _ _ => rfl) (fun _ => rfl)⟩
theorem cOp_iv {i : Ci} (hP : PGW T n nm nk pl) (ho : okI T nm n C k i F B) (h10 : B.1 10 = k + 1) (hkb : kB (kV nk) B) (hpc : ∀ j, j < k + 1 → P1 C (F j).1) : kB (kV nk) (cOp T pl C k i F B).2.2.2 ∧ pcI C (cOp T pl C k i F B) := by
  obtain ⟨o, a, b⟩ := i
  obtain ⟨h12, ho⟩ := ho
  have hk7 := hP.2.2.2.2.2.1
  have h6 : ∀ j, 2 ≤ j → j ≤ 6 → kV nk (nI j) := fun j _ hj => ⟨j, rfl, by omega⟩
  have hpl := hP.2.2.2.1
  have hd0 : ∀ s : Nat, (s = 0 ∨ s = 4) → B.1 10 ≤ k + 1 := fun _ _ => Nat.le_of_eq h10
  have fpc1 : ∀ v, ∀ j, j < k → (fpc F k v j).1 = (F j).1 := fun v j hj => by rw [fpc_o (by omega)]
  have fsl1 : ∀ i v, ∀ j, (fsl F k i v j).1 = (F j).1 := fun i v j => by
    by_cases c : j = k
    · subst c
      exact fsl_1
    · rw [fsl_o c]
  have fre1 : ∀ v, ∀ j, (fre F k v j).1 = (F j).1 := fun v j => by
    by_cases c : j = k
    · subst c
      exact fre_1
    · rw [fre_o c]
  have fop1 : ∀ s o w, ∀ j, (fop F k s o w j).1 = (F j).1 := fun s o w j => by
    by_cases c : j = k
    · subst c
      exact fop_1
    · rw [fop_o c]
  dsimp only at ho
  revert ho
  match o with
  | 0 =>
    intro ho
    show kB (kV nk) (if isSpent B = true then ((5, 0, F, B) : Cs) else (0, 0, F, b2 (bStp B) (oAt B) 0 (nI a))).2.2.2 ∧ pcI C (if isSpent B = true then ((5, 0, F, B) : Cs) else (0, 0, F, b2 (bStp B) (oAt B) 0 (nI a)))
    split
    · exact ⟨hkb, pcI.of hpc (hd0 _) (fun _ _ => rfl) (fun _ => rfl)⟩
    · exact ⟨hkb.stp.s2 (by unfold oAt; omega), pcI.of hpc (fun _ => Nat.le_of_eq h10) (fun _ _ => rfl) (fun _ => rfl)⟩
  | 1 =>
    intro ho
    obtain ⟨x1, x2, x3, x4⟩ := ho
    have hkp := @stm_kp T pl (fun _ _ B => (0, 0, B)) (B.1 11 - B.1 9) a NN B (fun _ _ _ _ h => kp.of h rfl rfl rfl) (Nat.le_refl _) x4.le
    have hw : wS T nm (wB T nm 0) 999 0 0 a (a + 1) := ⟨x3, by
      have x1 : isPl (Tk T a) := x1
      unfold isPl at x1
      rw [if_neg (by omega), if_neg (by omega), if_neg (by omega)]
      exact ⟨rfl, fun h => by omega, fun h => by omega⟩⟩
    have hsk := stm_kb (P := kV nk) (bk := fun _ _ B => (0, 0, B)) (N := n) (tk := NN) hpl (fun _ _ _ _ _ _ _ _ _ _ _ h => h) hP.1 hP.2.1 h6 hw x2 (hP.2.2.2.2.2.2.2 a x2) hkb
    exact cRs_iv hpc hsk (fun h5 => Nat.le_of_eq ((hkp.2.2.2 h5).trans h10)) (fun _ _ => rfl)
  | 2 =>
    intro ho
    show kB (kV nk) (if (evE B (T1 T a)).1 ≠ 0 then cFl (evE B (T1 T a)).1 F B else if (evE B (T2 T a)).1 ≠ 0 then cFl (evE B (T2 T a)).1 F B else if B.1 10 = 12 then cFl 6 F B else (0, 0, (fun j => if j = k + 1 then (C.2.2 (Tb T a).toNatClampNeg, 0, (F j).2.2) else F j), bEnter (Tb T a).toNatClampNeg (evE B (T1 T a)).2 (evE B (T2 T a)).2 B) : Cs).2.2.2 ∧ pcI C (if (evE B (T1 T a)).1 ≠ 0 then cFl (evE B (T1 T a)).1 F B else if (evE B (T2 T a)).1 ≠ 0 then cFl (evE B (T2 T a)).1 F B else if B.1 10 = 12 then cFl 6 F B else (0, 0, (fun j => if j = k + 1 then (C.2.2 (Tb T a).toNatClampNeg, 0, (F j).2.2) else F j), bEnter (Tb T a).toNatClampNeg (evE B (T1 T a)).2 (evE B (T2 T a)).2 B) : Cs)
    split
    · next h => exact cFl_iv hpc hkb h10 (evE_p h6 h)
    · split
      · next h => exact cFl_iv hpc hkb h10 (evE_p h6 h)
      · split
        · exact cFl_iv hpc hkb h10 (h6 6 (by omega) (by omega))
        · refine ⟨hkb.ent, fun _ j hj => ?_, fun e => absurd e (show ¬ (0 : Nat) = 4 by decide)⟩
          have hj : j + 1 < B.1 10 + 1 := hj
          show P1 C (if j = k + 1 then ((C.2.2 (Tb T a).toNatClampNeg, 0, (F j).2.2) : Cf) else F j).1
          rw [if_neg (by omega)]
          exact hpc j (by omega)
  | 3 =>
    intro ho
    show kB (kV nk) (if (evE B (T1 T a)).1 ≠ 0 then cFl (evE B (T1 T a)).1 F B else (0, 0, fre F k (evE B (T1 T a)).2, B) : Cs).2.2.2 ∧ pcI C (if (evE B (T1 T a)).1 ≠ 0 then cFl (evE B (T1 T a)).1 F B else (0, 0, fre F k (evE B (T1 T a)).2, B) : Cs)
    split
    · next h => exact cFl_iv hpc hkb h10 (evE_p h6 h)
    · exact ⟨hkb, pcI.of hpc (hd0 _) (fun j _ => fre1 _ j) (fun _ => fre1 _ k)⟩
  | 4 =>
    intro ho
    show kB (kV nk) (if (evE B (T1 T a)).1 ≠ 0 then cFl (evE B (T1 T a)).1 F B else if (evE B (T2 T a)).1 ≠ 0 then cFl (evE B (T2 T a)).1 F B else (0, 0, if holds (Ta T a) (evE B (T1 T a)).2 (evE B (T2 T a)).2 = true then F else fpc F k b, B) : Cs).2.2.2 ∧ pcI C (if (evE B (T1 T a)).1 ≠ 0 then cFl (evE B (T1 T a)).1 F B else if (evE B (T2 T a)).1 ≠ 0 then cFl (evE B (T2 T a)).1 F B else (0, 0, if holds (Ta T a) (evE B (T1 T a)).2 (evE B (T2 T a)).2 = true then F else fpc F k b, B) : Cs)
    split
    · next h => exact cFl_iv hpc hkb h10 (evE_p h6 h)
    · split
      · next h => exact cFl_iv hpc hkb h10 (evE_p h6 h)
      · refine ⟨hkb, pcI.of hpc (hd0 _) (fun j hj => ?_) (fun e => absurd e (by decide))⟩
        split
        · rfl
        · exact fpc1 _ j hj
  | 5 => exact fun _ => ⟨hkb, pcI.of hpc (hd0 _) (fpc1 _) (fun e => absurd e (by decide))⟩
  | 6 =>
    intro ho
    show kB (kV nk) (if (evE B (T1 T a)).1 ≠ 0 then cFl (evE B (T1 T a)).1 F B else (0, 0, fsl F k b (evE B (T1 T a)).2, B) : Cs).2.2.2 ∧ pcI C (if (evE B (T1 T a)).1 ≠ 0 then cFl (evE B (T1 T a)).1 F B else (0, 0, fsl F k b (evE B (T1 T a)).2, B) : Cs)
    split
    · next h => exact cFl_iv hpc hkb h10 (evE_p h6 h)
    · exact ⟨hkb, pcI.of hpc (hd0 _) (fun j _ => fsl1 _ _ j) (fun _ => fsl1 _ _ k)⟩
  | 7 =>
    intro ho
    show kB (kV nk) (if (F k).2.2 (8 * a) < 1 then ((0, 0, fpc F k b, B) : Cs) else if isSpent B = true then (5, 0, F, B) else (0, 0, fsl F k (8 * a) ((F k).2.2 (8 * a) - 1), bStp B)).2.2.2 ∧ pcI C (if (F k).2.2 (8 * a) < 1 then ((0, 0, fpc F k b, B) : Cs) else if isSpent B = true then (5, 0, F, B) else (0, 0, fsl F k (8 * a) ((F k).2.2 (8 * a) - 1), bStp B))
    split
    · exact ⟨hkb, pcI.of hpc (hd0 _) (fpc1 _) (fun e => absurd e (by decide))⟩
    · split
      · exact ⟨hkb, pcI.of hpc (hd0 _) (fun _ _ => rfl) (fun _ => rfl)⟩
      · exact ⟨hkb.stp, pcI.of hpc (fun _ => Nat.le_of_eq h10) (fun j _ => fsl1 _ _ j) (fun _ => fsl1 _ _ k)⟩
  | 8 =>
    intro ho
    obtain ⟨x1, x2, -⟩ := ho
    show kB (kV nk) (if Tk T a = 15 then ((4, (F k).2.2 (8 * (Tb T a).toNatClampNeg), F, B) : Cs) else (4, nI (B.1 4), F, bMakes (Ta T a) ((F k).2.2 (8 * (Tb T a).toNatClampNeg)) B)).2.2.2 ∧ pcI C (if Tk T a = 15 then ((4, (F k).2.2 (8 * (Tb T a).toNatClampNeg), F, B) : Cs) else (4, nI (B.1 4), F, bMakes (Ta T a) ((F k).2.2 (8 * (Tb T a).toNatClampNeg)) B))
    split
    · exact ⟨hkb, pcI.of hpc (hd0 _) (fun _ _ => rfl) (fun _ => rfl)⟩
    · next h =>
      have x1 : Tk T a = 14 ∨ Tk T a = 15 := x1
      exact ⟨hkb.makes (hP.2.2.2.2.2.2.2 a x2 (.inr (by omega))), pcI.of hpc (fun _ => Nat.le_of_eq (bMakes_c.2.1.trans h10)) (fun _ _ => rfl) (fun _ => rfl)⟩
  | 9 =>
    intro ho
    obtain ⟨x1, x2, x3, -⟩ := ho
    have kw := sOpens_kb (P := kV nk) hpl (s := a) (Ta T a).toNatClampNeg 0 B hkb
    have w10 := (sOpens_10 (pl := pl) (s := a) (Ta T a).toNatClampNeg 0 B).trans h10
    show kB (kV nk) (if (sOpens pl a (Ta T a).toNatClampNeg 0 B).2.1 = 4 then cRs (fop F k a (B.1 5) (sOpens pl a (Ta T a).toNatClampNeg 0 B).1) (cCl pl a (fop F k a (B.1 5) (sOpens pl a (Ta T a).toNatClampNeg 0 B).1 k).2.2 (sOpens pl a (Ta T a).toNatClampNeg 0 B).1 4 (sOpens pl a (Ta T a).toNatClampNeg 0 B).2.2.1 (sOpens pl a (Ta T a).toNatClampNeg 0 B).2.2.2) else cRs (fop F k a (B.1 5) (sOpens pl a (Ta T a).toNatClampNeg 0 B).1) (sOpens pl a (Ta T a).toNatClampNeg 0 B).2 : Cs).2.2.2 ∧ pcI C (if (sOpens pl a (Ta T a).toNatClampNeg 0 B).2.1 = 4 then cRs (fop F k a (B.1 5) (sOpens pl a (Ta T a).toNatClampNeg 0 B).1) (cCl pl a (fop F k a (B.1 5) (sOpens pl a (Ta T a).toNatClampNeg 0 B).1 k).2.2 (sOpens pl a (Ta T a).toNatClampNeg 0 B).1 4 (sOpens pl a (Ta T a).toNatClampNeg 0 B).2.2.1 (sOpens pl a (Ta T a).toNatClampNeg 0 B).2.2.2) else cRs (fop F k a (B.1 5) (sOpens pl a (Ta T a).toNatClampNeg 0 B).1) (sOpens pl a (Ta T a).toNatClampNeg 0 B).2 : Cs)
    split
    · exact cRs_iv hpc (cCl_kb hpl _ _ _ _ kw) (fun _ => Nat.le_of_eq ((cCl_10 _ _ _ _).trans w10)) (fun j _ => fop1 _ _ _ j)
    · exact cRs_iv hpc kw (fun _ => Nat.le_of_eq w10) (fun j _ => fop1 _ _ _ j)
  | 10 => exact fun _ => cRs_iv hpc (cCl_kb hpl _ _ _ _ (hkb.s2 (o := oAt B) (i := 0) (v := nI a) (by unfold oAt; omega))) (fun _ => Nat.le_of_eq ((cCl_10 _ _ _ _).trans h10)) (fun j _ => rfl)
  | 11 => exact fun _ => cRs_iv hpc (cCl_kb hpl _ _ _ _ (hkb.s2 (o := oAt B) (i := 0) (v := nI a) (by unfold oAt; omega))) (fun _ => Nat.le_of_eq ((cCl_10 _ _ _ _).trans h10)) (fun j _ => rfl)
  | 12 => exact fun _ => ⟨hkb.s2 (by decide), pcI.of hpc (fun _ => Nat.le_of_eq h10) (fun _ _ => rfl) (fun _ => rfl)⟩
  | 13 => exact fun _ => ⟨hkb, pcI.of hpc (hd0 _) (fun j _ => fsl1 _ _ j) (fun _ => fsl1 _ _ k)⟩
  | 14 => exact fun _ => ⟨hkb, pcI.of hpc (hd0 _) (fun j _ => fre1 _ j) (fun _ => fre1 _ k)⟩
  | 15 => exact fun _ => ⟨hkb, pcI.of hpc (hd0 _) (fun _ _ => rfl) (fun _ => rfl)⟩
  | 16 => exact fun _ => ⟨hkb.s1 (by decide), pcI.of hpc (fun _ => Nat.le_of_eq h10) (fun _ _ => rfl) (fun _ => rfl)⟩
  | 17 =>
    intro _
    refine ⟨?_, pcI.of hpc (fun _ => ?_) (fun _ _ => rfl) (fun _ => rfl)⟩
    · show kB (kV nk) (if (F k).2.2 b = NN then B else b1 B 7 (B.1 7 + 1))
      split
      · exact hkb
      · exact hkb.s1 (by decide)
    · show (if (F k).2.2 b = NN then B else b1 B 7 (B.1 7 + 1) : Bk).1 10 ≤ k + 1
      split
      · exact Nat.le_of_eq h10
      · exact Nat.le_of_eq h10
  | 18 => exact fun _ => ⟨hkb, pcI.of hpc (hd0 _) (fun j _ => fsl1 _ _ j) (fun _ => fsl1 _ _ k)⟩
  | 19 => exact fun _ => ⟨hkb, pcI.of hpc (hd0 _) (fun j _ => fsl1 _ _ j) (fun _ => fsl1 _ _ k)⟩
  | 20 => exact fun _ => ⟨hkb, pcI.of hpc (hd0 _) (fpc1 _) (fun e => absurd e (by decide))⟩
  | 21 => exact fun _ => ⟨hkb, pcI.of hpc (hd0 _) (fun j _ => fre1 _ j) (fun _ => fre1 _ k)⟩
  | 22 =>
    intro _
    rw [cOp_22]
    split
    · exact ⟨hkb.ext, fun e => absurd e (show ¬ (1 : Nat) = 0 by decide), fun e => absurd e (show ¬ (1 : Nat) = 4 by decide)⟩
    · refine ⟨?_, pcI.of hpc (fun _ => ?_) (fun _ _ => rfl) (fun _ => rfl)⟩
      · show kB (kV nk) (if Tk T (C.1 ((F (k - 1)).1 - 1)).2.1 = 2 then b2 (bExit B) (oVar (bExit B)) (Ta T (C.1 ((F (k - 1)).1 - 1)).2.1).toNatClampNeg (F k).2.1 else bExit B)
        split
        · exact hkb.ext.s2 (by unfold oVar; omega)
        · exact hkb.ext
      · have e : (bExit B).1 10 ≤ k + 1 := by
          show B.1 10 - 1 ≤ k + 1
          omega
        show (if Tk T (C.1 ((F (k - 1)).1 - 1)).2.1 = 2 then b2 (bExit B) (oVar (bExit B)) (Ta T (C.1 ((F (k - 1)).1 - 1)).2.1).toNatClampNeg (F k).2.1 else bExit B : Bk).1 10 ≤ k + 1
        split
        · exact e
        · exact e
  | o + 23 => exact fun ho => ho.elim
theorem okI_22 {i : Ci} (ho : okI T nm n C k i F B) : i.1 ≤ 22 := by
  obtain ⟨o, a, b⟩ := i
  obtain ⟨h12, ho⟩ := ho
  by_cases c : o ≤ 22
  · exact c
  · obtain ⟨x, rfl⟩ : ∃ x, o = x + 23 := ⟨o - 23, by omega⟩
    exact ho.elim
end CODEX
