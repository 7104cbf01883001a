set_option maxRecDepth 100000
section CODEX
variable {D d r k lo hi p n nm nk a b : Nat} {A mA : Nat → Nat} {T : Pg} {C : Cd} {lw oa ta : Nat} {F F' : Nat → Cf} {pl : Nat → Int32 → Int32} {B B' : Bk} {G G' G2 : XG} {Q : (Option Value ⊕ Nat) → XG → Prop}
theorem okI_pc {i : Ci} {v : Nat} (ho : okI T nm n C k i F B) : okI T nm n C k i (fpc F k v) B := by
  obtain ⟨o, a, b⟩ := i
  obtain ⟨h12, ho⟩ := ho
  refine ⟨h12, ?_⟩
  dsimp only at ho ⊢
  revert ho
  match o with
  | 0 => exact fun h => h
  | 1 => exact fun h => h
  | 2 => exact fun h => h
  | 3 => exact fun h => h
  | 4 => exact fun h => h
  | 5 => exact fun h => h
  | 6 => exact fun h => h
  | 7 => exact fun h => h
  | 8 => exact fun h => h
  | 9 => exact fun h => h
  | 10 => exact fun h => h
  | 11 =>
    intro h
    show _ ∧ _ ∧ _ ∧ _ ∧ vK B ((fpc F k v k).2.2 b) ∧ _
    rw [fpc_2]
    exact h
  | 12 => exact fun h => h
  | 13 => exact fun h => h
  | 14 => exact fun h => h
  | 15 => exact fun h => h
  | 16 => exact fun h => h
  | 17 => exact fun h => h
  | 18 => exact fun h => h
  | 19 => exact fun h => h
  | 20 =>
    intro h
    show _ ∧ ∃ g, (fpc F k v k).2.2 b = nI g ∧ _
    rw [fpc_2]
    exact h
  | 21 => exact fun h => h
  | 22 =>
    intro h
    by_cases c : k = 0
    · exact .inl c
    · refine .inr ?_
      rw [fpc_o (by omega)]
      exact (show k = 0 ∨ _ from h).resolve_left c
  | o + 23 => exact fun h => h
theorem k_unw {y : Cs} {M M0 : Nat} {v : Int32} (hM : M ≤ M0 + 1) (hP : PGW T n nm nk pl) (ht : Tr T nm n pl C M (4, v, F, B) y) (hp : pcI C (4, v, F, B)) (hx : RX r p hi n nm nk A mA T pl C lw oa ta F B G) (hd1 : 1 ≤ B.1 10) (h33 : Gfi G 33 (r + 16) = v) (ye : YE r G2 G) (hD : 3 ≤ D) (h1 : ∀ M F' B' G', M ≤ M0 → Tr T nm n pl C M (0, 0, F', B') y → pcI C (0, 0, F', B') → RX r p hi n nm nk A mA T pl C lw oa ta F' B' G' → YE r G2 G' → Q (.inl none) G') (h0 : ∀ F' B' G', y = (6, v, F', B') → RU G' r mA nm pl B' → YE r G2 G' → Gfi G' 33 (r + 16) = v → Q (.inr (r + 16)) G') : XC xms D 76 [.ref p, .ref r, .ref (r + 16)] G Q := by
  obtain ⟨d, rfl⟩ : ∃ d, D = d + 1 + 1 := ⟨D - 2, by omega⟩
  cases M with
  | zero =>
    obtain ⟨rfl, -, h⟩ := ht
    have h : (4 : Nat) = 1 ∨ (4 : Nat) = 5 ∨ (4 : Nat) = 6 := h
    omega
  | succ M =>
    obtain ⟨⟨f, ef, hf⟩, h400, h12⟩ := ht.hd.2 rfl hd1
    have ef : v = nI f := ef
    have hf : f < B.1 4 := hf
    have h400 : B.1 4 ≤ 400 := h400
    subst ef
    have hfb : f < 2147483648 := by omega
    obtain ⟨hr, hc, hu, hcf, hkb⟩ := id hx
    obtain ⟨kd, ekd, hkd⟩ := hkb f hf
    have g3f : Gai G (r + 3) f = nI kd := (hu.1.2.2.1 3 f (.inr (.inl ⟨by omega, by omega, hf⟩))).trans ekd
    have hf401 : f < 401 := by omega
    have l0 := hu.1.1.1
    unfold RL0 at l0
    have fi := fun x4 x5 x6 x7 => l_unw (d := d) hP hkd h1 h0 (M + 1) F B G x4 x5 x6 x7 hM ht hp hx h33 hfb ekd ye
    rw [XC_s]
    simp (disch := first | omega | exact cI _ | exact cR _ | exact cK | exact cU | exact cO _ | exact cL _) only [oS, uS.2, Nat.reduceAdd, Nat.reduceSub, Nat.reduceMul, Nat.reduceLeDiff, Nat.reduceEqDiff, Nat.add_sub_cancel, xS, gS, nL, nS, dS, fX3_unwinds_0, mX3_unwinds, zX3_unwinds, l0, h33, g3f, hf401, hfb, fi]
theorem k_goes {y : Cs} {M : Nat} {v : Int32} (hP : PGW T n nm nk pl) (hG : PGG T n) (ht : Tr T nm n pl C (M + 1) (0, v, F, B) y) (hp : pcI C (0, v, F, B)) (hx : RX r p hi n nm nk A mA T pl C lw oa ta F B G) (h10 : B.1 10 = k + 1) (hD : 292 ≤ D) (h1 : ∀ M' v' F' B' G', M' ≤ M → Tr T nm n pl C M' (0, v', F', B') y → pcI C (0, v', F', B') → RX r p hi n nm nk A mA T pl C lw oa ta F' B' G' → YE r G G' → Q (.inl none) G')
    (hr1 : ∀ G', y.1 = 1 → YR r G G' → Gfi G' 28 r = nI 0 → Gfi G' 29 r = y.2.1 → Gfi G' 30 r = Gfi G 30 r → RU G' r mA nm pl y.2.2.2 → Q (.inl none) G')
    (hs : ∀ G', y.1 = 5 → YE r G G' → RU G' r mA nm pl y.2.2.2 → Q (.inr (r + 17)) G')
    (h6 : ∀ G', y.1 = 6 → YE r G G' → RU G' r mA nm pl y.2.2.2 → Gfi G' 33 (r + 16) = y.2.1 → Q (.inr (r + 16)) G') : XC xms D 72 [.ref p, .ref r, .ref (r + 18 + 4 * k)] G Q := by
  obtain ⟨d, rfl⟩ : ∃ d, D = d + 1 := ⟨D - 1, by omega⟩
  obtain ⟨hr, hc, hu, hcf, hkb⟩ := id hx
  obtain ⟨-, hok⟩ := ht.hd.1 rfl
  have hok : okI T nm n C (B.1 10 - 1) (C.1 (F (B.1 10 - 1)).1) F B := hok
  rw [h10, Nat.add_sub_cancel] at hok
  have hk12 : k < 12 := by have := hok.1; omega
  have h22 := okI_22 hok
  obtain ⟨u1, u2, u3, u4, u5, u6, u7, u8, u9, u10, u11⟩ := hu.1.1.2 _ hk12
  rw [h10] at hcf
  obtain ⟨pc, hpc⟩ : ∃ pc, (F k).1 = pc := ⟨_, rfl⟩
  rw [hpc] at hok h22
  have epc : Gfi G 36 (r + 18 + 4 * k) = nI pc := by rw [(hcf.2 k (by omega)).1, hpc]
  obtain ⟨c1, c2, c3, c4, -, -, c7, c8, -⟩ := id hc
  obtain ⟨o1, o2, o3, o4⟩ := c7 pc h22
  have hPR := hr.2.2.2.1
  unfold PR at hPR
  have s1 : Gkd G p = 4 := hPR.1
  have i0 : 3 * pc < Gln G oa := by omega
  have i1 : 3 * pc + 1 < Gln G oa := by omega
  have j0 : 3 * pc < 2147483648 := by omega
  have j1 : 3 * pc + 1 < 2147483648 := by omega
  have j2 : 3 * pc + 2 < 2147483648 := by omega
  have yz : YZ (rgn r) G (Sfi G 36 (r + 18 + 4 * k) (nI (pc + 1))) := YZ.fi ⟨by omega, by omega⟩
  have r1 := hr.ye yz.ye
  have cr1 := hc.yr yz.ye.yr
  have ru1 : RU (Sfi G 36 (r + 18 + 4 * k) (nI (pc + 1))) r mA nm pl B := hu.fi (by decide) (by decide) ⟨by omega, by omega⟩
  have cf1 : CF r (fpc F k (pc + 1)) (k + 1) (Sfi G 36 (r + 18 + 4 * k) (nI (pc + 1))) := hcf.pc
  have ok1 := okI_pc (v := pc + 1) hok
  have hpc1 : ∀ j, j < k + 1 → P1 C (fpc F k (pc + 1) j).1 := fun j hj => by
    by_cases c : j = k
    · rw [c, fpc_1]
      exact ⟨pc, rfl, h22⟩
    · rw [fpc_o c]
      exact hp.1 rfl j (by show j + 1 < B.1 10; omega)
  obtain ⟨kb1, pi1⟩ := cOp_iv hP ok1 h10 hkb hpc1
  have eg : cGo T pl C (0, v, F, B) = cOp T pl C k (C.1 pc) (fpc F k (pc + 1)) B := by
    unfold cGo
    rw [if_pos rfl]
    show cOp T pl C (B.1 10 - 1) (C.1 (F (B.1 10 - 1)).1) (fpc F (B.1 10 - 1) ((F (B.1 10 - 1)).1 + 1)) B = _
    rw [h10, Nat.add_sub_cancel, hpc]
  have ht1 := ht.tl
  rw [eg] at ht1
  rw [XC_s]
  simp (disch := first | omega | exact cI _ | exact cR _ | exact cK | exact cU | exact cO _ | exact cL _) only [oS, uS.2, Nat.reduceAdd, Nat.reduceSub, Nat.reduceMul, Nat.reduceLeDiff, Nat.reduceEqDiff, Nat.add_sub_cancel, xS, gS, nL, nS, dS, fX3_goes_0, mX3_goes, zX3_goes, s1, u2, epc, c1, c2, c3, c4, i0, i1, o1, o2, o3, o4, j0, j1, j2]
  refine k_does (D := d) hP hG r1 cr1 ru1 cf1 h10 ok1 (by omega) (fun z G1 o => ?_)
  generalize cOp T pl C k (C.1 pc) (fpc F k (pc + 1)) B = y1 at *
  obtain ⟨y1, yv, yF, yB⟩ := y1
  rcases o with ⟨c, rfl, ye, ru, cf⟩ | ⟨c, rfl, hd, ye, g33, ru, cf⟩ | ⟨c, rfl, ye, ru⟩ | ⟨c, rfl, ye, g28, g29, g30, ru⟩
  · have c : y1 = 0 := c
    subst c
    have fi := h1 M yv yF yB G1 (Nat.le_refl _) ht1 pi1 ⟨r1.ye ye, cr1.yr ye.yr, ru, cf, kb1⟩ (yz.ye.trans ye)
    simp (disch := first | omega | exact cI _ | exact cR _ | exact cK | exact cU | exact cO _ | exact cL _) only [oS, uS.2, Nat.reduceAdd, Nat.reduceSub, Nat.reduceMul, Nat.reduceLeDiff, Nat.reduceEqDiff, Nat.add_sub_cancel, xS, gS, nL, nS, dS, fX3_goes_66, mX3_goes, zX3_goes, fi]
  · have c : y1 = 4 := c
    subst c
    have l1 := ru.1.1.1
    unfold RL0 at l1
    have s11 : Gkd G1 p = 4 := by rw [ye.2.2.2.1]; exact s1
    have t51 : hX3_goes 51 7 = some 57 := rfl
    have t63 : ∀ kd, hX3_goes 63 kd = none := fun _ => rfl
    simp (disch := first | omega | exact cI _ | exact cR _ | exact cK | exact cU | exact cO _ | exact cL _) only [oS, uS.2, Nat.reduceAdd, Nat.reduceSub, Nat.reduceMul, Nat.reduceLeDiff, Nat.reduceEqDiff, Nat.add_sub_cancel, xS, gS, nL, nS, dS, fX3_goes_57, mX3_goes, zX3_goes, l1, s11, t51, XHt_s]
    refine k_unw (D := d) (G2 := G) (M0 := M) (by omega) hP ht1 pi1 ⟨r1.ye ye, cr1.yr ye.yr, ru, cf, kb1⟩ hd g33 (yz.ye.trans ye) (by omega) (fun M' F' B' G' hM t' p' x' e' => ?_) (fun F' B' G' ey ru' e' g' => ?_)
    · have fi := h1 M' 0 F' B' G' hM t' p' x' e'
      simp (disch := first | omega | exact cI _ | exact cR _ | exact cK | exact cU | exact cO _ | exact cL _) only [oS, uS.2, Nat.reduceAdd, Nat.reduceSub, Nat.reduceMul, Nat.reduceLeDiff, Nat.reduceEqDiff, Nat.add_sub_cancel, xS, gS, nL, nS, dS, fX3_goes_66, mX3_goes, zX3_goes, fi]
    · have fi := h6 G' (by rw [ey]) e' (by rw [ey]; exact ru') (by rw [ey]; exact g')
      have l2 := ru'.1.1.1
      unfold RL0 at l2
      simp (disch := first | omega | exact cI _ | exact cR _ | exact cK | exact cU | exact cO _ | exact cL _) only [oS, uS.2, Nat.reduceAdd, Nat.reduceSub, Nat.reduceMul, Nat.reduceLeDiff, Nat.reduceEqDiff, Nat.add_sub_cancel, xS, gS, nL, nS, dS, mX3_goes, zX3_goes, l2, t63, XHt_n, fi]
  · have c : y1 = 5 := c
    subst c
    have ey : y = (5, yv, yF, yB) := by
      have := ht1.1
      rw [cIt_fix (.inr (.inl rfl))] at this
      exact this.symm
    have l1 := ru.1.1.1
    unfold RL0 at l1
    have t51 : hX3_goes 51 8 = none := rfl
    have fi := hs G1 (by rw [ey]) (yz.ye.trans ye) (by rw [ey]; exact ru)
    simp (disch := first | omega | exact cI _ | exact cR _ | exact cK | exact cU | exact cO _ | exact cL _) only [oS, uS.2, Nat.reduceAdd, Nat.reduceSub, Nat.reduceMul, Nat.reduceLeDiff, Nat.reduceEqDiff, Nat.add_sub_cancel, xS, gS, nL, nS, dS, mX3_goes, zX3_goes, l1, t51, XHt_n, fi]
  · have c : y1 = 1 := c
    subst c
    have ey : y = (1, yv, yF, yB) := by
      have := ht1.1
      rw [cIt_fix (.inl rfl)] at this
      exact this.symm
    have fi := hr1 G1 (by rw [ey]) (yz.ye.yr.trans ye) g28 (by rw [ey]; exact g29) (g30.trans (Sfi_o (by decide))) (by rw [ey]; exact ru)
    simp (disch := first | omega | exact cI _ | exact cR _ | exact cK | exact cU | exact cO _ | exact cL _) only [oS, uS.2, Nat.reduceAdd, Nat.reduceSub, Nat.reduceMul, Nat.reduceLeDiff, Nat.reduceEqDiff, Nat.add_sub_cancel, xS, gS, nL, nS, dS, fX3_goes_66, mX3_goes, zX3_goes, fi]
end CODEX
