set_option maxRecDepth 100000
section RUN
variable {D d r kk lo hi p n nm nk : Nat} {A mA : Nat → Nat} {T : Pg} {pl : Nat → Int32 → Int32} {B B' : Bk} {G G' G2 : XG} {Q : (Option Value ⊕ Nat) → XG → Prop}
/-- kinds above are lower -/
def KU (T : Pg) (nk : Nat) : Prop := nk ≤ 16 ∧ ∀ k, k < nk → Tu T k = none ∨ ∃ q, Tu T k = some q ∧ q < k
def kV (nk : Nat) (k : Int32) : Prop := ∃ j, k = nI j ∧ j < nk
theorem l_und {o : Nat} {w0 : Int32} (h1 : Gkd G p = 4) (h2 : Gfr G 1021 p = some (p + 2)) (h3 : Gkd G (p + 2) = 100) (h4 : Gln G (p + 2) = 16) (h5 : AB G p T nk) (hu : KU T nk) (ho : o < 16) : ∀ m k, k < nk → k ≤ m → XL xms d 70 2 [.ref p, .int w0, .int (nI o), .int (nI k)] [] G Q = Q (.inl (some (.int (if und T m k o = true then nI 1 else nI 0)))) G := by
  have stop : XL xms d 70 2 [.ref p, .int w0, .int (nI o), .int NN] [] G Q = Q (.inl (some (.int (nI 0)))) G := by
    rw [fX3_isUnder_2]
    simp (disch := first | omega | exact cI _ | exact cR _ | exact cK | exact cU | exact cO _ | exact cL _) only [oS, uS.2, Nat.reduceAdd, Nat.reduceSub, Nat.reduceMul, Nat.reduceLeDiff, Nat.reduceEqDiff, Nat.add_sub_cancel, xS, gS, nL, nS, dS, fX3_isUnder_23, fX3_isUnder_32, fX3_isUnder_33, mX3_isUnder, zX3_isUnder, h1]
  obtain ⟨hu16, huk⟩ := hu
  intro m
  induction m with
  | zero =>
    intro k hk hm
    have e : k = 0 := by omega
    subst e
    by_cases c : o = 0
    · subst c
      have eu : und T 0 0 0 = true := rfl
      rw [eu, if_pos rfl, fX3_isUnder_2]
      simp (disch := first | omega | exact cI _ | exact cR _ | exact cK | exact cU | exact cO _ | exact cL _) only [oS, uS.2, Nat.reduceAdd, Nat.reduceSub, Nat.reduceMul, Nat.reduceLeDiff, Nat.reduceEqDiff, Nat.add_sub_cancel, xS, gS, nL, nS, dS, fX3_isUnder_23, fX3_isUnder_32, fX3_isUnder_33, mX3_isUnder, zX3_isUnder, h1]
    · have eu : ¬ und T 0 0 o = true := by
        show ¬ (0 == o) = true
        rw [beq_iff_eq]
        omega
      have eT : Tu T 0 = none := by
        rcases huk 0 hk with q | ⟨q, -, q2⟩
        · exact q
        · omega
      have e5 : Gai G (p + 2) 0 = NN := by rw [h5 0 hk, eT]
      rw [if_neg eu, fX3_isUnder_2]
      simp (disch := first | omega | exact cI _ | exact cR _ | exact cK | exact cU | exact cO _ | exact cL _) only [oS, uS.2, Nat.reduceAdd, Nat.reduceSub, Nat.reduceMul, Nat.reduceLeDiff, Nat.reduceEqDiff, Nat.add_sub_cancel, xS, gS, nL, nS, dS, mX3_isUnder, zX3_isUnder, h1, h2, h3, h4, e5, stop]
  | succ m ih =>
    intro k hk hm
    have hk16 : k < 16 := by omega
    by_cases c : k = o
    · subst c
      have eu : und T (m + 1) k k = true := if_pos rfl
      rw [eu, if_pos rfl, fX3_isUnder_2]
      simp (disch := first | omega | exact cI _ | exact cR _ | exact cK | exact cU | exact cO _ | exact cL _) only [oS, uS.2, Nat.reduceAdd, Nat.reduceSub, Nat.reduceMul, Nat.reduceLeDiff, Nat.reduceEqDiff, Nat.add_sub_cancel, xS, gS, nL, nS, dS, fX3_isUnder_23, fX3_isUnder_32, fX3_isUnder_33, mX3_isUnder, zX3_isUnder, h1]
    · have eu0 : und T (m + 1) k o = (match Tu T k with
        | none => false
        | some q => und T m q o) := if_neg c
      rcases huk k hk with eT | ⟨q, eT, hq⟩
      · have eu : und T (m + 1) k o = false := by rw [eu0, eT]
        have e5 : Gai G (p + 2) k = NN := by rw [h5 k hk, eT]
        rw [eu, if_neg (by decide), fX3_isUnder_2]
        simp (disch := first | omega | exact cI _ | exact cR _ | exact cK | exact cU | exact cO _ | exact cL _) only [oS, uS.2, Nat.reduceAdd, Nat.reduceSub, Nat.reduceMul, Nat.reduceLeDiff, Nat.reduceEqDiff, Nat.add_sub_cancel, xS, gS, nL, nS, dS, mX3_isUnder, zX3_isUnder, h1, h2, h3, h4, e5, stop]
      · have eu : und T (m + 1) k o = und T m q o := by rw [eu0, eT]
        have e5 : Gai G (p + 2) k = nI q := by rw [h5 k hk, eT]
        have ih' := ih q (by omega) (by omega)
        rw [eu, fX3_isUnder_2]
        simp (disch := first | omega | exact cI _ | exact cR _ | exact cK | exact cU | exact cO _ | exact cL _) only [oS, uS.2, Nat.reduceAdd, Nat.reduceSub, Nat.reduceMul, Nat.reduceLeDiff, Nat.reduceEqDiff, Nat.add_sub_cancel, xS, gS, nL, nS, dS, mX3_isUnder, zX3_isUnder, h1, h2, h3, h4, e5, ih']
theorem s_isUnder {o k : Nat} (h1 : Gkd G p = 4) (h2 : Gfr G 1021 p = some (p + 2)) (h3 : Gkd G (p + 2) = 100) (h4 : Gln G (p + 2) = 16) (h5 : AB G p T nk) (hu : KU T nk) (ho : o < 16) (hk : k < nk) : XC xms (d + 1) 70 [.ref p, .int (nI k), .int (nI o)] G Q = Q (.inl (some (.int (if und T 16 k o = true then nI 1 else nI 0)))) G := by
  have := l_und (d := d) (Q := Q) (w0 := nI k) h1 h2 h3 h4 h5 hu ho 16 k hk (by have := hu.1; omega)
  rw [XC_s]
  simp (disch := first | omega | exact cI _ | exact cR _ | exact cK | exact cU | exact cO _ | exact cL _) only [oS, uS.2, Nat.reduceAdd, Nat.reduceSub, Nat.reduceMul, Nat.reduceLeDiff, Nat.reduceEqDiff, Nat.add_sub_cancel, xS, gS, nL, nS, dS, fX3_isUnder_0, mX3_isUnder, zX3_isUnder, this]
theorem l_cat {z ka kd : Nat} {cs : List (Int32 × List Nat)} (h1 : Gkd G p = 4) (h2 : Gfr G 1021 p = some (p + 2)) (h3 : Gkd G (p + 2) = 100) (h4 : Gln G (p + 2) = 16) (h5 : AB G p T nk) (hu : KU T nk) (hk : kd < nk) (hr : Gkd G r = 6) (hrp : Gfr G 1029 r = some p) (hz : Gkd G z = 32) (hm : Gfi G 95 z = nI cs.length) (hka : Gfr G 1136 z = some ka) (hkk : Gkd G ka = 100) (hkl : cs.length ≤ Gln G ka) (hkb : Gln G ka ≤ 400) (hel : ∀ (i : Nat) (x : Int32 × List Nat), cs[i]? = some x → Gai G ka i = x.1) (hcs : ∀ c, c ∈ cs → ∃ j, c.1 = nI j ∧ j < 16) : ∀ (l : List (Int32 × List Nat)) (i : Nat), i + l.length = cs.length → (∀ j, cs[i + j]? = l[j]?) → (catchFor T (nI kd) l = none → Q (.inl (some (.int NN))) G) → (∀ j x, j < cs.length → cs[j]? = some x → catchFor T (nI kd) l = some x.2 → Q (.inl (some (.int (nI j)))) G) → XL xms (d + 1) 265 2 [.ref z, .ref r, .int (nI kd), .int (nI i)] [] G Q := by
  have hk16 : kd < 2147483648 := by have := hu.1; omega
  intro l
  induction l with
  | nil =>
    intro i hi _ h0 _
    have hi : i = cs.length := by simpa using hi
    have fin := h0 rfl
    have hle : cs.length < 2147483648 := by omega
    rw [fX31_catchOf_2]
    subst hi
    simp (disch := first | omega | exact cI _ | exact cR _ | exact cK | exact cU | exact cO _ | exact cL _) only [oS, uS.2, Nat.reduceAdd, Nat.reduceSub, Nat.reduceMul, Nat.reduceLeDiff, Nat.reduceEqDiff, Nat.add_sub_cancel, xS, gS, nL, nS, dS, fX31_catchOf_35, mX31_catchOf, zX31_catchOf, hz, hm, fin]
  | cons c l ih =>
    intro i hi hsu h0 h1'
    have hi : i + (l.length + 1) = cs.length := by simpa using hi
    have hci : cs[i]? = some c := by
      have := hsu 0
      simpa using this
    have ec := hel i c hci
    obtain ⟨j, ej, hj⟩ := hcs c (List.mem_of_getElem? hci)
    have hil : i < cs.length := by omega
    have hle : cs.length < 2147483648 := by omega
    have hxi : i < Gln G ka := by omega
    have hib : i < 2147483648 := by omega
    have ciu : ∀ Q, XC xms (d + 1) 70 [.ref p, .int (nI kd), .int (nI j)] G Q = Q (.inl (some (.int (if und T 16 kd j = true then nI 1 else nI 0)))) G := fun Q => s_isUnder h1 h2 h3 h4 h5 hu hj hk
    rw [ej] at ec
    have e0 : catchFor T (nI kd) (c :: l) = if und T 16 kd j = true then some c.2 else catchFor T (nI kd) l := by
      show (if und T 16 (nI kd).toNatClampNeg c.1.toNatClampNeg = true then some c.2 else catchFor T (nI kd) l) = _
      rw [ej, n_clamp hk16, n_clamp (by omega)]
    rw [fX31_catchOf_2]
    by_cases cu : und T 16 kd j = true
    · have fin := h1' i c hil hci (by rw [e0, if_pos cu])
      simp only [if_pos cu] at ciu
      simp (disch := first | omega | exact cI _ | exact cR _ | exact cK | exact cU | exact cO _ | exact cL _) only [oS, uS.2, Nat.reduceAdd, Nat.reduceSub, Nat.reduceMul, Nat.reduceLeDiff, Nat.reduceEqDiff, Nat.add_sub_cancel, xS, gS, nL, nS, dS, mX31_catchOf, zX31_catchOf, hz, hm, hka, hkk, hr, hrp, h1, ec, ciu, fin]
    · simp only [if_neg cu] at ciu
      rw [e0, if_neg cu] at h0
      have ih' := ih (i + 1) (by omega) (fun j => by
        have := hsu (j + 1)
        rw [show i + (j + 1) = i + 1 + j from by omega] at this
        simpa using this) h0 (fun j x a b e => h1' j x a b (by rw [e0, if_neg cu]; exact e))
      simp (disch := first | omega | exact cI _ | exact cR _ | exact cK | exact cU | exact cO _ | exact cL _) only [oS, uS.2, Nat.reduceAdd, Nat.reduceSub, Nat.reduceMul, Nat.reduceLeDiff, Nat.reduceEqDiff, Nat.add_sub_cancel, xS, gS, nL, nS, dS, fX31_catchOf_29, mX31_catchOf, zX31_catchOf, hz, hm, hka, hkk, hr, hrp, h1, ec, ciu, ih']
theorem k_catchOf {z ka kd : Nat} {cs : List (Int32 × List Nat)} (h1 : Gkd G p = 4) (h2 : Gfr G 1021 p = some (p + 2)) (h3 : Gkd G (p + 2) = 100) (h4 : Gln G (p + 2) = 16) (h5 : AB G p T nk) (hu : KU T nk) (hk : kd < nk) (hr : Gkd G r = 6) (hrp : Gfr G 1029 r = some p) (hz : Gkd G z = 32) (hm : Gfi G 95 z = nI cs.length) (hka : Gfr G 1136 z = some ka) (hkk : Gkd G ka = 100) (hkl : cs.length ≤ Gln G ka) (hkb : Gln G ka ≤ 400) (hel : ∀ (i : Nat) (x : Int32 × List Nat), cs[i]? = some x → Gai G ka i = x.1) (hcs : ∀ c, c ∈ cs → ∃ j, c.1 = nI j ∧ j < 16) (hD : 2 ≤ D) (h0 : catchFor T (nI kd) cs = none → Q (.inl (some (.int NN))) G) (h1' : ∀ j x, j < cs.length → cs[j]? = some x → catchFor T (nI kd) cs = some x.2 → Q (.inl (some (.int (nI j)))) G) : XC xms D 265 [.ref z, .ref r, .int (nI kd)] G Q := by
  obtain ⟨d, rfl⟩ : ∃ d, D = d + 1 + 1 := ⟨D - 2, by omega⟩
  have fin := l_cat (d := d) (Q := Q) h1 h2 h3 h4 h5 hu hk hr hrp hz hm hka hkk hkl hkb hel hcs cs 0 (Nat.zero_add _) (fun j => by rw [Nat.zero_add]) h0 h1'
  rw [XC_s]
  simp (disch := first | omega | exact cI _ | exact cR _ | exact cK | exact cU | exact cO _ | exact cL _) only [oS, uS.2, Nat.reduceAdd, Nat.reduceSub, Nat.reduceMul, Nat.reduceLeDiff, Nat.reduceEqDiff, Nat.add_sub_cancel, xS, gS, nL, nS, dS, fX31_catchOf_0, mX31_catchOf, zX31_catchOf, fin]
/-- a frame less -/
theorem RU.dec {k : Nat} (h : RU G r mA nm pl B) (h10 : B.1 10 = k + 1) : RU (Sfi G 17 r (nI k)) r mA nm pl (b1 B 10 k) := by
  obtain ⟨e1, e2, e3, e4, e5, e6, e7, e8, e9, e10, e11⟩ := h.1.2.1
  have fo : ∀ x, x ≠ 17 → Gfi (Sfi G 17 r (nI k)) x r = Gfi G x r := fun x hx => Sfi_o hx
  have y : YZ (rgn r) G (Sfi G 17 r (nI k)) := YZ.fi ⟨by omega, by omega⟩
  refine h.yz y ⟨h.1.1.xz y, ⟨(fo 21 (by decide)).trans e1, (fo 22 (by decide)).trans e2, (fo 23 (by decide)).trans e3, (fo 24 (by decide)).trans e4, (fo 25 (by decide)).trans e5, (fo 18 (by decide)).trans e6, (fo 19 (by decide)).trans e7, Sfi_S, (fo 20 (by decide)).trans e9, (fo 27 (by decide)).trans e10, (fo 26 (by decide)).trans e11⟩, fun o i hv => h.1.2.2.1 o i (vld_x hv (fun _ h => h) (fun _ _ h => h) (fun _ a b => ⟨a, by
    have e0 : (b1 B 10 k).1 (100 + i / 12) = B.1 (100 + i / 12) := if_neg (by omega)
    rw [← e0]
    exact b⟩) (fun _ h => h) (fun _ h => h) (fun _ h => h) (fun _ h => h) (fun _ q => by
      have q : o < 18 + 4 * k := q
      omega)), fun j hj => ?_⟩ (fun j hj => ?_)
  · have hj : j < k := hj
    have e0 : (b1 B 10 k).1 (600 + j) = B.1 (600 + j) := if_neg (by omega)
    obtain ⟨p1, p2⟩ := h.1.2.2.2 j (by omega)
    rw [e0]
    exact ⟨(Sfi_o (by omega)).trans p1, p2⟩
  · have hj : j < k := hj
    have e0 : (b1 B 10 k).1 (600 + j) = B.1 (600 + j) := if_neg (by omega)
    rw [e0]
    exact h.2.2.1 j (by omega)
theorem oW.z {lo' hi' : Nat} {q : Rs} {z : Option Value ⊕ Nat} (h : oW r kk lo' hi' nm mA pl G q z G') : (∃ v, z = .inl (some (.int v))) ∨ ∃ a, z = .inr a := by
  rcases h.2 with ⟨-, e, -⟩ | ⟨-, e, -⟩ | ⟨-, ⟨j, -, -, -, e⟩, -⟩ | ⟨-, ⟨j, -, -, -, e⟩, -⟩ | ⟨-, e, -⟩ | ⟨-, e, -⟩
  · exact .inl ⟨_, e⟩
  · exact .inl ⟨_, e⟩
  · exact .inl ⟨_, e⟩
  · exact .inl ⟨_, e⟩
  · exact .inr ⟨_, e⟩
  · exact .inr ⟨_, e⟩
theorem oW.n5 {lo' hi' : Nat} {q : Rs} {z : Option Value ⊕ Nat} (h : oW r kk lo' hi' nm mA pl G q z G') (h5 : q.1 ≠ 5) : RU G' r mA nm pl q.2.2 := by
  rcases h.2 with ⟨-, -, e⟩ | ⟨-, -, -, e⟩ | ⟨-, -, e⟩ | ⟨-, -, e⟩ | ⟨-, -, -, e⟩ | ⟨e, -, -⟩
  · exact e
  · exact e
  · exact e
  · exact e
  · exact e
  · exact absurd e h5
/-- the state of a walk: the guard tg took tk -/
def WK (r p hi n nm nk : Nat) (A mA : Nat → Nat) (T : Pg) (pl : Nat → Int32 → Int32) (kk tg lo : Nat) (tk : Int32) (B : Bk) (G : XG) : Prop := RP r p hi n nm nk A mA T G ∧ RU G r mA nm pl B ∧ Iv 0 0 0 0 0 B ∧ kB (kV nk) B ∧ B.1 10 = kk + 1 ∧ (tg ≠ 999 → tg < lo ∧ (Tk T tg = 16 ∨ Tk T tg = 17) ∧ Gai G (r + 21 + 4 * kk) (8 * tg) = tk ∧ vK B tk)
theorem WK.aft {tg lo1 hh : Nat} {tk : Int32} {q : Rs} (h : WK r p hi n nm nk A mA T pl kk tg lo tk B G) (k : KT r kk lo1 hh G G') (hl : lo ≤ lo1) (hu : RU G' r mA nm pl q.2.2) (h5 : q.1 ≠ 5) (hi' : ivR B q) (hk : kp B q) (hkb : kB (kV nk) q.2.2) : WK r p hi n nm nk A mA T pl kk tg lo tk q.2.2 G' := by
  obtain ⟨w1, w2, w3, w4, w5, w6⟩ := h
  obtain ⟨i1, i2, i3⟩ := hi' h5
  refine ⟨w1.ye k.1, hu, i1, hkb, (hk.2.2.2 h5).trans w5, fun h9 => ?_⟩
  obtain ⟨t1, t2, t3, t4⟩ := w6 h9
  exact ⟨t1, t2, (k.2.2.1 _ (.inl (by omega))).trans t3, t4.mono i2⟩
/-- what is fixed of a program -/
def PGW (T : Pg) (n nm nk : Nat) (pl : Nat → Int32 → Int32) : Prop := wPn T nm n ∧ nm ≤ 8 ∧ n ≤ 80 ∧ (∀ k t, pl k t = NN ∨ kV nk (pl k t)) ∧ KU T nk ∧ 7 ≤ nk ∧ (∀ s, s < n → (T1 T s).length + (T2 T s).length ≤ 250) ∧ ∀ s, s < n → (Tk T s = 13 ∨ Tk T s = 14) → kV nk (Ta T s)
theorem kV.vd {k : Int32} (h : kV nk k) (h16 : nk ≤ 16) : vD k := by
  obtain ⟨j, e, hj⟩ := h
  exact ⟨j, e, by omega⟩
theorem PGW.vpl (h : PGW T n nm nk pl) : vPl pl := fun k t => by
  rcases h.2.2.2.1 k t with e | e
  · exact .inl e
  · exact .inr (kV.vd e h.2.2.2.2.1.1)
/-- so deep a block may go -/
def dq (kk dp : Nat) : Nat := 280 + 40 * (11 - kk) + 6 * dp
def bkW (r p hi n nm nk : Nat) (A mA : Nat → Nat) (T : Pg) (pl : Nat → Int32 → Int32) (bk : Wk) (m : Nat) : Prop := ∀ mw tg lp dp ss lo hh tk B G b kk D Q, wB T nm mw tg lp dp ss lo hh → B.1 11 - B.1 9 ≤ m → hh ≤ n → lp + dp ≤ 6 → WK r p hi n nm nk A mA T pl kk tg lo tk B G → BA (Tp hi G) (p + 6) A (some b) ss → dq kk dp ≤ D → (∀ z G', oW r kk lo hh nm mA pl G (bk ss tk B) z G' → Q z G') → XC xms D 14 [.ref b, .ref r, .ref (r + 18 + 4 * kk)] G Q
/-- blocks and what they keep -/
def bkA (r p hi n nm nk : Nat) (A mA : Nat → Nat) (T : Pg) (pl : Nat → Int32 → Int32) (bk : Wk) (m : Nat) : Prop := bkW r p hi n nm nk A mA T pl bk m ∧ ivB T nm bk m ∧ kpB bk m ∧ kbB (kV nk) T nm n bk
/-- a block within a walk -/
theorem bkA.go {bk : Wk} {m mw tg lp dp lo1 hh b : Nat} {ss : List Nat} {tk : Int32} (h : bkA r p hi n nm nk A mA T pl bk m) (w : wB T nm mw tg lp dp ss lo1 hh) (hn : B.1 11 - B.1 9 ≤ m) (hh' : hh ≤ n) (hl : lp + dp ≤ 6) (hw : WK r p hi n nm nk A mA T pl kk tg lo tk B G) (hlo : lo ≤ lo1) (hb : BA (Tp hi G) (p + 6) A (some b) ss) (hD : dq kk dp ≤ D) (hQ : ∀ z G', oW r kk lo1 hh nm mA pl G (bk ss tk B) z G' → ((bk ss tk B).1 ≠ 5 → WK r p hi n nm nk A mA T pl kk tg lo tk (bk ss tk B).2.2 G') → kp B (bk ss tk B) → Q z G') : XC xms D 14 [.ref b, .ref r, .ref (r + 18 + 4 * kk)] G Q := by
  obtain ⟨h1, h2, h3, h4⟩ := h
  have hw0 := hw
  obtain ⟨w1, w2, w3, w4, w5, w6⟩ := hw
  have k3 := h3 ss tk B hn w3.le
  refine h1 mw tg lp dp ss lo1 hh tk B G b kk D Q w hn hh' hl ⟨w1, w2, w3, w4, w5, fun h9 => ?_⟩ hb hD (fun z G' o => hQ z G' o (fun h5 => ?_) k3)
  · obtain ⟨t1, t2⟩ := w6 h9
    exact ⟨by omega, t2⟩
  · exact hw0.aft o.1 hlo (o.n5 h5) h5 (h2 mw tg lp dp ss lo1 hh tk B w hn w3 (fun h9 => (w6 h9).2.2.2)) k3 (h4 mw tg lp dp ss lo1 hh tk B w hh' w4)
end RUN
