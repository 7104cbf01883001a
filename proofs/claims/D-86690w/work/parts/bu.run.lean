set_option maxRecDepth 100000
section RUN
variable {D d r kk lo hi p n nm nk : Nat} {A mA : Nat → Nat} {T : Pg} {pl : Nat → Int32 → Int32} {B B' : Bk} {G G' G2 : XG} {Q : (Option Value ⊕ Nat) → XG → Prop}
/-- the kinds of statements' objects -/
def kdS (k : Nat) : Prop := k = 19 ∨ k = 21 ∨ k = 22 ∨ k = 23 ∨ k = 24 ∨ k = 25 ∨ k = 26 ∨ k = 27 ∨ k = 28 ∨ k = 29 ∨ k = 30 ∨ k = 31 ∨ k = 32
def wlk : List (Nat × Nat) := [(19, 219), (21, 223), (22, 223), (23, 223), (24, 223), (25, 223), (26, 237), (27, 241), (28, 246), (29, 250), (30, 223), (31, 255), (32, 262)]
/-- a statement's walk -/
theorem st_w {bk : Wk} {m mw tg lp dp s e : Nat} {tk : Int32} (hb : bkA r p hi n nm nk A mA T pl bk m) (hP : PGW T n nm nk pl) (hG : PGG T n) (hw : wS T nm (wB T nm mw) tg lp dp s e) (hs : s < n) (hm : B.1 11 - B.1 9 ≤ m) (hse : s < e) (he : e ≤ n) (hl : lp + dp ≤ 6) (h : WK r p hi n nm nk A mA T pl kk tg s tk B G) (hI : Iv 1 1 1 1 1 B) : ∃ mb, xlo wlk (Gkd G (A s)) = some mb ∧ kdS (Gkd G (A s)) ∧ ∀ D Q, dq kk dp ≤ D + 1 → (∀ z G', oW r kk s e nm mA pl G (stm T pl bk s tk B) z G' → Q z G') → XC xms D mb [.ref (A s), .ref r, .ref (r + 18 + 4 * kk)] G Q := by
  have hw0 := hw
  obtain ⟨wp, w⟩ := hw
  have h0 := h
  obtain ⟨hr, hu, -, hkb, h10, ht⟩ := h
  have hE := hP.2.2.2.2.2.2.1 s hs
  have hn80 := hP.2.2.1
  have e1 : ¬ Tk T s = 9 → ¬ Tk T s = 10 → ¬ (Tk T s = 16 ∨ Tk T s = 17) → e = s + 1 ∧ ((Tk T s = 11 ∨ Tk T s = 12) → ∃ n, Ta T s = nI n ∧ 1 ≤ n ∧ n ≤ lp ∧ n < 100) ∧ ((Tk T s = 14 ∨ Tk T s = 15) → tg < s ∧ tg < 999 ∧ Tb T s = nI tg) := fun a b c => by
    rw [if_neg a, if_neg b, if_neg c] at w
    exact w
  have hd : ∀ D, dq kk dp ≤ D + 1 → ∃ d, D = d + 1 ∧ 270 ≤ d := fun D hD => ⟨D - 1, by unfold dq at hD; omega, by unfold dq at hD; omega⟩
  have h17 := wp.1
  have cs : Tk T s = 0 ∨ Tk T s = 1 ∨ (Tk T s = 2 ∨ Tk T s = 7) ∨ Tk T s = 3 ∨ Tk T s = 4 ∨ Tk T s = 5 ∨ Tk T s = 6 ∨ Tk T s = 8 ∨ Tk T s = 9 ∨ Tk T s = 10 ∨ (Tk T s = 11 ∨ Tk T s = 12) ∨ Tk T s = 13 ∨ (Tk T s = 14 ∨ Tk T s = 15) ∨ (Tk T s = 16 ∨ Tk T s = 17) := by omega
  rcases cs with k | k | k | k | k | k | k | k | k | k | k | k | k | k
  · obtain ⟨-, -, -, k1, -⟩ := hr.sk hs k
    have k1 : Gkd G (A s) = 25 := k1
    obtain ⟨rfl, -⟩ := e1 (by omega) (by omega) (by omega)
    refine ⟨223, by rw [k1]; rfl, by rw [k1]; unfold kdS; decide, fun D Q hD hQ => ?_⟩
    obtain ⟨d, rfl, hd⟩ := hd D hD
    exact w_mark hr hu hI h10 hs hn80 k (by omega) hQ
  · obtain ⟨-, -, -, k1, -⟩ := hr.sk hs k
    have k1 : Gkd G (A s) = 21 := k1
    obtain ⟨rfl, -⟩ := e1 (by omega) (by omega) (by omega)
    refine ⟨223, by rw [k1]; rfl, by rw [k1]; unfold kdS; decide, fun D Q hD hQ => ?_⟩
    obtain ⟨d, rfl, hd⟩ := hd D hD
    exact w_set hr hu hI h10 hs k wp (by omega) hQ
  · have k1 : Gkd G (A s) = 19 := by
      rcases k with k | k
      · exact (hr.sk hs k).2.2.2.1
      · exact (hr.sk hs k).2.2.2.1
    refine ⟨219, by rw [k1]; rfl, by rw [k1]; unfold kdS; decide, fun D Q hD hQ => ?_⟩
    exact w_call hb hP hw0 hs k hm he h0 hI hD hQ
  · obtain ⟨-, -, -, k1, -⟩ := hr.sk hs k
    have k1 : Gkd G (A s) = 23 := k1
    obtain ⟨rfl, -⟩ := e1 (by omega) (by omega) (by omega)
    refine ⟨223, by rw [k1]; rfl, by rw [k1]; unfold kdS; decide, fun D Q hD hQ => ?_⟩
    obtain ⟨d, rfl, hd⟩ := hd D hD
    exact w_newR hr hu hI h10 hs k wp (by omega) hQ
  · obtain ⟨-, -, -, k1, -⟩ := hr.sk hs k
    have k1 : Gkd G (A s) = 24 := k1
    obtain ⟨rfl, -⟩ := e1 (by omega) (by omega) (by omega)
    refine ⟨223, by rw [k1]; rfl, by rw [k1]; unfold kdS; decide, fun D Q hD hQ => ?_⟩
    obtain ⟨d, rfl, hd⟩ := hd D hD
    exact w_none hr hu hI h10 hs k wp (by omega) hQ
  · obtain ⟨-, -, -, k1, -⟩ := hr.sk hs k
    have k1 : Gkd G (A s) = 24 := k1
    obtain ⟨rfl, -⟩ := e1 (by omega) (by omega) (by omega)
    refine ⟨223, by rw [k1]; rfl, by rw [k1]; unfold kdS; decide, fun D Q hD hQ => ?_⟩
    obtain ⟨d, rfl, hd⟩ := hd D hD
    exact w_copy hr hu hI h10 hs k wp (by omega) hQ
  · obtain ⟨-, -, -, k1, -⟩ := hr.sk hs k
    have k1 : Gkd G (A s) = 22 := k1
    obtain ⟨rfl, -⟩ := e1 (by omega) (by omega) (by omega)
    refine ⟨223, by rw [k1]; rfl, by rw [k1]; unfold kdS; decide, fun D Q hD hQ => ?_⟩
    obtain ⟨d, rfl, hd⟩ := hd D hD
    exact w_put hr hu hI h10 hs k wp (by omega) hQ
  · obtain ⟨-, -, -, k1, -⟩ := hr.sk hs k
    have k1 : Gkd G (A s) = 26 := k1
    obtain ⟨rfl, -⟩ := e1 (by omega) (by omega) (by omega)
    refine ⟨237, by rw [k1]; rfl, by rw [k1]; unfold kdS; decide, fun D Q hD hQ => ?_⟩
    obtain ⟨d, rfl, hd⟩ := hd D hD
    exact w_return hr hu hI h10 hs k wp (by omega) hQ
  · obtain ⟨-, -, -, k1, -⟩ := hr.sk hs k
    have k1 : Gkd G (A s) = 27 := k1
    refine ⟨241, by rw [k1]; rfl, by rw [k1]; unfold kdS; decide, fun D Q hD hQ => ?_⟩
    exact w_if hb hP hw0 hs k hm he hl h0 hI hD hQ
  · obtain ⟨-, -, -, k1, -⟩ := hr.sk hs k
    have k1 : Gkd G (A s) = 28 := k1
    refine ⟨246, by rw [k1]; rfl, by rw [k1]; unfold kdS; decide, fun D Q hD hQ => ?_⟩
    exact w_loop hb hP hw0 hs k hm he hl h0 hI hD hQ
  · have k1 : Gkd G (A s) = 29 := by
      rcases k with k | k
      · exact (hr.sk hs k).2.2.2.1
      · exact (hr.sk hs k).2.2.2.1
    obtain ⟨rfl, hlv, -⟩ := e1 (by omega) (by omega) (by omega)
    obtain ⟨j, ej, j1, jl, -⟩ := hlv k
    refine ⟨250, by rw [k1]; rfl, by rw [k1]; unfold kdS; decide, fun D Q hD hQ => ?_⟩
    obtain ⟨d, rfl, hd⟩ := hd D hD
    exact w_leave hr hu hs k ⟨j, ej, j1, by omega⟩ hQ
  · obtain ⟨-, -, -, k1, -⟩ := hr.sk hs k
    have k1 : Gkd G (A s) = 30 := k1
    obtain ⟨rfl, -⟩ := e1 (by omega) (by omega) (by omega)
    refine ⟨223, by rw [k1]; rfl, by rw [k1]; unfold kdS; decide, fun D Q hD hQ => ?_⟩
    obtain ⟨d, rfl, hd⟩ := hd D hD
    exact w_throw hr hu hI h10 hs k (by omega) hQ
  · have k1 : Gkd G (A s) = 31 := by
      rcases k with k | k
      · exact (hr.sk hs k).2.2.2.1
      · exact (hr.sk hs k).2.2.2.1
    obtain ⟨rfl, -, hag⟩ := e1 (by omega) (by omega) (by omega)
    obtain ⟨a1, a2, a3⟩ := hag k
    obtain ⟨t1, t2, t3, t4⟩ := ht (by omega)
    refine ⟨255, by rw [k1]; rfl, by rw [k1]; unfold kdS; decide, fun D Q hD hQ => ?_⟩
    obtain ⟨d, rfl, hd⟩ := hd D hD
    exact w_again hr hu hI h10 hs hn80 k wp a3 a1 t2 t3 (by omega) hQ
  · have k1 : Gkd G (A s) = 32 := (hr.gd hs k).2.2.2.1
    refine ⟨262, by rw [k1]; rfl, by rw [k1]; unfold kdS; decide, fun D Q hD hQ => ?_⟩
    exact w_guard hb hP hG hw0 hs k hm hse he hl h0 hD hQ
theorem wB_len : ∀ m tg lp dp (ss : List Nat) lo hi, wB T nm m tg lp dp ss lo hi → lo + ss.length ≤ hi := by
  intro m
  induction m with
  | zero =>
    intro tg lp dp ss lo hi w
    obtain ⟨rfl, rfl⟩ := w
    exact Nat.le_refl _
  | succ m ih =>
    intro tg lp dp ss lo hi w
    cases ss with
    | nil =>
      have w : lo = hi := w
      subst w
      exact Nat.le_refl _
    | cons s l =>
      obtain ⟨rfl, e, he, -, wr⟩ := w
      have := ih _ _ _ _ _ _ wr
      show s + (l.length + 1) ≤ hi
      omega
theorem WK.up {tg lo2 : Nat} {tk : Int32} (h : WK r p hi n nm nk A mA T pl kk tg lo tk B G) (hl : lo ≤ lo2) : WK r p hi n nm nk A mA T pl kk tg lo2 tk B G := by
  obtain ⟨w1, w2, w3, w4, w5, w6⟩ := h
  refine ⟨w1, w2, w3, w4, w5, fun h9 => ?_⟩
  obtain ⟨t1, t2⟩ := w6 h9
  exact ⟨by omega, t2⟩
/-- the way out of a block's loop -/
theorem l_out {b j L : Nat} {v : Int32} {x1 x2 wv : Value} (hb : Gkd G b = 104) (hl : Gln G b = L) (hL : L ≤ 80) (hj : j ≤ L) (hv : (v = nI 0) = False) : XL xms d 14 5 [.ref b, x1, x2, .int v, .int (nI j), wv] [] G Q = Q (.inl (some (.int v))) G := by
  have hL2 : L < 2147483648 := by omega
  have hj2 : j < 2147483648 := by omega
  rw [fX0_walks_5]
  by_cases c : j < L
  · simp (disch := first | omega | exact cI _ | exact cR _ | exact cK | exact cU | exact cO _ | exact cL _) only [oS, uS.2, Nat.reduceAdd, Nat.reduceSub, Nat.reduceMul, Nat.reduceLeDiff, Nat.reduceEqDiff, Nat.add_sub_cancel, xS, gS, nL, nS, dS, fX0_walks_53, mX0_walks, zX0_walks, hb, hl, hv, c]
  · have c2 : L ≤ j := by omega
    simp (disch := first | omega | exact cI _ | exact cR _ | exact cK | exact cU | exact cO _ | exact cL _) only [oS, uS.2, Nat.reduceAdd, Nat.reduceSub, Nat.reduceMul, Nat.reduceLeDiff, Nat.reduceEqDiff, Nat.add_sub_cancel, xS, gS, nL, nS, dS, fX0_walks_53, mX0_walks, zX0_walks, hb, hl, hv, c2]
def lpW (r p hi n nm nk : Nat) (A mA : Nat → Nat) (T : Pg) (pl : Nat → Int32 → Int32) (m : Nat) : Prop := ∀ mw tg lp dp l lo hh tk B G b kk d Q i wv ss, wB T nm mw tg lp dp l lo hh → B.1 11 - B.1 9 ≤ m → hh ≤ n → lp + dp ≤ 6 → WK r p hi n nm nk A mA T pl kk tg lo tk B G → BA (Tp hi G) (p + 6) A (some b) ss → (∀ j, ss[i + j]? = l[j]?) → i + l.length = ss.length → ss.length ≤ 80 → dq kk dp ≤ d + 1 → (∀ z G', oW r kk lo hh nm mA pl G (sBlk T pl m l tk B) z G' → Q z G') → XL xms d 14 5 [.ref b, .ref r, .ref (r + 18 + 4 * kk), .int (nI 0), .int (nI i), wv] [] G Q
theorem lpW.bk {m : Nat} (hP : PGW T n nm nk pl) (h : lpW r p hi n nm nk A mA T pl m) : bkW r p hi n nm nk A mA T pl (sBlk T pl m) m := by
  intro mw tg lp dp ss lo hh tk B G b kk D Q w hm hhn hl hw hb hD hQ
  have hlen := wB_len _ _ _ _ _ _ _ w
  have hn80 := hP.2.2.1
  have hd1 : 280 ≤ D := by unfold dq at hD; omega
  obtain ⟨d, rfl⟩ : ∃ d, D = d + 1 := ⟨D - 1, by omega⟩
  have fi : ∀ wv, XL xms d 14 5 [.ref b, .ref r, .ref (r + 18 + 4 * kk), .int (nI 0), .int (nI 0), wv] [] G Q := fun wv => h mw tg lp dp ss lo hh tk B G b kk d Q 0 wv ss w hm hhn hl hw hb (fun j => by rw [Nat.zero_add]) (Nat.zero_add _) (by omega) hD hQ
  rw [XC_s]
  simp (disch := first | omega | exact cI _ | exact cR _ | exact cK | exact cU | exact cO _ | exact cL _) only [oS, uS.2, Nat.reduceAdd, Nat.reduceSub, Nat.reduceMul, Nat.reduceLeDiff, Nat.reduceEqDiff, Nat.add_sub_cancel, xS, gS, nL, nS, dS, fX0_walks_0, mX0_walks, zX0_walks, fi]
theorem l_end {b i : Nat} {x1 x2 wv : Value} (hb : Gkd G b = 104) (hl : Gln G b = i) (hL : i ≤ 80) : XL xms d 14 5 [.ref b, x1, x2, .int (nI 0), .int (nI i), wv] [] G Q = Q (.inl (some (.int (nI 0)))) G := by
  have hL2 : i < 2147483648 := by omega
  rw [fX0_walks_5]
  simp (disch := first | omega | exact cI _ | exact cR _ | exact cK | exact cU | exact cO _ | exact cL _) only [oS, uS.2, Nat.reduceAdd, Nat.reduceSub, Nat.reduceMul, Nat.reduceLeDiff, Nat.reduceEqDiff, Nat.add_sub_cancel, xS, gS, nL, nS, dS, fX0_walks_53, mX0_walks, zX0_walks, hb, hl]
theorem bk_w (hP : PGW T n nm nk pl) (hG : PGG T n) : ∀ m, lpW r p hi n nm nk A mA T pl m := by
  intro m
  induction m with
  | zero =>
    intro mw tg lp dp l lo hh tk B G b kk d Q i wv ss w hm hhn hl hw hb hsu hi' hs80 hD hQ
    obtain ⟨b', eb, bb1, bb2, b3, b4, b5⟩ := hb
    cases eb
    have b3 : Gkd G b = 104 := b3
    have b4 : Gln G b = ss.length := b4
    have hd3 : 270 ≤ d := by unfold dq at hD; omega
    cases l with
    | nil =>
      have hi' : i = ss.length := hi'
      rw [l_end b3 (b4.trans hi'.symm) (by omega)]
      exact hQ _ _ ⟨KT.refl, .inl ⟨rfl, rfl, hw.2.1⟩⟩
    | cons s l =>
      obtain ⟨hr, hu, hI, hkb, h10, ht⟩ := hw
      have hib := hI.1
      have sp : isSpent B = true := by
        unfold isSpent
        rw [beq_iff_eq]
        omega
      have l0 := hu.1.1.1
      unfold RL0 at l0
      have hi' : i + (l.length + 1) = ss.length := hi'
      have hil : i < ss.length := by omega
      have hsb : ss.length < 2147483648 := by omega
      have hib2 : i < 2147483648 := by omega
      rw [fX0_walks_5]
      simp (disch := first | omega | exact cI _ | exact cR _ | exact cK | exact cU | exact cO _ | exact cL _) only [oS, uS.2, Nat.reduceAdd, Nat.reduceSub, Nat.reduceMul, Nat.reduceLeDiff, Nat.reduceEqDiff, Nat.add_sub_cancel, xS, gS, nL, nS, dS, mX0_walks, zX0_walks, b3, b4, hil, l0]
      refine k_step hu hI.cb (by omega) (fun _ => ?_) (fun G1 h1 y1 ns => ?_)
      · have fi := hQ _ _ (oW.spent (lo := lo) (hi := hh) hu h10)
        simp (disch := first | omega | exact cI _ | exact cR _ | exact cK | exact cU | exact cO _ | exact cL _) only [oS, uS.2, Nat.reduceAdd, Nat.reduceSub, Nat.reduceMul, Nat.reduceLeDiff, Nat.reduceEqDiff, Nat.add_sub_cancel, xS, gS, nL, nS, dS, mX0_walks, zX0_walks, fi]
      · rw [sp] at ns
        cases ns
  | succ m ih =>
    intro mw tg lp dp l lo hh tk B G b kk d Q i wv ss w hm hhn hl hw hb hsu hi' hs80 hD hQ
    have hb0 := hb
    obtain ⟨b', eb, bb1, bb2, b3, b4, b5⟩ := hb
    cases eb
    have b3 : Gkd G b = 104 := b3
    have b4 : Gln G b = ss.length := b4
    have hd3 : 270 ≤ d := by unfold dq at hD; omega
    cases l with
    | nil =>
      have hi' : i = ss.length := hi'
      have fi : Q (.inl (some (.int (nI 0)))) G := hQ _ _ ⟨KT.refl, .inl ⟨rfl, rfl, hw.2.1⟩⟩
      rw [l_end b3 (b4.trans hi'.symm) (by omega)]
      exact fi
    | cons s l =>
      have hw0 := hw
      obtain ⟨hr, hu, hI, hkb, h10, ht⟩ := hw
      have hib := hI.1
      have hk12 : kk < 12 := by omega
      have l0 := hu.1.1.1
      unfold RL0 at l0
      have hi' : i + (l.length + 1) = ss.length := hi'
      have hil : i < ss.length := by omega
      have hsb : ss.length < 2147483648 := by omega
      have hib2 : i < 2147483648 := by omega
      cases mw with
      | zero => exact absurd w.1 (by intro h; cases h)
      | succ mw =>
      obtain ⟨rfl, e, he, ws, wr⟩ := w
      have le2 := wB_le T nm mw _ _ _ _ _ _ wr
      rw [fX0_walks_5]
      simp (disch := first | omega | exact cI _ | exact cR _ | exact cK | exact cU | exact cO _ | exact cL _) only [oS, uS.2, Nat.reduceAdd, Nat.reduceSub, Nat.reduceMul, Nat.reduceLeDiff, Nat.reduceEqDiff, Nat.add_sub_cancel, xS, gS, nL, nS, dS, mX0_walks, zX0_walks, b3, b4, hil, l0]
      refine k_step hu hI.cb (by omega) (fun sp => ?_) (fun G1 h1 y1 ns => ?_)
      · have es : sBlk T pl (m + 1) (s :: l) tk B = (5, 0, B) := if_pos sp
        rw [es] at hQ
        have fi := hQ _ _ (oW.spent (lo := s) (hi := hh) hu h10)
        simp (disch := first | omega | exact cI _ | exact cR _ | exact cK | exact cU | exact cO _ | exact cL _) only [oS, uS.2, Nat.reduceAdd, Nat.reduceSub, Nat.reduceMul, Nat.reduceLeDiff, Nat.reduceEqDiff, Nat.add_sub_cancel, xS, gS, nL, nS, dS, mX0_walks, zX0_walks, fi]
      · obtain ⟨w1, kt1⟩ := hw0.stp (x := s) (y' := hh) h1 y1 ns
        have nsp : ¬ isSpent B = true := by rw [ns]; decide
        have hst := isSpent_no nsp hI.le
        have eat : oAt B = 18 + 4 * kk := by unfold oAt; omega
        have r1 := w1.1
        obtain ⟨u1, u2, u3, u4, u5, u6, u7, u8, u9, u10, u11⟩ := h1.1.1.2 _ hk12
        have ru2 : RU (Sfi G1 35 (r + 18 + 4 * kk) (nI s)) r mA nm pl (b2 (bStp B) (oAt B) 0 (nI s)) := by rw [eat]; exact h1.at hk12
        have kt2 : KT r kk s hh G (Sfi G1 35 (r + 18 + 4 * kk) (nI s)) := kt1.trans (KT.fi hk12)
        have I2 : Iv 1 1 1 1 1 (b2 (bStp B) (oAt B) 0 (nI s)) := (hI.stp nsp).sat
        have wk2 : WK r p hi n nm nk A mA T pl kk tg s tk (b2 (bStp B) (oAt B) 0 (nI s)) (Sfi G1 35 (r + 18 + 4 * kk) (nI s)) := ⟨hr.ye kt2.1, ru2, I2.z, hkb.stp.s2 (o := oAt B) (by unfold oAt; omega), h10, fun h9 => by
          obtain ⟨t1, t2, t3, t4⟩ := w1.2.2.2.2.2 h9
          exact ⟨t1, t2, t3, t4.mono (Nat.le_refl _)⟩⟩
        have hbA : bkA r p hi n nm nk A mA T pl (sBlk T pl m) m := ⟨lpW.bk hP ih, sBlk_iv hP.vpl hP.1.pg hP.2.1 m, sBlk_kp T pl m, sBlk_kb hP.2.2.2.1 hP.1 hP.2.1 (fun j _ hj => ⟨j, rfl, by have := hP.2.2.2.2.2.1; omega⟩) hP.2.2.2.2.2.2.2 m⟩
        have hmm : (b2 (bStp B) (oAt B) 0 (nI s)).1 11 - (b2 (bStp B) (oAt B) 0 (nI s)).1 9 ≤ m := by
          show B.1 11 - (B.1 9 + 1) ≤ m
          omega
        obtain ⟨mb, hx, hkd, hst⟩ := st_w hbA hP hG ws (by omega) hmm he (by omega) hl wk2 I2
        have hx : xlo [(19, 219), (21, 223), (22, 223), (23, 223), (24, 223), (25, 223), (26, 237), (27, 241), (28, 246), (29, 250), (30, 223), (31, 255), (32, 262)] (Gkd G1 (A s)) = some mb := hx
        have hkd : (Gkd G1 (A s) = 19 ∨ Gkd G1 (A s) = 21 ∨ Gkd G1 (A s) = 22 ∨ Gkd G1 (A s) = 23 ∨ Gkd G1 (A s) = 24 ∨ Gkd G1 (A s) = 25 ∨ Gkd G1 (A s) = 26 ∨ Gkd G1 (A s) = 27 ∨ Gkd G1 (A s) = 28 ∨ Gkd G1 (A s) = 29 ∨ Gkd G1 (A s) = 30 ∨ Gkd G1 (A s) = 31 ∨ Gkd G1 (A s) = 32) = True := eq_true hkd
        have hm1 : Gkd G1 (A s) ∈ [19, 21, 22, 23, 24, 25, 26, 27, 28, 29, 30, 31, 32] := by
          simp only [List.mem_cons, List.not_mem_nil, or_false]
          rw [hkd]
          trivial
        have hm1 := eq_true hm1
        have ba : Gar G1 b i = some (A s) := by
          have e0 : ss[i]? = some s := by
            have := hsu 0
            simpa using this
          have := b5 i s e0
          rw [show Gar G1 = Gar G from kt1.1.2.2.1]
          exact this
        have b31 : Gkd G1 b = 104 := by rw [kt1.1.2.2.2.1]; exact b3
        have b41 : Gln G1 b = ss.length := by rw [kt1.1.2.2.2.2.1]; exact b4
        have nz1 : Gfi G1 82 (A s) = nI s := (r1.sk (s := s) (by omega) rfl).1
        simp (disch := first | omega | exact cI _ | exact cR _ | exact cK | exact cU | exact cO _ | exact cL _) only [oS, uS.2, Nat.reduceAdd, Nat.reduceSub, Nat.reduceMul, Nat.reduceLeDiff, Nat.reduceEqDiff, Nat.add_sub_cancel, xS, gS, nL, nS, dS, mX0_walks, zX0_walks, b31, b41, ba, hil, hm1, hx, nz1, u2]
        refine ⟨of_eq_true hkd, ?_⟩
        refine hst d _ hD (fun z G3 o => ?_)
        have siv := stm_iv (e := e) hP.vpl hbA.2.1 hbA.2.2.1 hP.1.pg hP.2.1 (tk := tk) ws hmm I2 (fun h9 => (wk2.2.2.2.2.2 h9).2.2.2)
        have skp := @stm_kp T pl (sBlk T pl m) m s tk (b2 (bStp B) (oAt B) 0 (nI s)) hbA.2.2.1 hmm I2.le
        have skb := stm_kb (P := kV nk) hP.2.2.2.1 hbA.2.2.2 hP.1 hP.2.1 (fun j _ hj => ⟨j, rfl, by have := hP.2.2.2.2.2.1; omega⟩) (tk := tk) ws (by omega) (hP.2.2.2.2.2.2.2 s (by omega)) wk2.2.2.2.1
        have es : sBlk T pl (m + 1) (s :: l) tk B = if (stm T pl (sBlk T pl m) s tk (b2 (bStp B) (oAt B) 0 (nI s))).1 = 0 then sBlk T pl m l tk (stm T pl (sBlk T pl m) s tk (b2 (bStp B) (oAt B) 0 (nI s))).2.2 else stm T pl (sBlk T pl m) s tk (b2 (bStp B) (oAt B) 0 (nI s)) := if_neg nsp
        rw [es] at hQ
        clear es hst
        obtain ⟨q, hq⟩ : ∃ q, stm T pl (sBlk T pl m) s tk (b2 (bStp B) (oAt B) 0 (nI s)) = q := ⟨_, rfl⟩
        rw [hq] at o siv skp skb hQ
        have kt3 : KT r kk s hh G G3 := kt2.trans (o.1.mono (Nat.le_refl _) (by omega))
        have b33 : Gkd G3 b = 104 := by rw [kt3.1.2.2.2.1]; exact b3
        have b43 : Gln G3 b = ss.length := by rw [kt3.1.2.2.2.2.1]; exact b4
        rcases o.c with ⟨q4, rfl, g33, ru⟩ | ⟨q5, rfl, ru⟩ | ⟨q3, ru, v, rfl, v0, g34, hway⟩
        · rw [if_neg (by omega)] at hQ
          have fi : Q (.inr (r + 16)) G3 := hQ _ _ (o.of kt2 (Nat.le_refl _) (by omega))
          simp (disch := first | omega | exact cI _ | exact cR _ | exact cK | exact cU | exact cO _ | exact cL _) only [oS, uS.2, Nat.reduceAdd, Nat.reduceSub, Nat.reduceMul, Nat.reduceLeDiff, Nat.reduceEqDiff, Nat.add_sub_cancel, xS, gS, nL, nS, dS, mX0_walks, zX0_walks, fi]
        · rw [if_neg (by omega)] at hQ
          have fi : Q (.inr (r + 17)) G3 := hQ _ _ (o.of kt2 (Nat.le_refl _) (by omega))
          simp (disch := first | omega | exact cI _ | exact cR _ | exact cK | exact cU | exact cO _ | exact cL _) only [oS, uS.2, Nat.reduceAdd, Nat.reduceSub, Nat.reduceMul, Nat.reduceLeDiff, Nat.reduceEqDiff, Nat.add_sub_cancel, xS, gS, nL, nS, dS, mX0_walks, zX0_walks, fi]
        · by_cases q0 : q.1 = 0
          · have v0 : v = nI 0 := by rw [v0]; exact q0
            subst v0
            rw [if_pos q0] at hQ
            have wk3 : WK r p hi n nm nk A mA T pl kk tg s tk q.2.2 G3 := wk2.aft o.1 (Nat.le_refl _) ru (by omega) siv skp skb
            have hba3 : BA (Tp hi G3) (p + 6) A (some b) ss := hb0.kq kt3.1.kq (fun a q => hr.1.n (by omega))
            obtain ⟨k1, k2, k3, k4⟩ := skp
            have k1 : q.2.2.1 11 = B.1 11 := k1
            have k2 : B.1 9 + 1 ≤ q.2.2.1 9 := k2
            have fi : ∀ wv, XL xms d 14 5 [.ref b, .ref r, .ref (r + 18 + 4 * kk), .int (nI 0), .int (nI (i + 1)), wv] [] G3 Q := fun wv => ih mw tg lp dp l e hh tk q.2.2 G3 b kk d Q (i + 1) wv ss wr (by omega) hhn hl (wk3.up (by omega)) hba3 (fun j => by
              have := hsu (j + 1)
              rw [show i + (j + 1) = i + 1 + j from by omega] at this
              simpa using this) (by omega) hs80 hD (fun z G' o' => hQ z G' (o'.of kt3 (by omega) (Nat.le_refl _)))
            simp (disch := first | omega | exact cI _ | exact cR _ | exact cK | exact cU | exact cO _ | exact cL _) only [oS, uS.2, Nat.reduceAdd, Nat.reduceSub, Nat.reduceMul, Nat.reduceLeDiff, Nat.reduceEqDiff, Nat.add_sub_cancel, xS, gS, nL, nS, dS, mX0_walks, zX0_walks, fi]
          · rw [if_neg q0] at hQ
            have fi : Q (.inl (some (.int v))) G3 := hQ _ _ (o.of kt2 (Nat.le_refl _) (by omega))
            have v0 : (v = nI 0) = False := by rw [v0]; exact eq_false q0
            have fo : ∀ wv, XL xms d 14 5 [.ref b, .ref r, .ref (r + 18 + 4 * kk), .int v, .int (nI (i + 1)), wv] [] G3 Q := fun wv => by
              rw [l_out b33 b43 hs80 (by omega) v0]
              exact fi
            simp (disch := first | omega | exact cI _ | exact cR _ | exact cK | exact cU | exact cO _ | exact cL _) only [oS, uS.2, Nat.reduceAdd, Nat.reduceSub, Nat.reduceMul, Nat.reduceLeDiff, Nat.reduceEqDiff, Nat.add_sub_cancel, xS, gS, nL, nS, dS, mX0_walks, zX0_walks, fo]
end RUN
