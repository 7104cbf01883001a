set_option maxRecDepth 100000
/-! THE CODE's machine again, with what each go needs. Well shaped blocks of N statements: guards around are guards -/
def gdS (T : Pg) (tg : Nat) : Prop := Tk T tg = 16 ∨ Tk T tg = 17
def xSt (T : Pg) (nm N : Nat) (bk : WB) (tg lp dp s e : Nat) : Prop := wS T nm bk tg lp dp s e ∧ s < N ∧ ((Tk T s = 14 ∨ Tk T s = 15) → gdS T tg)
def xB (T : Pg) (nm N : Nat) : Nat → WB
  | 0, _, _, _, ss, lo, hi => ss = [] ∧ lo = hi
  | m + 1, tg, lp, dp, ss, lo, hi => match ss with
    | [] => lo = hi
    | s :: r => s = lo ∧ ∃ e, s < e ∧ xSt T nm N (xB T nm N m) tg lp dp s e ∧ xB T nm N m tg lp dp r e hi
section XB
variable {T : Pg} {nm N : Nat}
theorem wC_m {bk bk' : WB} (h : ∀ tg lp dp ss lo hi, bk tg lp dp ss lo hi → bk' tg lp dp ss lo hi) {s lp dp : Nat} : ∀ {l : List (Int32 × List Nat)} {x y : Nat}, wC bk s lp dp l x y → wC bk' s lp dp l x y := by
  intro l
  induction l with
  | nil => intro x y w; exact w
  | cons c r ih =>
    intro x y w
    obtain ⟨z, w1, w2⟩ := w
    exact ⟨z, h _ _ _ _ _ _ w1, ih w2⟩
theorem wO_m {bk bk' : WB} (h : ∀ tg lp dp ss lo hi, bk tg lp dp ss lo hi → bk' tg lp dp ss lo hi) {tg lp dp : Nat} {o : Option (List Nat)} {x y : Nat} (w : wO bk tg lp dp o x y) : wO bk' tg lp dp o x y := by
  cases o with
  | none => exact w
  | some b => exact h _ _ _ _ _ _ w
theorem wS_m {bk bk' : WB} (h : ∀ tg lp dp ss lo hi, bk tg lp dp ss lo hi → bk' tg lp dp ss lo hi) {tg lp dp s e : Nat} (w : wS T nm bk tg lp dp s e) : wS T nm bk' tg lp dp s e := by
  obtain ⟨w1, w⟩ := w
  refine ⟨w1, ?_⟩
  by_cases k9 : Tk T s = 9
  · rw [if_pos k9] at w ⊢
    obtain ⟨d, x, a, b, c⟩ := w
    exact ⟨d, x, a, h _ _ _ _ _ _ b, wO_m h c⟩
  rw [if_neg k9] at w ⊢
  by_cases k10 : Tk T s = 10
  · rw [if_pos k10] at w ⊢
    obtain ⟨d, a, b⟩ := w
    exact ⟨d, a, h _ _ _ _ _ _ b⟩
  rw [if_neg k10] at w ⊢
  by_cases k16 : Tk T s = 16 ∨ Tk T s = 17
  · rw [if_pos k16] at w ⊢
    obtain ⟨d, x, y, a, b, c, f, g⟩ := w
    exact ⟨d, x, y, a, h _ _ _ _ _ _ b, wC_m h c, wO_m h f, g⟩
  rw [if_neg k16] at w ⊢
  exact w
theorem xB.b : ∀ m tg lp dp (ss : List Nat) lo hi, xB T nm N m tg lp dp ss lo hi → wB T nm m tg lp dp ss lo hi := by
  intro m
  induction m with
  | zero => intro tg lp dp ss lo hi w; exact w
  | succ m ih =>
    intro tg lp dp ss lo hi w
    cases ss with
    | nil => exact w
    | cons s r =>
      obtain ⟨e0, e, he, ws, wr⟩ := w
      exact ⟨e0, e, he, wS_m ih ws.1, ih _ _ _ _ _ _ wr⟩
theorem xB_le (T : Pg) (nm N m : Nat) : wLe (xB T nm N m) := fun _ _ _ _ _ _ w => wB_le T nm m _ _ _ _ _ _ (xB.b _ _ _ _ _ _ _ w)
theorem xB_of : ∀ m tg lp dp (ss : List Nat) lo hi, wB T nm m tg lp dp ss lo hi → hi ≤ N → (tg ≠ 999 → gdS T tg) → xB T nm N m tg lp dp ss lo hi := by
  intro m
  induction m with
  | zero => intro tg lp dp ss lo hi w _ _; exact w
  | succ m ih =>
    intro tg lp dp ss lo hi w hN hg
    cases ss with
    | nil => exact w
    | cons s r =>
      obtain ⟨e0, e, he, ws, wr⟩ := w
      have l1 := wB_le T nm m _ _ _ _ _ _ wr
      refine ⟨e0, e, he, ⟨?_, by omega, ?_⟩, ih _ _ _ _ _ _ wr hN hg⟩
      · obtain ⟨w1, w⟩ := ws
        refine ⟨w1, ?_⟩
        by_cases k9 : Tk T s = 9
        · rw [if_pos k9] at w ⊢
          obtain ⟨d, x, a, b, c⟩ := w
          have l2 := wO_le (wB_le T nm m) c
          refine ⟨d, x, a, ih _ _ _ _ _ _ b (by omega) hg, ?_⟩
          cases hT : To T s with
          | none => rw [hT] at c; exact c
          | some f => rw [hT] at c; exact ih _ _ _ _ _ _ c (by omega) hg
        rw [if_neg k9] at w ⊢
        by_cases k10 : Tk T s = 10
        · rw [if_pos k10] at w ⊢
          obtain ⟨d, a, b⟩ := w
          exact ⟨d, a, ih _ _ _ _ _ _ b (by omega) hg⟩
        rw [if_neg k10] at w ⊢
        by_cases k16 : Tk T s = 16 ∨ Tk T s = 17
        · rw [if_pos k16] at w ⊢
          obtain ⟨d, x, y, a, b, c, f, g⟩ := w
          have l2 := wO_le (wB_le T nm m) f
          have l3 := wC_le (wB_le T nm m) c
          refine ⟨d, x, y, a, ih _ _ _ _ _ _ b (by omega) hg, ?_, ?_, g⟩
          · have key : ∀ (l : List (Int32 × List Nat)) (x y : Nat), y ≤ N → wC (wB T nm m) s lp d l x y → wC (xB T nm N m) s lp d l x y := by
              intro l
              induction l with
              | nil => intro x y _ w; exact w
              | cons c r ih2 =>
                intro x y hy w
                obtain ⟨z, w1, w2⟩ := w
                have := wC_le (wB_le T nm m) w2
                exact ⟨z, ih _ _ _ _ _ _ w1 (by omega) (fun _ => k16), ih2 z y hy w2⟩
            exact key _ _ _ (by omega) c
          · cases hT : To T s with
            | none => rw [hT] at f; exact f
            | some b => rw [hT] at f; exact ih _ _ _ _ _ _ f (by omega) hg
        rw [if_neg k16] at w ⊢
        exact w
      · intro k
        obtain ⟨w1, w⟩ := ws
        rw [if_neg (by omega), if_neg (by omega), if_neg (by omega)] at w
        exact hg (by have := (w.2.2 k).2.1; omega)
end XB
/-- what an instruction needs -/
def okI (T : Pg) (nm N : Nat) (C : Cd) (k : Nat) (i : Ci) (F : Nat → Cf) (B : Bk) : Prop := B.1 10 ≤ 12 ∧ (match i.1 with
  | 0 => Iv 0 0 0 0 0 B
  | 1 => isPl (Tk T i.2.1) ∧ i.2.1 < N ∧ wP T nm i.2.1 ∧ Iv 1 1 1 1 1 B
  | 2 => (Tk T i.2.1 = 2 ∨ Tk T i.2.1 = 7) ∧ i.2.1 < N ∧ wP T nm i.2.1 ∧ Iv 1 1 1 1 1 B
  | 3 => Tk T i.2.1 = 8 ∧ i.2.1 < N ∧ wP T nm i.2.1 ∧ Iv 1 1 1 1 1 B
  | 4 => Tk T i.2.1 = 9 ∧ i.2.1 < N ∧ wP T nm i.2.1 ∧ Iv 1 1 1 1 1 B
  | 5 => True
  | 6 => Tk T i.2.1 = 10 ∧ i.2.1 < N ∧ wP T nm i.2.1 ∧ Iv 1 1 1 1 1 B ∧ i.2.2 = 8 * i.2.1
  | 7 => Tk T i.2.1 = 10 ∧ i.2.1 < N ∧ Iv 0 0 0 0 0 B
  | 8 => (Tk T i.2.1 = 14 ∨ Tk T i.2.1 = 15) ∧ i.2.1 < N ∧ wP T nm i.2.1 ∧ Iv 1 1 1 1 1 B ∧ ∃ t, Tb T i.2.1 = nI t ∧ t < i.2.1 ∧ gdS T t
  | 9 => Tk T i.2.1 = 17 ∧ i.2.1 < N ∧ Iv 0 0 0 0 0 B ∧ ∃ na, Ta T i.2.1 = nI na ∧ 1 ≤ na ∧ na ≤ 3
  | 10 => Tk T i.2.1 = 17 ∧ i.2.1 < N ∧ Iv 0 0 0 0 0 B ∧ ∃ na, Ta T i.2.1 = nI na ∧ 1 ≤ na ∧ na ≤ 3
  | 11 => Tk T i.2.1 = 17 ∧ i.2.1 < N ∧ Iv 0 0 0 0 0 B ∧ (∃ na, Ta T i.2.1 = nI na ∧ 1 ≤ na ∧ na ≤ 3) ∧ vK B ((F k).2.2 i.2.2) ∧ i.2.2 < 8 * N
  | 12 => i.2.1 < N
  | 13 => i.2.2 < 8 * N
  | 14 => i.2.2 < 8 * N
  | 15 => i.2.2 < 8 * N
  | 16 => True
  | 17 => i.2.2 < 8 * N
  | 18 => i.2.2 < 8 * N
  | 19 => i.2.1 < 8 * N
  | 20 => i.2.2 < 8 * N ∧ ∃ g, (F k).2.2 i.2.2 = nI g ∧ g < 2147483648
  | 21 => True
  | 22 => k = 0 ∨ ∃ p, (F (k - 1)).1 = p + 1 ∧ (C.1 p).1 = 2 ∧ (Tk T (C.1 p).2.1 = 2 ∨ Tk T (C.1 p).2.1 = 7) ∧ (C.1 p).2.1 < N ∧ wP T nm (C.1 p).2.1
  | _ => False)
def okS (T : Pg) (nm N : Nat) (C : Cd) (x : Cs) : Prop := (x.1 = 0 → 1 ≤ x.2.2.2.1 10 ∧ okI T nm N C (x.2.2.2.1 10 - 1) (C.1 (x.2.2.1 (x.2.2.2.1 10 - 1)).1) x.2.2.1 x.2.2.2) ∧ (x.1 = 4 → 1 ≤ x.2.2.2.1 10 → vK x.2.2.2 x.2.1 ∧ x.2.2.2.1 4 ≤ 400 ∧ x.2.2.2.1 10 ≤ 12)
def dTo (T : Pg) (nm N : Nat) (pl : Nat → Int32 → Int32) (C : Cd) (x y : Cs) : Prop := ∃ n, cIt T pl C n x = y ∧ ∀ m, m < n → okS T nm N C (cIt T pl C m x)
section DEND
variable {T : Pg} {nm N : Nat} {pl : Nat → Int32 → Int32} {sh : Bool} {C : Cd} {K : List Sc} {h : Hf} {q : Nat} {F : Nat → Cf} {k lo hi : Nat}
theorem dTo.refl {x : Cs} : dTo T nm N pl C x x := ⟨0, rfl, fun m hm => absurd hm (Nat.not_lt_zero m)⟩
theorem dTo.trans {x y z : Cs} (h : dTo T nm N pl C x y) (k : dTo T nm N pl C y z) : dTo T nm N pl C x z := by
  obtain ⟨n, rfl, hn⟩ := h
  obtain ⟨m, rfl, hm⟩ := k
  refine ⟨n + m, cIt_add T pl C n m x, fun j hj => ?_⟩
  by_cases c : j < n
  · exact hn j c
  · have := hm (j - n) (by omega)
    rw [← cIt_add, show n + (j - n) = j from by omega] at this
    exact this
theorem dTo.one {x y z : Cs} (h : cGo T pl C x = y) (ho : okS T nm N C x) (k : dTo T nm N pl C y z) : dTo T nm N pl C x z := dTo.trans ⟨1, h, fun m hm => by
  have : m = 0 := by omega
  subst this
  exact ho⟩ k
def dEnd (T : Pg) (nm N : Nat) (pl : Nat → Int32 → Int32) (sh : Bool) (C : Cd) (x : Cs) (K : List Sc) (h : Hf) (q : Nat) (F : Nat → Cf) (k lo hi : Nat) (r : Rs) : Prop := ∃ y, dTo T nm N pl C x y ∧ cIs T sh C K h q F k lo hi r y
theorem dEnd.bind {x : Cs} {K1 : List Sc} {h1 : Hf} {q1 k1 : Nat} {F1 : Nat → Cf} {lo1 hi1 : Nat} {r1 r : Rs} (a : dEnd T nm N pl sh C x K1 h1 q1 F1 k1 lo1 hi1 r1) (b : ∀ y, cIs T sh C K1 h1 q1 F1 k1 lo1 hi1 r1 y → dEnd T nm N pl sh C y K h q F k lo hi r) : dEnd T nm N pl sh C x K h q F k lo hi r := by
  obtain ⟨y, t, i⟩ := a
  obtain ⟨z, t2, i2⟩ := b y i
  exact ⟨z, t.trans t2, i2⟩
theorem okS.op {p kk : Nat} {v : Int32} {F1 : Nat → Cf} {B : Bk} {i : Ci} (hp : (F1 kk).1 = p) (hd : B.1 10 = kk + 1) (hC : C.1 p = i) (ho : okI T nm N C kk i F1 B) : okS T nm N C (0, v, F1, B) := by
  refine ⟨fun _ => ⟨by show 1 ≤ B.1 10; omega, ?_⟩, fun e => absurd e (show ¬ (0 : Nat) = 4 by decide)⟩
  show okI T nm N C (B.1 10 - 1) (C.1 (F1 (B.1 10 - 1)).1) F1 B
  rw [hd, Nat.add_sub_cancel, hp, hC]
  exact ho
/-- an instruction -/
theorem dEnd.op' {r : Rs} {p kk : Nat} {v : Int32} {F1 : Nat → Cf} {B : Bk} {i : Ci} (hp : (F1 kk).1 = p) (hd : B.1 10 = kk + 1) (hC : C.1 p = i) (ho : okI T nm N C kk i F1 B) (a : dEnd T nm N pl sh C (cOp T pl C kk i (fpc F1 kk (p + 1)) B) K h q F k lo hi r) : dEnd T nm N pl sh C (0, v, F1, B) K h q F k lo hi r := by
  obtain ⟨y, t, i2⟩ := a
  refine ⟨y, dTo.one ?_ (okS.op hp hd hC ho) t, i2⟩
  unfold cGo
  rw [if_pos rfl]
  show cOp T pl C (B.1 10 - 1) (C.1 (F1 (B.1 10 - 1)).1) (fpc F1 (B.1 10 - 1) ((F1 (B.1 10 - 1)).1 + 1)) B = _
  rw [hd, Nat.add_sub_cancel, hp, hC]
theorem dEnd.op {r : Rs} {p : Nat} {v : Int32} {F1 : Nat → Cf} {B : Bk} {i : Ci} (hp : (F1 k).1 = p) (hd : B.1 10 = k + 1) (hC : C.1 p = i) (ho : okI T nm N C k i F1 B) (a : dEnd T nm N pl sh C (cOp T pl C k i (fpc F1 k (p + 1)) B) K h q F k lo hi r) : dEnd T nm N pl sh C (0, v, F1, B) K h q F k lo hi r := dEnd.op' hp hd hC ho a
/-- a jump -/
theorem dEnd.jmp {r : Rs} {p t : Nat} {v : Int32} {F1 : Nat → Cf} {B : Bk} (hp : (F1 k).1 = p) (hd : B.1 10 = k + 1) (h1 : (C.1 p).1 = 5) (h2 : (C.1 p).2.2 = t) (ho : k < 12) (a : dEnd T nm N pl sh C (0, 0, fpc (fpc F1 k (p + 1)) k t, B) K h q F k lo hi r) : dEnd T nm N pl sh C (0, v, F1, B) K h q F k lo hi r := by
  refine dEnd.op (i := (5, (C.1 p).2.1, t)) hp hd ?_ ⟨by omega, trivial⟩ a
  rw [← h1, ← h2]
theorem okS.fl {v : Int32} {F1 : Nat → Cf} {B : Bk} (ho : vK B v ∧ B.1 4 ≤ 400) (hd : B.1 10 ≤ 12) : okS T nm N C (4, v, F1, B) := ⟨fun e => absurd e (show ¬ (4 : Nat) = 0 by decide), fun _ _ => ⟨ho.1, ho.2, hd⟩⟩
/-- a failure that a row takes -/
theorem dEnd.take {r : Rs} {v : Int32} {F1 : Nat → Cf} {B : Bk} {t sl : Nat} (hd : B.1 10 = k + 1) (hh : hlr T C.2.1 ((F1 k).1 - 1) (B.2 3 v.toNatClampNeg) = some (t, sl)) (ho : vK B v ∧ B.1 4 ≤ 400) (h12 : k < 12) (a : dEnd T nm N pl sh C (0, 0, fsl (fpc F1 k t) k sl v, B) K h q F k lo hi r) : dEnd T nm N pl sh C (4, v, F1, B) K h q F k lo hi r := by
  obtain ⟨y, t1, i2⟩ := a
  refine ⟨y, dTo.one ?_ (okS.fl ho (by omega)) t1, i2⟩
  unfold cGo
  rw [if_neg (show ¬ (4 : Nat) = 0 from by decide), if_pos rfl]
  show (if B.1 10 = 0 then _ else match hlr T C.2.1 ((F1 (B.1 10 - 1)).1 - 1) (B.2 3 v.toNatClampNeg) with | some q => _ | none => _) = _
  rw [hd, if_neg (Nat.succ_ne_zero k), Nat.add_sub_cancel, hh]
theorem dEnd.pop {r : Rs} {v : Int32} {F1 : Nat → Cf} {B : Bk} {k1 : Nat} (hd : B.1 10 = k1 + 1) (hh : hlr T C.2.1 ((F1 k1).1 - 1) (B.2 3 v.toNatClampNeg) = none) (ho : vK B v ∧ B.1 4 ≤ 400) (h12 : k1 < 12) (a : dEnd T nm N pl sh C (4, v, F1, bExit B) K h q F k lo hi r) : dEnd T nm N pl sh C (4, v, F1, B) K h q F k lo hi r := by
  obtain ⟨y, t1, i2⟩ := a
  refine ⟨y, dTo.one ?_ (okS.fl ho (by omega)) t1, i2⟩
  unfold cGo
  rw [if_neg (show ¬ (4 : Nat) = 0 from by decide), if_pos rfl]
  show (if B.1 10 = 0 then _ else match hlr T C.2.1 ((F1 (B.1 10 - 1)).1 - 1) (B.2 3 v.toNatClampNeg) with | some q => _ | none => _) = _
  rw [hd, if_neg (Nat.succ_ne_zero k1), Nat.add_sub_cancel, hh]
theorem dEnd.now {x : Cs} {r : Rs} (a : cIs T sh C K h q F k lo hi r x) : dEnd T nm N pl sh C x K h q F k lo hi r := ⟨x, dTo.refl, a⟩
end DEND
def dBk (T : Pg) (nm N : Nat) (pl : Nat → Int32 → Int32) (sh : Bool) (C : Cd) (bk : Wk) (n : Nat) : Prop := ∀ (m mw tg lp dp : Nat) (K : List Sc) (h : Hf) (ss : List Nat) (p q lo hi : Nat) (tk : Int32) (F : Nat → Cf) (B : Bk) (v : Int32) (k : Nat), okBlk T sh C m K h ss p q → xB T nm N mw tg lp dp ss lo hi → B.1 11 - B.1 9 ≤ n → Iv 0 0 0 0 0 B → B.1 10 = k + 1 → (F k).1 = p → (tg ≠ 999 → tg < lo ∧ (F k).2.2 (8 * tg) = tk ∧ vK B tk) → dEnd T nm N pl sh C (0, v, F, B) K h q F k lo hi (bk ss tk B)
/-- every method's code -/
def dPg (T : Pg) (nm N : Nat) (sh : Bool) (C : Cd) : Prop := ∀ mi, mi < nm → ∃ m mw dp lo hi q, okBlk T sh C m [] (fun _ => none) (Tm T mi) (C.2.2 mi) q ∧ xB T nm N mw 999 0 dp (Tm T mi) lo hi ∧ (C.1 q).1 = 21 ∧ (C.1 (q + 1)).1 = 22
/-- a failure's number, as a go needs it -/
theorem ivR.f {B : Bk} {r : Rs} (h : ivR B r) (h4 : r.1 = 4) : vK r.2.2 r.2.1 ∧ r.2.2.1 4 ≤ 400 := by
  obtain ⟨a, -, c⟩ := h (by omega)
  have := a.1
  exact ⟨c h4, by omega⟩
