set_option maxRecDepth 100000
section PILE3
variable {T : Pg} {pl : Nat → Int32 → Int32}
theorem pGrd_0 {s o m sg : Nat} {sv : Int32} {K : List Fr} {B : Bk} : pGrd T pl (fGrd s 0 0 0 o m NN) sg sv K B = (
    if (if m = 0 then (sg, sv, B) else sCl pl s o m sg sv (b2 B (oAt B) 0 (nI s)) : Rs).1 = 5 then (sg, sv, fGrd s 0 0 0 o m NN :: K, 2, (if m = 0 then (sg, sv, B) else sCl pl s o m sg sv (b2 B (oAt B) 0 (nI s)) : Rs).2.2)
    else if (if m = 0 then (sg, sv, B) else sCl pl s o m sg sv (b2 B (oAt B) 0 (nI s)) : Rs).1 = 4 then match catchFor T ((if m = 0 then (sg, sv, B) else sCl pl s o m sg sv (b2 B (oAt B) 0 (nI s)) : Rs).2.2.2 3 (if m = 0 then (sg, sv, B) else sCl pl s o m sg sv (b2 B (oAt B) 0 (nI s)) : Rs).2.1.toNatClampNeg) (Tc T s) with
      | none => pFin T s (if m = 0 then (sg, sv, B) else sCl pl s o m sg sv (b2 B (oAt B) 0 (nI s)) : Rs).1 (if m = 0 then (sg, sv, B) else sCl pl s o m sg sv (b2 B (oAt B) 0 (nI s)) : Rs).2.1 o NN sg sv K (if m = 0 then (sg, sv, B) else sCl pl s o m sg sv (b2 B (oAt B) 0 (nI s)) : Rs).2.2
      | some b => (9, sv, fBlk b :: fGrd s 2 (if m = 0 then (sg, sv, B) else sCl pl s o m sg sv (b2 B (oAt B) 0 (nI s)) : Rs).1 (if m = 0 then (sg, sv, B) else sCl pl s o m sg sv (b2 B (oAt B) 0 (nI s)) : Rs).2.1 o 0 (if m = 0 then (sg, sv, B) else sCl pl s o m sg sv (b2 B (oAt B) 0 (nI s)) : Rs).2.1 :: K, 9, (if m = 0 then (sg, sv, B) else sCl pl s o m sg sv (b2 B (oAt B) 0 (nI s)) : Rs).2.2)
    else pFin T s (if m = 0 then (sg, sv, B) else sCl pl s o m sg sv (b2 B (oAt B) 0 (nI s)) : Rs).1 (if m = 0 then (sg, sv, B) else sCl pl s o m sg sv (b2 B (oAt B) 0 (nI s)) : Rs).2.1 o NN sg sv K (if m = 0 then (sg, sv, B) else sCl pl s o m sg sv (b2 B (oAt B) 0 (nI s)) : Rs).2.2) := rfl
theorem cau_p {bk : Wk} {n s : Nat} (hb : pB T pl bk n) (hk : kpB bk n) (hs : sgB bk) {K : List Fr} {q : Rs} {v : Int32} {o m : Nat} (hn : q.2.2.1 11 - q.2.2.1 9 ≤ n) (h : q.2.2.1 9 ≤ q.2.2.1 11) (hd : 1 ≤ q.2.2.1 10) (h5 : q.1 < 5) (hv : q.1 ≠ 0 → v = q.2.1) :
    pEnd T pl (q.1, v, fGrd s 0 0 0 o m NN :: K, 9, q.2.2) K (fin T bk s (tkOf K) (cau T bk s (if m = 0 then q else sCl pl s o m q.1 q.2.1 (b2 q.2.2 (oAt q.2.2) 0 (nI s))))) := by
  refine pEnd.one rfl ?_
  simp only [pGo]
  rw [if_neg (by omega), if_neg (show ¬ (fGrd s 0 0 0 o m NN).1 = 1 from (by decide : ¬ 3 = 1)), if_neg (show ¬ (fGrd s 0 0 0 o m NN).1 = 2 from (by decide : ¬ 3 = 2)), if_pos (show (fGrd s 0 0 0 o m NN).1 = 3 from rfl)]
  rw [pGrd_0]
  have hc : (if m = 0 then (q.1, v, q.2.2) else sCl pl s o m q.1 v (b2 q.2.2 (oAt q.2.2) 0 (nI s)) : Rs).1 = (if m = 0 then q else sCl pl s o m q.1 q.2.1 (b2 q.2.2 (oAt q.2.2) 0 (nI s))).1 ∧ (if m = 0 then (q.1, v, q.2.2) else sCl pl s o m q.1 v (b2 q.2.2 (oAt q.2.2) 0 (nI s)) : Rs).2.2 = (if m = 0 then q else sCl pl s o m q.1 q.2.1 (b2 q.2.2 (oAt q.2.2) 0 (nI s))).2.2 ∧ ((if m = 0 then (q.1, v, q.2.2) else sCl pl s o m q.1 v (b2 q.2.2 (oAt q.2.2) 0 (nI s)) : Rs).1 ≠ 0 → (if m = 0 then (q.1, v, q.2.2) else sCl pl s o m q.1 v (b2 q.2.2 (oAt q.2.2) 0 (nI s)) : Rs).2.1 = (if m = 0 then q else sCl pl s o m q.1 q.2.1 (b2 q.2.2 (oAt q.2.2) 0 (nI s))).2.1) := by
    by_cases em : m = 0
    · rw [if_pos em, if_pos em]
      exact ⟨rfl, rfl, hv⟩
    · rw [if_neg em, if_neg em]
      by_cases e0 : q.1 = 0
      · rw [e0]
        exact sCl_irr m v q.2.1 _
      · rw [hv e0]
        exact ⟨rfl, rfl, fun _ => rfl⟩
  have kc : (if m = 0 then q else sCl pl s o m q.1 q.2.1 (b2 q.2.2 (oAt q.2.2) 0 (nI s))).2.2.1 11 - (if m = 0 then q else sCl pl s o m q.1 q.2.1 (b2 q.2.2 (oAt q.2.2) 0 (nI s))).2.2.1 9 ≤ n ∧ (if m = 0 then q else sCl pl s o m q.1 q.2.1 (b2 q.2.2 (oAt q.2.2) 0 (nI s))).2.2.1 9 ≤ (if m = 0 then q else sCl pl s o m q.1 q.2.1 (b2 q.2.2 (oAt q.2.2) 0 (nI s))).2.2.1 11 ∧ ((if m = 0 then q else sCl pl s o m q.1 q.2.1 (b2 q.2.2 (oAt q.2.2) 0 (nI s))).1 ≠ 5 → 1 ≤ (if m = 0 then q else sCl pl s o m q.1 q.2.1 (b2 q.2.2 (oAt q.2.2) 0 (nI s))).2.2.1 10) ∧ (if m = 0 then q else sCl pl s o m q.1 q.2.1 (b2 q.2.2 (oAt q.2.2) 0 (nI s))).1 ≤ 5 := by
    by_cases em : m = 0
    · rw [if_pos em]
      exact ⟨hn, h, fun _ => hd, by omega⟩
    · rw [if_neg em]
      obtain ⟨k1, k2, k3, k4⟩ := @sCl_kp pl s o m q.1 q.2.1 (b2 q.2.2 (oAt q.2.2) 0 (nI s)) h
      have k5 := @sCl_sg pl s o m q.1 q.2.1 (b2 q.2.2 (oAt q.2.2) 0 (nI s)) (by omega)
      have e11 : (b2 q.2.2 (oAt q.2.2) 0 (nI s)).1 11 = q.2.2.1 11 := rfl
      have e9 : (b2 q.2.2 (oAt q.2.2) 0 (nI s)).1 9 = q.2.2.1 9 := rfl
      have e10 : (b2 q.2.2 (oAt q.2.2) 0 (nI s)).1 10 = q.2.2.1 10 := rfl
      exact ⟨by omega, k3, fun e => by have := k4 e; omega, k5⟩
  generalize (if m = 0 then (q.1, v, q.2.2) else sCl pl s o m q.1 v (b2 q.2.2 (oAt q.2.2) 0 (nI s)) : Rs) = cp at *
  generalize (if m = 0 then q else sCl pl s o m q.1 q.2.1 (b2 q.2.2 (oAt q.2.2) 0 (nI s))) = cq at *
  obtain ⟨a, w, B1⟩ := cp
  obtain ⟨a', w', B1'⟩ := cq
  dsimp only at hc kc ⊢
  obtain ⟨e1, e2, e3⟩ := hc
  subst e1
  subst e2
  obtain ⟨k1, k2, k3, k4⟩ := kc
  by_cases x5 : a = 5
  · subst x5
    rw [if_pos rfl]
    have ec : cau T bk s (5, w', B1) = (5, w', B1) := rfl
    have ef : fin T bk s (tkOf K) (5, w', B1) = (5, w', B1) := by
      unfold fin
      cases To T s <;> rfl
    rw [ec, ef]
    exact pEnd.out rfl rfl
  · rw [if_neg x5]
    by_cases x4 : a = 4
    · subst x4
      have ew : w = w' := e3 (by decide)
      subst ew
      rw [if_pos rfl]
      unfold cau
      rw [if_pos (show ((4, w, B1) : Rs).1 = 4 from rfl)]
      show pEnd T pl (match catchFor T (B1.2 3 w.toNatClampNeg) (Tc T s) with | none => _ | some b => _) K (fin T bk s (tkOf K) (match catchFor T (B1.2 3 w.toNatClampNeg) (Tc T s) with | none => _ | some b => _))
      cases hcf : catchFor T (B1.2 3 w.toNatClampNeg) (Tc T s) with
      | none => exact fin_p (q := (4, w, B1)) hb hs k1 k2 (k3 x5) x5 (fun _ => rfl)
      | some b =>
        dsimp only
        have p := hb b v (fGrd s 2 4 w o 0 w :: K) B1 k1 k2 (k3 x5)
        have et : tkOf (fGrd s 2 4 w o 0 w :: K) = w := rfl
        rw [et] at p
        have sw := hs b w B1
        obtain ⟨j1, j2, j3, j4⟩ := hk b w B1 k1 k2
        generalize bk b w B1 = z at *
        refine p.bind (fun z5 => ?_) (fun z5 v' hv' => ?_)
        · unfold fin
          cases To T s with
          | none => exact ⟨z5, rfl⟩
          | some b' => dsimp only; rw [if_pos z5]; exact ⟨z5, rfl⟩
        · refine pEnd.one rfl ?_
          simp only [pGo]
          rw [if_neg (by omega), if_neg (show ¬ (fGrd s 2 4 w o 0 w).1 = 1 from (by decide : ¬ 3 = 1)), if_neg (show ¬ (fGrd s 2 4 w o 0 w).1 = 2 from (by decide : ¬ 3 = 2)), if_pos (show (fGrd s 2 4 w o 0 w).1 = 3 from rfl)]
          have eg : pGrd T pl (fGrd s 2 4 w o 0 w) z.1 v' K z.2.2 = pFin T s z.1 v' o w z.1 v' K z.2.2 := rfl
          rw [eg]
          exact fin_p hb hs (by omega) j3 (by have := j4 z5; have := k3 x5; omega) z5 hv'
    · rw [if_neg x4]
      have ec : cau T bk s (a, w', B1) = (a, w', B1) := by
        unfold cau
        rw [if_neg x4]
      rw [ec]
      exact fin_p (q := (a, w', B1)) hb hs k1 k2 (k3 x5) x5 e3
end PILE3
