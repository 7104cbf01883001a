set_option maxRecDepth 100000
def cau (T : Pg) (bk : Wk) (s : Nat) (q : Rs) : Rs := if q.1 = 4 then match catchFor T (q.2.2.2 3 q.2.1.toNatClampNeg) (Tc T s) with
  | none => q
  | some b => bk b q.2.1 q.2.2
  else q
def fin (T : Pg) (bk : Wk) (s : Nat) (tk : Int32) (q : Rs) : Rs := match To T s with
  | none => q
  | some b => if q.1 = 5 then q else
    let w := bk b tk (b2 q.2.2 11 s (q.2.2.2 11 s + 1))
    if w.1 = 5 then w
    else if w.1 = 0 then (q.1, q.2.1, w.2.2)
    else if q.1 = 4 then (w.1, w.2.1, b1 w.2.2 7 (w.2.2.1 7 + 1)) else w
theorem sGuard_e (T : Pg) (pl : Nat → Int32 → Int32) (bk : Wk) (s : Nat) (tk : Int32) (B : Bk) : sGuard T pl bk s tk B = fin T bk s tk (cau T bk s (sInner T pl bk s tk B)) := rfl
section PILE2
variable {T : Pg} {pl : Nat → Int32 → Int32}
theorem fin_p {bk : Wk} {n s : Nat} (hb : pB T pl bk n) (hs : sgB bk) {K : List Fr} {q : Rs} {v sv c : Int32} {sg o : Nat} (hn : q.2.2.1 11 - q.2.2.1 9 ≤ n) (h : q.2.2.1 9 ≤ q.2.2.1 11) (hd : 1 ≤ q.2.2.1 10) (h5 : q.1 ≠ 5) (hv : q.1 ≠ 0 → v = q.2.1) : pEnd T pl (pFin T s q.1 v o c sg sv K q.2.2) K (fin T bk s (tkOf K) q) := by
  unfold pFin fin
  cases To T s with
  | none => exact pEnd.ok h5 hv
  | some b =>
    dsimp only
    rw [if_neg h5]
    have p := hb b sv (fGrd s 3 q.1 v o 0 c :: K) (b2 q.2.2 11 s (q.2.2.2 11 s + 1)) hn h hd
    have et : tkOf (fGrd s 3 q.1 v o 0 c :: K) = tkOf K := rfl
    rw [et] at p
    have sw := hs b (tkOf K) (b2 q.2.2 11 s (q.2.2.2 11 s + 1))
    generalize bk b (tkOf K) (b2 q.2.2 11 s (q.2.2.2 11 s + 1)) = w at *
    refine p.bind (fun w5 => by rw [if_pos w5]; exact ⟨w5, rfl⟩) (fun w5 v' hv' => ?_)
    refine pEnd.one rfl ?_
    simp only [pGo]
    rw [if_neg (by omega), if_neg (show ¬ (fGrd s 3 q.1 v o 0 c).1 = 1 from (by decide : ¬ 3 = 1)), if_neg (show ¬ (fGrd s 3 q.1 v o 0 c).1 = 2 from (by decide : ¬ 3 = 2)), if_pos (show (fGrd s 3 q.1 v o 0 c).1 = 3 from rfl)]
    unfold pGrd
    dsimp only
    rw [if_pos (show (fGrd s 3 q.1 v o 0 c).2.2.2.1 = 3 from rfl), if_neg w5]
    by_cases w0 : w.1 = 0
    · rw [if_pos w0, if_pos w0]
      exact pEnd.ok h5 hv
    · rw [if_neg w0, if_neg w0]
      by_cases q4 : q.1 = 4
      · rw [if_pos q4, if_pos (show (fGrd s 3 q.1 v o 0 c).2.2.2.2.1 = 4 from q4)]
        exact pEnd.ok w5 hv'
      · rw [if_neg q4, if_neg (show ¬ (fGrd s 3 q.1 v o 0 c).2.2.2.2.1 = 4 from q4)]
        exact pEnd.ok w5 hv'
end PILE2
