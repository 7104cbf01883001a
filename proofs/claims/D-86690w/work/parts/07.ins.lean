set_option maxRecDepth 100000
/-! what is not covered: no step -/
section XMORE
variable {M : XM} {pc npc : Nat}
theorem xok_bad : XOkP M pc npc (fun _ _ _ => none) := fun _ _ _ _ _ _ _ h => nomatch h
/-- a row of rows is stored at -/
def x_aaA : XP := fun L st G => match st with
  | v :: .int i :: .ref a :: r => match xunR v with
    | some o => if Gkd G a = 105 ∧ xinb i (Gln G a) = true ∧ xrfk G [104] o = true then some (none, L, r, Sar G a i.toNatClampNeg o) else none
    | none => none
  | _ => none
/-- System.arraycopy of ints; of references (sort t, the kinds ks) -/
def x_cpi : XP := fun L st G => match st with
  | .int n :: .int dp :: .ref b :: .int sp :: .ref a :: r => if xwt r ≤ 8 ∧ ¬ sp < 0 ∧ ¬ dp < 0 ∧ ¬ n < 0 ∧ sp.toNatClampNeg + n.toNatClampNeg ≤ Gln G a ∧ dp.toNatClampNeg + n.toNatClampNeg ≤ Gln G b ∧ Gkd G a = 100 ∧ Gkd G b = 100 then
      some (none, L, r, Rai G b (va_cpy (Gai G a) (Gai G b) sp.toNatClampNeg dp.toNatClampNeg n.toNatClampNeg)) else none
  | _ => none
def x_cpq (t : Nat) (ks : List Nat) : XP := fun L st G => match st with
  | .int n :: .int dp :: .ref b :: .int sp :: .ref a :: r => if xwt r ≤ 8 ∧ ¬ sp < 0 ∧ ¬ dp < 0 ∧ ¬ n < 0 ∧ sp.toNatClampNeg + n.toNatClampNeg ≤ Gln G a ∧ dp.toNatClampNeg + n.toNatClampNeg ≤ Gln G b ∧ Gkd G a = 100 + t ∧ Gkd G b = 100 + t ∧ ∀ i, i < n.toNatClampNeg → xrfk G ks (Gar G a (sp.toNatClampNeg + i)) = true then
      some (none, L, r, Rar G b (va_cpy (Gar G a) (Gar G b) sp.toNatClampNeg dp.toNatClampNeg n.toNatClampNeg)) else none
  | _ => none
/-- a text's length, its letters: texts are the kinds from 300 on -/
def x_sln : XP := fun L st G => match st with
  | .ref a :: r => if 300 ≤ Gkd G a ∧ xwt r ≤ 8 then some (none, L, .int (nI (xsln (Gkd G a - 300))) :: r, G) else none
  | _ => none
def x_sch : XP := fun L st G => match st with
  | .int i :: .ref a :: r => if 300 ≤ Gkd G a ∧ xinb i (xsln (Gkd G a - 300)) = true ∧ xwt r ≤ 8 then some (none, L, .int ((xsby (Gkd G a - 300)).getD i.toNatClampNeg 0) :: r, G) else none
  | _ => none
end XMORE
def i_psh (v : Value) : XI := .inl (x_psh v)
def i_sv (i : Nat) : XI := .inl (x_sv i)
def i_ild (k : Nat) : XI := .inl (x_ild k)
def i_lld (k : Nat) : XI := .inl (x_lld k)
def i_ald (k : Nat) : XI := .inl (x_ald k)
def i_ist (k : Nat) : XI := .inl (x_ist k)
def i_lst (k : Nat) : XI := .inl (x_lst k)
def i_ast (k : Nat) : XI := .inl (x_ast k)
def i_inc (k : Nat) (n : Int32) : XI := .inl (x_inc k n)
def i_add : XI := .inl (x_bin (· + ·))
def i_sub : XI := .inl (x_bin (· - ·))
def i_mul : XI := .inl (x_bin (· * ·))
def i_and : XI := .inl (x_bin (· &&& ·))
def i_or : XI := .inl (x_bin (· ||| ·))
def i_div : XI := .inl (x_div (· / ·))
def i_rem : XI := .inl (x_div (fun x y => x - x / y * y))
def i_neg : XI := .inl (x_una (fun x => -x))
def i_i2b : XI := .inl (x_una (fun x => x.toInt8.toInt32))
def i_i2l : XI := .inl (x_i2l)
def i_l2i : XI := .inl (x_l2i)
def i_ladd : XI := .inl (x_lbi (· + ·))
def i_lsub : XI := .inl (x_lbi (· - ·))
def i_lmul : XI := .inl (x_lbi (· * ·))
def i_land : XI := .inl (x_lbi (· &&& ·))
def i_lor : XI := .inl (x_lbi (· ||| ·))
def i_lshl : XI := .inl (x_lsh (· <<< ·))
def i_lshr : XI := .inl (x_lsh (· >>> ·))
def i_lcm : XI := .inl (x_lcm)
def i_dup : XI := .inl (x_dup)
def i_du2 : XI := .inl (x_du2)
def i_dx1 : XI := .inl (x_dx1)
def i_pop : XI := .inl (x_pop)
def i_ifeq (t : Nat) : XI := .inl (x_if1 (fun x => decide (x = 0)) t)
def i_ifne (t : Nat) : XI := .inl (x_if1 (fun x => decide (¬ x = 0)) t)
def i_iflt (t : Nat) : XI := .inl (x_if1 (fun x => decide (x < 0)) t)
def i_ifge (t : Nat) : XI := .inl (x_if1 (fun x => decide (0 ≤ x)) t)
def i_ifgt (t : Nat) : XI := .inl (x_if1 (fun x => decide (0 < x)) t)
def i_ifle (t : Nat) : XI := .inl (x_if1 (fun x => decide (x ≤ 0)) t)
def i_iceq (t : Nat) : XI := .inl (x_if2 (fun x y => decide (x = y)) t)
def i_icne (t : Nat) : XI := .inl (x_if2 (fun x y => decide (¬ x = y)) t)
def i_iclt (t : Nat) : XI := .inl (x_if2 (fun x y => decide (x < y)) t)
def i_icge (t : Nat) : XI := .inl (x_if2 (fun x y => decide (y ≤ x)) t)
def i_icgt (t : Nat) : XI := .inl (x_if2 (fun x y => decide (y < x)) t)
def i_icle (t : Nat) : XI := .inl (x_if2 (fun x y => decide (x ≤ y)) t)
def i_got (t : Nat) : XI := .inl (x_got t)
def i_fal (t : Nat) : XI := .inl (x_fal t)
def i_ifn (t : Nat) : XI := .inl (x_ifn t)
def i_inn (t : Nat) : XI := .inl (x_inn t)
def i_tsw (lo : Int) (n t : Nat) (ts : List Nat) : XI := .inl (x_tsw lo n t ts)
def i_lsw (t : Nat) (ks : List (Int × Nat)) : XI := .inl (x_lsw t ks)
def i_gei (g : Nat) (cs : List Nat) : XI := .inl (x_gei g cs)
def i_ger (g : Nat) (cs : List Nat) : XI := .inl (x_ger g cs)
def i_pui (g : Nat) (cs : List Nat) : XI := .inl (x_pui g cs)
def i_puz (g : Nat) (cs : List Nat) : XI := .inl (x_puz g cs)
def i_pur (g : Nat) (cs : List Nat) : XI := .inl (x_pur g cs)
def i_lda (t : Nat) : XI := .inl (x_lda t)
def i_ias : XI := .inl (x_ias)
def i_bas : XI := .inl (x_bas)
def i_zas : XI := .inl (x_zas)
def i_las : XI := .inl (x_las)
def i_aas (t : Nat) (cs : List Nat) : XI := .inl (x_aas t cs)
def i_aaA : XI := .inl (x_aaA)
def i_len : XI := .inl (x_len)
def i_nwa (t : Nat) : XI := .inl (x_nwa t)
def i_new (c n : Nat) : XI := .inl (x_new c n)
def i_cst (cs : List Nat) : XI := .inl (x_cst cs)
def i_obj : XI := .inl (x_obj)
def i_cpi : XI := .inl (x_cpi)
def i_cpq (t : Nat) (ks : List Nat) : XI := .inl (x_cpq t ks)
def i_sln : XI := .inl (x_sln)
def i_sch : XI := .inl (x_sch)
def i_bad : XI := .inl (fun _ _ _ => none)
def i_cls (k n : Nat) : XI := .inr (.inl (x_cls k n))
def i_cli (k n : Nat) : XI := .inr (.inl (x_cli k n))
def i_clv (n : Nat) (l : List (Nat × Nat)) : XI := .inr (.inl (x_clv n l))
def i_ret (r : Nat) : XI := .inr (.inr (.inl r))
def i_thr : XI := .inr (.inr (.inr ()))
section XRULES
variable {ms : Nat → XM} {d k pc : Nat} {es : List (Nat × XI)} {L st : List Value} {G : XG} {Q : (Option Value ⊕ Nat) → XG → Prop}
theorem w_psh {v : Value} : XW ms d k ((pc, i_psh v) :: es) L st G Q = (XW ms d k es L (v :: st) G Q) := by unfold i_psh; rw [XW_p]; rfl
theorem w_sv {i : Nat} : XW ms d k ((pc, i_sv i) :: es) L st G Q = (XW ms d k es L (Gsv G i :: st) G Q) := by unfold i_sv; rw [XW_p]; rfl
theorem w_ild_0 {x : Int32} : XW ms d k ((pc, i_ild 0) :: es) (.int x :: L) st G Q = (XW ms d k es (.int x :: L) (.int x :: st) G Q) := by unfold i_ild; rw [XW_p]; rfl
theorem w_ild_1 {a0 : Value} {x : Int32} : XW ms d k ((pc, i_ild 1) :: es) (a0 :: .int x :: L) st G Q = (XW ms d k es (a0 :: .int x :: L) (.int x :: st) G Q) := by unfold i_ild; rw [XW_p]; rfl
theorem w_ild_2 {a0 a1 : Value} {x : Int32} : XW ms d k ((pc, i_ild 2) :: es) (a0 :: a1 :: .int x :: L) st G Q = (XW ms d k es (a0 :: a1 :: .int x :: L) (.int x :: st) G Q) := by unfold i_ild; rw [XW_p]; rfl
theorem w_ild_3 {a0 a1 a2 : Value} {x : Int32} : XW ms d k ((pc, i_ild 3) :: es) (a0 :: a1 :: a2 :: .int x :: L) st G Q = (XW ms d k es (a0 :: a1 :: a2 :: .int x :: L) (.int x :: st) G Q) := by unfold i_ild; rw [XW_p]; rfl
theorem w_ild_4 {a0 a1 a2 a3 : Value} {x : Int32} : XW ms d k ((pc, i_ild 4) :: es) (a0 :: a1 :: a2 :: a3 :: .int x :: L) st G Q = (XW ms d k es (a0 :: a1 :: a2 :: a3 :: .int x :: L) (.int x :: st) G Q) := by unfold i_ild; rw [XW_p]; rfl
theorem w_ild_5 {a0 a1 a2 a3 a4 : Value} {x : Int32} : XW ms d k ((pc, i_ild 5) :: es) (a0 :: a1 :: a2 :: a3 :: a4 :: .int x :: L) st G Q = (XW ms d k es (a0 :: a1 :: a2 :: a3 :: a4 :: .int x :: L) (.int x :: st) G Q) := by unfold i_ild; rw [XW_p]; rfl
theorem w_ild_6 {a0 a1 a2 a3 a4 a5 : Value} {x : Int32} : XW ms d k ((pc, i_ild 6) :: es) (a0 :: a1 :: a2 :: a3 :: a4 :: a5 :: .int x :: L) st G Q = (XW ms d k es (a0 :: a1 :: a2 :: a3 :: a4 :: a5 :: .int x :: L) (.int x :: st) G Q) := by unfold i_ild; rw [XW_p]; rfl
theorem w_ild_7 {a0 a1 a2 a3 a4 a5 a6 : Value} {x : Int32} : XW ms d k ((pc, i_ild 7) :: es) (a0 :: a1 :: a2 :: a3 :: a4 :: a5 :: a6 :: .int x :: L) st G Q = (XW ms d k es (a0 :: a1 :: a2 :: a3 :: a4 :: a5 :: a6 :: .int x :: L) (.int x :: st) G Q) := by unfold i_ild; rw [XW_p]; rfl
theorem w_ild_8 {a0 a1 a2 a3 a4 a5 a6 a7 : Value} {x : Int32} : XW ms d k ((pc, i_ild 8) :: es) (a0 :: a1 :: a2 :: a3 :: a4 :: a5 :: a6 :: a7 :: .int x :: L) st G Q = (XW ms d k es (a0 :: a1 :: a2 :: a3 :: a4 :: a5 :: a6 :: a7 :: .int x :: L) (.int x :: st) G Q) := by unfold i_ild; rw [XW_p]; rfl
theorem w_ild_9 {a0 a1 a2 a3 a4 a5 a6 a7 a8 : Value} {x : Int32} : XW ms d k ((pc, i_ild 9) :: es) (a0 :: a1 :: a2 :: a3 :: a4 :: a5 :: a6 :: a7 :: a8 :: .int x :: L) st G Q = (XW ms d k es (a0 :: a1 :: a2 :: a3 :: a4 :: a5 :: a6 :: a7 :: a8 :: .int x :: L) (.int x :: st) G Q) := by unfold i_ild; rw [XW_p]; rfl
theorem w_ild_10 {a0 a1 a2 a3 a4 a5 a6 a7 a8 a9 : Value} {x : Int32} : XW ms d k ((pc, i_ild 10) :: es) (a0 :: a1 :: a2 :: a3 :: a4 :: a5 :: a6 :: a7 :: a8 :: a9 :: .int x :: L) st G Q = (XW ms d k es (a0 :: a1 :: a2 :: a3 :: a4 :: a5 :: a6 :: a7 :: a8 :: a9 :: .int x :: L) (.int x :: st) G Q) := by unfold i_ild; rw [XW_p]; rfl
theorem w_ild_11 {a0 a1 a2 a3 a4 a5 a6 a7 a8 a9 a10 : Value} {x : Int32} : XW ms d k ((pc, i_ild 11) :: es) (a0 :: a1 :: a2 :: a3 :: a4 :: a5 :: a6 :: a7 :: a8 :: a9 :: a10 :: .int x :: L) st G Q = (XW ms d k es (a0 :: a1 :: a2 :: a3 :: a4 :: a5 :: a6 :: a7 :: a8 :: a9 :: a10 :: .int x :: L) (.int x :: st) G Q) := by unfold i_ild; rw [XW_p]; rfl
theorem w_ild_12 {a0 a1 a2 a3 a4 a5 a6 a7 a8 a9 a10 a11 : Value} {x : Int32} : XW ms d k ((pc, i_ild 12) :: es) (a0 :: a1 :: a2 :: a3 :: a4 :: a5 :: a6 :: a7 :: a8 :: a9 :: a10 :: a11 :: .int x :: L) st G Q = (XW ms d k es (a0 :: a1 :: a2 :: a3 :: a4 :: a5 :: a6 :: a7 :: a8 :: a9 :: a10 :: a11 :: .int x :: L) (.int x :: st) G Q) := by unfold i_ild; rw [XW_p]; rfl
theorem w_lld_0 {x : Int64} : XW ms d k ((pc, i_lld 0) :: es) (.long x :: L) st G Q = (XW ms d k es (.long x :: L) (.long x :: st) G Q) := by unfold i_lld; rw [XW_p]; rfl
theorem w_lld_1 {a0 : Value} {x : Int64} : XW ms d k ((pc, i_lld 1) :: es) (a0 :: .long x :: L) st G Q = (XW ms d k es (a0 :: .long x :: L) (.long x :: st) G Q) := by unfold i_lld; rw [XW_p]; rfl
theorem w_lld_2 {a0 a1 : Value} {x : Int64} : XW ms d k ((pc, i_lld 2) :: es) (a0 :: a1 :: .long x :: L) st G Q = (XW ms d k es (a0 :: a1 :: .long x :: L) (.long x :: st) G Q) := by unfold i_lld; rw [XW_p]; rfl
theorem w_lld_3 {a0 a1 a2 : Value} {x : Int64} : XW ms d k ((pc, i_lld 3) :: es) (a0 :: a1 :: a2 :: .long x :: L) st G Q = (XW ms d k es (a0 :: a1 :: a2 :: .long x :: L) (.long x :: st) G Q) := by unfold i_lld; rw [XW_p]; rfl
theorem w_lld_4 {a0 a1 a2 a3 : Value} {x : Int64} : XW ms d k ((pc, i_lld 4) :: es) (a0 :: a1 :: a2 :: a3 :: .long x :: L) st G Q = (XW ms d k es (a0 :: a1 :: a2 :: a3 :: .long x :: L) (.long x :: st) G Q) := by unfold i_lld; rw [XW_p]; rfl
theorem w_lld_5 {a0 a1 a2 a3 a4 : Value} {x : Int64} : XW ms d k ((pc, i_lld 5) :: es) (a0 :: a1 :: a2 :: a3 :: a4 :: .long x :: L) st G Q = (XW ms d k es (a0 :: a1 :: a2 :: a3 :: a4 :: .long x :: L) (.long x :: st) G Q) := by unfold i_lld; rw [XW_p]; rfl
theorem w_lld_6 {a0 a1 a2 a3 a4 a5 : Value} {x : Int64} : XW ms d k ((pc, i_lld 6) :: es) (a0 :: a1 :: a2 :: a3 :: a4 :: a5 :: .long x :: L) st G Q = (XW ms d k es (a0 :: a1 :: a2 :: a3 :: a4 :: a5 :: .long x :: L) (.long x :: st) G Q) := by unfold i_lld; rw [XW_p]; rfl
theorem w_lld_7 {a0 a1 a2 a3 a4 a5 a6 : Value} {x : Int64} : XW ms d k ((pc, i_lld 7) :: es) (a0 :: a1 :: a2 :: a3 :: a4 :: a5 :: a6 :: .long x :: L) st G Q = (XW ms d k es (a0 :: a1 :: a2 :: a3 :: a4 :: a5 :: a6 :: .long x :: L) (.long x :: st) G Q) := by unfold i_lld; rw [XW_p]; rfl
theorem w_lld_8 {a0 a1 a2 a3 a4 a5 a6 a7 : Value} {x : Int64} : XW ms d k ((pc, i_lld 8) :: es) (a0 :: a1 :: a2 :: a3 :: a4 :: a5 :: a6 :: a7 :: .long x :: L) st G Q = (XW ms d k es (a0 :: a1 :: a2 :: a3 :: a4 :: a5 :: a6 :: a7 :: .long x :: L) (.long x :: st) G Q) := by unfold i_lld; rw [XW_p]; rfl
theorem w_lld_9 {a0 a1 a2 a3 a4 a5 a6 a7 a8 : Value} {x : Int64} : XW ms d k ((pc, i_lld 9) :: es) (a0 :: a1 :: a2 :: a3 :: a4 :: a5 :: a6 :: a7 :: a8 :: .long x :: L) st G Q = (XW ms d k es (a0 :: a1 :: a2 :: a3 :: a4 :: a5 :: a6 :: a7 :: a8 :: .long x :: L) (.long x :: st) G Q) := by unfold i_lld; rw [XW_p]; rfl
theorem w_lld_10 {a0 a1 a2 a3 a4 a5 a6 a7 a8 a9 : Value} {x : Int64} : XW ms d k ((pc, i_lld 10) :: es) (a0 :: a1 :: a2 :: a3 :: a4 :: a5 :: a6 :: a7 :: a8 :: a9 :: .long x :: L) st G Q = (XW ms d k es (a0 :: a1 :: a2 :: a3 :: a4 :: a5 :: a6 :: a7 :: a8 :: a9 :: .long x :: L) (.long x :: st) G Q) := by unfold i_lld; rw [XW_p]; rfl
theorem w_lld_11 {a0 a1 a2 a3 a4 a5 a6 a7 a8 a9 a10 : Value} {x : Int64} : XW ms d k ((pc, i_lld 11) :: es) (a0 :: a1 :: a2 :: a3 :: a4 :: a5 :: a6 :: a7 :: a8 :: a9 :: a10 :: .long x :: L) st G Q = (XW ms d k es (a0 :: a1 :: a2 :: a3 :: a4 :: a5 :: a6 :: a7 :: a8 :: a9 :: a10 :: .long x :: L) (.long x :: st) G Q) := by unfold i_lld; rw [XW_p]; rfl
theorem w_lld_12 {a0 a1 a2 a3 a4 a5 a6 a7 a8 a9 a10 a11 : Value} {x : Int64} : XW ms d k ((pc, i_lld 12) :: es) (a0 :: a1 :: a2 :: a3 :: a4 :: a5 :: a6 :: a7 :: a8 :: a9 :: a10 :: a11 :: .long x :: L) st G Q = (XW ms d k es (a0 :: a1 :: a2 :: a3 :: a4 :: a5 :: a6 :: a7 :: a8 :: a9 :: a10 :: a11 :: .long x :: L) (.long x :: st) G Q) := by unfold i_lld; rw [XW_p]; rfl
theorem w_ald_0 {x : Nat} : XW ms d k ((pc, i_ald 0) :: es) (.ref x :: L) st G Q = (XW ms d k es (.ref x :: L) (.ref x :: st) G Q) := by unfold i_ald; rw [XW_p]; rfl
theorem w_ald_1 {a0 : Value} {x : Nat} : XW ms d k ((pc, i_ald 1) :: es) (a0 :: .ref x :: L) st G Q = (XW ms d k es (a0 :: .ref x :: L) (.ref x :: st) G Q) := by unfold i_ald; rw [XW_p]; rfl
theorem w_ald_2 {a0 a1 : Value} {x : Nat} : XW ms d k ((pc, i_ald 2) :: es) (a0 :: a1 :: .ref x :: L) st G Q = (XW ms d k es (a0 :: a1 :: .ref x :: L) (.ref x :: st) G Q) := by unfold i_ald; rw [XW_p]; rfl
theorem w_ald_3 {a0 a1 a2 : Value} {x : Nat} : XW ms d k ((pc, i_ald 3) :: es) (a0 :: a1 :: a2 :: .ref x :: L) st G Q = (XW ms d k es (a0 :: a1 :: a2 :: .ref x :: L) (.ref x :: st) G Q) := by unfold i_ald; rw [XW_p]; rfl
theorem w_ald_4 {a0 a1 a2 a3 : Value} {x : Nat} : XW ms d k ((pc, i_ald 4) :: es) (a0 :: a1 :: a2 :: a3 :: .ref x :: L) st G Q = (XW ms d k es (a0 :: a1 :: a2 :: a3 :: .ref x :: L) (.ref x :: st) G Q) := by unfold i_ald; rw [XW_p]; rfl
theorem w_ald_5 {a0 a1 a2 a3 a4 : Value} {x : Nat} : XW ms d k ((pc, i_ald 5) :: es) (a0 :: a1 :: a2 :: a3 :: a4 :: .ref x :: L) st G Q = (XW ms d k es (a0 :: a1 :: a2 :: a3 :: a4 :: .ref x :: L) (.ref x :: st) G Q) := by unfold i_ald; rw [XW_p]; rfl
theorem w_ald_6 {a0 a1 a2 a3 a4 a5 : Value} {x : Nat} : XW ms d k ((pc, i_ald 6) :: es) (a0 :: a1 :: a2 :: a3 :: a4 :: a5 :: .ref x :: L) st G Q = (XW ms d k es (a0 :: a1 :: a2 :: a3 :: a4 :: a5 :: .ref x :: L) (.ref x :: st) G Q) := by unfold i_ald; rw [XW_p]; rfl
theorem w_ald_7 {a0 a1 a2 a3 a4 a5 a6 : Value} {x : Nat} : XW ms d k ((pc, i_ald 7) :: es) (a0 :: a1 :: a2 :: a3 :: a4 :: a5 :: a6 :: .ref x :: L) st G Q = (XW ms d k es (a0 :: a1 :: a2 :: a3 :: a4 :: a5 :: a6 :: .ref x :: L) (.ref x :: st) G Q) := by unfold i_ald; rw [XW_p]; rfl
theorem w_ald_8 {a0 a1 a2 a3 a4 a5 a6 a7 : Value} {x : Nat} : XW ms d k ((pc, i_ald 8) :: es) (a0 :: a1 :: a2 :: a3 :: a4 :: a5 :: a6 :: a7 :: .ref x :: L) st G Q = (XW ms d k es (a0 :: a1 :: a2 :: a3 :: a4 :: a5 :: a6 :: a7 :: .ref x :: L) (.ref x :: st) G Q) := by unfold i_ald; rw [XW_p]; rfl
theorem w_ald_9 {a0 a1 a2 a3 a4 a5 a6 a7 a8 : Value} {x : Nat} : XW ms d k ((pc, i_ald 9) :: es) (a0 :: a1 :: a2 :: a3 :: a4 :: a5 :: a6 :: a7 :: a8 :: .ref x :: L) st G Q = (XW ms d k es (a0 :: a1 :: a2 :: a3 :: a4 :: a5 :: a6 :: a7 :: a8 :: .ref x :: L) (.ref x :: st) G Q) := by unfold i_ald; rw [XW_p]; rfl
theorem w_ald_10 {a0 a1 a2 a3 a4 a5 a6 a7 a8 a9 : Value} {x : Nat} : XW ms d k ((pc, i_ald 10) :: es) (a0 :: a1 :: a2 :: a3 :: a4 :: a5 :: a6 :: a7 :: a8 :: a9 :: .ref x :: L) st G Q = (XW ms d k es (a0 :: a1 :: a2 :: a3 :: a4 :: a5 :: a6 :: a7 :: a8 :: a9 :: .ref x :: L) (.ref x :: st) G Q) := by unfold i_ald; rw [XW_p]; rfl
theorem w_ald_11 {a0 a1 a2 a3 a4 a5 a6 a7 a8 a9 a10 : Value} {x : Nat} : XW ms d k ((pc, i_ald 11) :: es) (a0 :: a1 :: a2 :: a3 :: a4 :: a5 :: a6 :: a7 :: a8 :: a9 :: a10 :: .ref x :: L) st G Q = (XW ms d k es (a0 :: a1 :: a2 :: a3 :: a4 :: a5 :: a6 :: a7 :: a8 :: a9 :: a10 :: .ref x :: L) (.ref x :: st) G Q) := by unfold i_ald; rw [XW_p]; rfl
theorem w_ald_12 {a0 a1 a2 a3 a4 a5 a6 a7 a8 a9 a10 a11 : Value} {x : Nat} : XW ms d k ((pc, i_ald 12) :: es) (a0 :: a1 :: a2 :: a3 :: a4 :: a5 :: a6 :: a7 :: a8 :: a9 :: a10 :: a11 :: .ref x :: L) st G Q = (XW ms d k es (a0 :: a1 :: a2 :: a3 :: a4 :: a5 :: a6 :: a7 :: a8 :: a9 :: a10 :: a11 :: .ref x :: L) (.ref x :: st) G Q) := by unfold i_ald; rw [XW_p]; rfl
theorem w_aldN_0 : XW ms d k ((pc, i_ald 0) :: es) (.null :: L) st G Q = (XW ms d k es (.null :: L) (.null :: st) G Q) := by unfold i_ald; rw [XW_p]; rfl
theorem w_aldN_1 {a0 : Value}  : XW ms d k ((pc, i_ald 1) :: es) (a0 :: .null :: L) st G Q = (XW ms d k es (a0 :: .null :: L) (.null :: st) G Q) := by unfold i_ald; rw [XW_p]; rfl
theorem w_aldN_2 {a0 a1 : Value}  : XW ms d k ((pc, i_ald 2) :: es) (a0 :: a1 :: .null :: L) st G Q = (XW ms d k es (a0 :: a1 :: .null :: L) (.null :: st) G Q) := by unfold i_ald; rw [XW_p]; rfl
theorem w_aldN_3 {a0 a1 a2 : Value}  : XW ms d k ((pc, i_ald 3) :: es) (a0 :: a1 :: a2 :: .null :: L) st G Q = (XW ms d k es (a0 :: a1 :: a2 :: .null :: L) (.null :: st) G Q) := by unfold i_ald; rw [XW_p]; rfl
theorem w_aldN_4 {a0 a1 a2 a3 : Value}  : XW ms d k ((pc, i_ald 4) :: es) (a0 :: a1 :: a2 :: a3 :: .null :: L) st G Q = (XW ms d k es (a0 :: a1 :: a2 :: a3 :: .null :: L) (.null :: st) G Q) := by unfold i_ald; rw [XW_p]; rfl
theorem w_aldN_5 {a0 a1 a2 a3 a4 : Value}  : XW ms d k ((pc, i_ald 5) :: es) (a0 :: a1 :: a2 :: a3 :: a4 :: .null :: L) st G Q = (XW ms d k es (a0 :: a1 :: a2 :: a3 :: a4 :: .null :: L) (.null :: st) G Q) := by unfold i_ald; rw [XW_p]; rfl
theorem w_aldN_6 {a0 a1 a2 a3 a4 a5 : Value}  : XW ms d k ((pc, i_ald 6) :: es) (a0 :: a1 :: a2 :: a3 :: a4 :: a5 :: .null :: L) st G Q = (XW ms d k es (a0 :: a1 :: a2 :: a3 :: a4 :: a5 :: .null :: L) (.null :: st) G Q) := by unfold i_ald; rw [XW_p]; rfl
theorem w_aldN_7 {a0 a1 a2 a3 a4 a5 a6 : Value}  : XW ms d k ((pc, i_ald 7) :: es) (a0 :: a1 :: a2 :: a3 :: a4 :: a5 :: a6 :: .null :: L) st G Q = (XW ms d k es (a0 :: a1 :: a2 :: a3 :: a4 :: a5 :: a6 :: .null :: L) (.null :: st) G Q) := by unfold i_ald; rw [XW_p]; rfl
theorem w_aldN_8 {a0 a1 a2 a3 a4 a5 a6 a7 : Value}  : XW ms d k ((pc, i_ald 8) :: es) (a0 :: a1 :: a2 :: a3 :: a4 :: a5 :: a6 :: a7 :: .null :: L) st G Q = (XW ms d k es (a0 :: a1 :: a2 :: a3 :: a4 :: a5 :: a6 :: a7 :: .null :: L) (.null :: st) G Q) := by unfold i_ald; rw [XW_p]; rfl
theorem w_aldN_9 {a0 a1 a2 a3 a4 a5 a6 a7 a8 : Value}  : XW ms d k ((pc, i_ald 9) :: es) (a0 :: a1 :: a2 :: a3 :: a4 :: a5 :: a6 :: a7 :: a8 :: .null :: L) st G Q = (XW ms d k es (a0 :: a1 :: a2 :: a3 :: a4 :: a5 :: a6 :: a7 :: a8 :: .null :: L) (.null :: st) G Q) := by unfold i_ald; rw [XW_p]; rfl
theorem w_aldN_10 {a0 a1 a2 a3 a4 a5 a6 a7 a8 a9 : Value}  : XW ms d k ((pc, i_ald 10) :: es) (a0 :: a1 :: a2 :: a3 :: a4 :: a5 :: a6 :: a7 :: a8 :: a9 :: .null :: L) st G Q = (XW ms d k es (a0 :: a1 :: a2 :: a3 :: a4 :: a5 :: a6 :: a7 :: a8 :: a9 :: .null :: L) (.null :: st) G Q) := by unfold i_ald; rw [XW_p]; rfl
theorem w_aldN_11 {a0 a1 a2 a3 a4 a5 a6 a7 a8 a9 a10 : Value}  : XW ms d k ((pc, i_ald 11) :: es) (a0 :: a1 :: a2 :: a3 :: a4 :: a5 :: a6 :: a7 :: a8 :: a9 :: a10 :: .null :: L) st G Q = (XW ms d k es (a0 :: a1 :: a2 :: a3 :: a4 :: a5 :: a6 :: a7 :: a8 :: a9 :: a10 :: .null :: L) (.null :: st) G Q) := by unfold i_ald; rw [XW_p]; rfl
theorem w_aldN_12 {a0 a1 a2 a3 a4 a5 a6 a7 a8 a9 a10 a11 : Value}  : XW ms d k ((pc, i_ald 12) :: es) (a0 :: a1 :: a2 :: a3 :: a4 :: a5 :: a6 :: a7 :: a8 :: a9 :: a10 :: a11 :: .null :: L) st G Q = (XW ms d k es (a0 :: a1 :: a2 :: a3 :: a4 :: a5 :: a6 :: a7 :: a8 :: a9 :: a10 :: a11 :: .null :: L) (.null :: st) G Q) := by unfold i_ald; rw [XW_p]; rfl
theorem w_aldO_0 {x : Option Nat} : XW ms d k ((pc, i_ald 0) :: es) (va_rf x :: L) st G Q = (XW ms d k es (va_rf x :: L) (va_rf x :: st) G Q) := by unfold i_ald; rw [XW_p]; cases x <;> rfl
theorem w_aldO_1 {a0 : Value} {x : Option Nat} : XW ms d k ((pc, i_ald 1) :: es) (a0 :: va_rf x :: L) st G Q = (XW ms d k es (a0 :: va_rf x :: L) (va_rf x :: st) G Q) := by unfold i_ald; rw [XW_p]; cases x <;> rfl
theorem w_aldO_2 {a0 a1 : Value} {x : Option Nat} : XW ms d k ((pc, i_ald 2) :: es) (a0 :: a1 :: va_rf x :: L) st G Q = (XW ms d k es (a0 :: a1 :: va_rf x :: L) (va_rf x :: st) G Q) := by unfold i_ald; rw [XW_p]; cases x <;> rfl
theorem w_aldO_3 {a0 a1 a2 : Value} {x : Option Nat} : XW ms d k ((pc, i_ald 3) :: es) (a0 :: a1 :: a2 :: va_rf x :: L) st G Q = (XW ms d k es (a0 :: a1 :: a2 :: va_rf x :: L) (va_rf x :: st) G Q) := by unfold i_ald; rw [XW_p]; cases x <;> rfl
theorem w_aldO_4 {a0 a1 a2 a3 : Value} {x : Option Nat} : XW ms d k ((pc, i_ald 4) :: es) (a0 :: a1 :: a2 :: a3 :: va_rf x :: L) st G Q = (XW ms d k es (a0 :: a1 :: a2 :: a3 :: va_rf x :: L) (va_rf x :: st) G Q) := by unfold i_ald; rw [XW_p]; cases x <;> rfl
theorem w_aldO_5 {a0 a1 a2 a3 a4 : Value} {x : Option Nat} : XW ms d k ((pc, i_ald 5) :: es) (a0 :: a1 :: a2 :: a3 :: a4 :: va_rf x :: L) st G Q = (XW ms d k es (a0 :: a1 :: a2 :: a3 :: a4 :: va_rf x :: L) (va_rf x :: st) G Q) := by unfold i_ald; rw [XW_p]; cases x <;> rfl
theorem w_aldO_6 {a0 a1 a2 a3 a4 a5 : Value} {x : Option Nat} : XW ms d k ((pc, i_ald 6) :: es) (a0 :: a1 :: a2 :: a3 :: a4 :: a5 :: va_rf x :: L) st G Q = (XW ms d k es (a0 :: a1 :: a2 :: a3 :: a4 :: a5 :: va_rf x :: L) (va_rf x :: st) G Q) := by unfold i_ald; rw [XW_p]; cases x <;> rfl
theorem w_aldO_7 {a0 a1 a2 a3 a4 a5 a6 : Value} {x : Option Nat} : XW ms d k ((pc, i_ald 7) :: es) (a0 :: a1 :: a2 :: a3 :: a4 :: a5 :: a6 :: va_rf x :: L) st G Q = (XW ms d k es (a0 :: a1 :: a2 :: a3 :: a4 :: a5 :: a6 :: va_rf x :: L) (va_rf x :: st) G Q) := by unfold i_ald; rw [XW_p]; cases x <;> rfl
theorem w_aldO_8 {a0 a1 a2 a3 a4 a5 a6 a7 : Value} {x : Option Nat} : XW ms d k ((pc, i_ald 8) :: es) (a0 :: a1 :: a2 :: a3 :: a4 :: a5 :: a6 :: a7 :: va_rf x :: L) st G Q = (XW ms d k es (a0 :: a1 :: a2 :: a3 :: a4 :: a5 :: a6 :: a7 :: va_rf x :: L) (va_rf x :: st) G Q) := by unfold i_ald; rw [XW_p]; cases x <;> rfl
theorem w_aldO_9 {a0 a1 a2 a3 a4 a5 a6 a7 a8 : Value} {x : Option Nat} : XW ms d k ((pc, i_ald 9) :: es) (a0 :: a1 :: a2 :: a3 :: a4 :: a5 :: a6 :: a7 :: a8 :: va_rf x :: L) st G Q = (XW ms d k es (a0 :: a1 :: a2 :: a3 :: a4 :: a5 :: a6 :: a7 :: a8 :: va_rf x :: L) (va_rf x :: st) G Q) := by unfold i_ald; rw [XW_p]; cases x <;> rfl
theorem w_aldO_10 {a0 a1 a2 a3 a4 a5 a6 a7 a8 a9 : Value} {x : Option Nat} : XW ms d k ((pc, i_ald 10) :: es) (a0 :: a1 :: a2 :: a3 :: a4 :: a5 :: a6 :: a7 :: a8 :: a9 :: va_rf x :: L) st G Q = (XW ms d k es (a0 :: a1 :: a2 :: a3 :: a4 :: a5 :: a6 :: a7 :: a8 :: a9 :: va_rf x :: L) (va_rf x :: st) G Q) := by unfold i_ald; rw [XW_p]; cases x <;> rfl
theorem w_aldO_11 {a0 a1 a2 a3 a4 a5 a6 a7 a8 a9 a10 : Value} {x : Option Nat} : XW ms d k ((pc, i_ald 11) :: es) (a0 :: a1 :: a2 :: a3 :: a4 :: a5 :: a6 :: a7 :: a8 :: a9 :: a10 :: va_rf x :: L) st G Q = (XW ms d k es (a0 :: a1 :: a2 :: a3 :: a4 :: a5 :: a6 :: a7 :: a8 :: a9 :: a10 :: va_rf x :: L) (va_rf x :: st) G Q) := by unfold i_ald; rw [XW_p]; cases x <;> rfl
theorem w_aldO_12 {a0 a1 a2 a3 a4 a5 a6 a7 a8 a9 a10 a11 : Value} {x : Option Nat} : XW ms d k ((pc, i_ald 12) :: es) (a0 :: a1 :: a2 :: a3 :: a4 :: a5 :: a6 :: a7 :: a8 :: a9 :: a10 :: a11 :: va_rf x :: L) st G Q = (XW ms d k es (a0 :: a1 :: a2 :: a3 :: a4 :: a5 :: a6 :: a7 :: a8 :: a9 :: a10 :: a11 :: va_rf x :: L) (va_rf x :: st) G Q) := by unfold i_ald; rw [XW_p]; cases x <;> rfl
theorem w_ist_0 {b : Value} {x : Int32}  : XW ms d k ((pc, i_ist 0) :: es) (b :: L) (.int x :: st) G Q = (XW ms d k es (.int x :: L) st G Q) := by unfold i_ist; rw [XW_p]; rfl
theorem w_ist_1 {a0 : Value} {b : Value} {x : Int32} (h : a0.category = 1) : XW ms d k ((pc, i_ist 1) :: es) (a0 :: b :: L) (.int x :: st) G Q = (XW ms d k es (a0 :: .int x :: L) st G Q) := by 
  have hk : xok1 (a0 :: b :: L) 1 = true := by simp [xok1, h]
  unfold i_ist
  rw [XW_p]
  simp only [x_ist, hk, if_true]; rfl
theorem w_ist_2 {a0 a1 : Value} {b : Value} {x : Int32} (h : a1.category = 1) : XW ms d k ((pc, i_ist 2) :: es) (a0 :: a1 :: b :: L) (.int x :: st) G Q = (XW ms d k es (a0 :: a1 :: .int x :: L) st G Q) := by 
  have hk : xok1 (a0 :: a1 :: b :: L) 2 = true := by simp [xok1, h]
  unfold i_ist
  rw [XW_p]
  simp only [x_ist, hk, if_true]; rfl
theorem w_ist_3 {a0 a1 a2 : Value} {b : Value} {x : Int32} (h : a2.category = 1) : XW ms d k ((pc, i_ist 3) :: es) (a0 :: a1 :: a2 :: b :: L) (.int x :: st) G Q = (XW ms d k es (a0 :: a1 :: a2 :: .int x :: L) st G Q) := by 
  have hk : xok1 (a0 :: a1 :: a2 :: b :: L) 3 = true := by simp [xok1, h]
  unfold i_ist
  rw [XW_p]
  simp only [x_ist, hk, if_true]; rfl
theorem w_ist_4 {a0 a1 a2 a3 : Value} {b : Value} {x : Int32} (h : a3.category = 1) : XW ms d k ((pc, i_ist 4) :: es) (a0 :: a1 :: a2 :: a3 :: b :: L) (.int x :: st) G Q = (XW ms d k es (a0 :: a1 :: a2 :: a3 :: .int x :: L) st G Q) := by 
  have hk : xok1 (a0 :: a1 :: a2 :: a3 :: b :: L) 4 = true := by simp [xok1, h]
  unfold i_ist
  rw [XW_p]
  simp only [x_ist, hk, if_true]; rfl
theorem w_ist_5 {a0 a1 a2 a3 a4 : Value} {b : Value} {x : Int32} (h : a4.category = 1) : XW ms d k ((pc, i_ist 5) :: es) (a0 :: a1 :: a2 :: a3 :: a4 :: b :: L) (.int x :: st) G Q = (XW ms d k es (a0 :: a1 :: a2 :: a3 :: a4 :: .int x :: L) st G Q) := by 
  have hk : xok1 (a0 :: a1 :: a2 :: a3 :: a4 :: b :: L) 5 = true := by simp [xok1, h]
  unfold i_ist
  rw [XW_p]
  simp only [x_ist, hk, if_true]; rfl
theorem w_ist_6 {a0 a1 a2 a3 a4 a5 : Value} {b : Value} {x : Int32} (h : a5.category = 1) : XW ms d k ((pc, i_ist 6) :: es) (a0 :: a1 :: a2 :: a3 :: a4 :: a5 :: b :: L) (.int x :: st) G Q = (XW ms d k es (a0 :: a1 :: a2 :: a3 :: a4 :: a5 :: .int x :: L) st G Q) := by 
  have hk : xok1 (a0 :: a1 :: a2 :: a3 :: a4 :: a5 :: b :: L) 6 = true := by simp [xok1, h]
  unfold i_ist
  rw [XW_p]
  simp only [x_ist, hk, if_true]; rfl
theorem w_ist_7 {a0 a1 a2 a3 a4 a5 a6 : Value} {b : Value} {x : Int32} (h : a6.category = 1) : XW ms d k ((pc, i_ist 7) :: es) (a0 :: a1 :: a2 :: a3 :: a4 :: a5 :: a6 :: b :: L) (.int x :: st) G Q = (XW ms d k es (a0 :: a1 :: a2 :: a3 :: a4 :: a5 :: a6 :: .int x :: L) st G Q) := by 
  have hk : xok1 (a0 :: a1 :: a2 :: a3 :: a4 :: a5 :: a6 :: b :: L) 7 = true := by simp [xok1, h]
  unfold i_ist
  rw [XW_p]
  simp only [x_ist, hk, if_true]; rfl
theorem w_ist_8 {a0 a1 a2 a3 a4 a5 a6 a7 : Value} {b : Value} {x : Int32} (h : a7.category = 1) : XW ms d k ((pc, i_ist 8) :: es) (a0 :: a1 :: a2 :: a3 :: a4 :: a5 :: a6 :: a7 :: b :: L) (.int x :: st) G Q = (XW ms d k es (a0 :: a1 :: a2 :: a3 :: a4 :: a5 :: a6 :: a7 :: .int x :: L) st G Q) := by 
  have hk : xok1 (a0 :: a1 :: a2 :: a3 :: a4 :: a5 :: a6 :: a7 :: b :: L) 8 = true := by simp [xok1, h]
  unfold i_ist
  rw [XW_p]
  simp only [x_ist, hk, if_true]; rfl
theorem w_ist_9 {a0 a1 a2 a3 a4 a5 a6 a7 a8 : Value} {b : Value} {x : Int32} (h : a8.category = 1) : XW ms d k ((pc, i_ist 9) :: es) (a0 :: a1 :: a2 :: a3 :: a4 :: a5 :: a6 :: a7 :: a8 :: b :: L) (.int x :: st) G Q = (XW ms d k es (a0 :: a1 :: a2 :: a3 :: a4 :: a5 :: a6 :: a7 :: a8 :: .int x :: L) st G Q) := by 
  have hk : xok1 (a0 :: a1 :: a2 :: a3 :: a4 :: a5 :: a6 :: a7 :: a8 :: b :: L) 9 = true := by simp [xok1, h]
  unfold i_ist
  rw [XW_p]
  simp only [x_ist, hk, if_true]; rfl
theorem w_ist_10 {a0 a1 a2 a3 a4 a5 a6 a7 a8 a9 : Value} {b : Value} {x : Int32} (h : a9.category = 1) : XW ms d k ((pc, i_ist 10) :: es) (a0 :: a1 :: a2 :: a3 :: a4 :: a5 :: a6 :: a7 :: a8 :: a9 :: b :: L) (.int x :: st) G Q = (XW ms d k es (a0 :: a1 :: a2 :: a3 :: a4 :: a5 :: a6 :: a7 :: a8 :: a9 :: .int x :: L) st G Q) := by 
  have hk : xok1 (a0 :: a1 :: a2 :: a3 :: a4 :: a5 :: a6 :: a7 :: a8 :: a9 :: b :: L) 10 = true := by simp [xok1, h]
  unfold i_ist
  rw [XW_p]
  simp only [x_ist, hk, if_true]; rfl
theorem w_ist_11 {a0 a1 a2 a3 a4 a5 a6 a7 a8 a9 a10 : Value} {b : Value} {x : Int32} (h : a10.category = 1) : XW ms d k ((pc, i_ist 11) :: es) (a0 :: a1 :: a2 :: a3 :: a4 :: a5 :: a6 :: a7 :: a8 :: a9 :: a10 :: b :: L) (.int x :: st) G Q = (XW ms d k es (a0 :: a1 :: a2 :: a3 :: a4 :: a5 :: a6 :: a7 :: a8 :: a9 :: a10 :: .int x :: L) st G Q) := by 
  have hk : xok1 (a0 :: a1 :: a2 :: a3 :: a4 :: a5 :: a6 :: a7 :: a8 :: a9 :: a10 :: b :: L) 11 = true := by simp [xok1, h]
  unfold i_ist
  rw [XW_p]
  simp only [x_ist, hk, if_true]; rfl
theorem w_ist_12 {a0 a1 a2 a3 a4 a5 a6 a7 a8 a9 a10 a11 : Value} {b : Value} {x : Int32} (h : a11.category = 1) : XW ms d k ((pc, i_ist 12) :: es) (a0 :: a1 :: a2 :: a3 :: a4 :: a5 :: a6 :: a7 :: a8 :: a9 :: a10 :: a11 :: b :: L) (.int x :: st) G Q = (XW ms d k es (a0 :: a1 :: a2 :: a3 :: a4 :: a5 :: a6 :: a7 :: a8 :: a9 :: a10 :: a11 :: .int x :: L) st G Q) := by 
  have hk : xok1 (a0 :: a1 :: a2 :: a3 :: a4 :: a5 :: a6 :: a7 :: a8 :: a9 :: a10 :: a11 :: b :: L) 12 = true := by simp [xok1, h]
  unfold i_ist
  rw [XW_p]
  simp only [x_ist, hk, if_true]; rfl
theorem w_ist_13 {a0 a1 a2 a3 a4 a5 a6 a7 a8 a9 a10 a11 a12 : Value} {b : Value} {x : Int32} (h : a12.category = 1) : XW ms d k ((pc, i_ist 13) :: es) (a0 :: a1 :: a2 :: a3 :: a4 :: a5 :: a6 :: a7 :: a8 :: a9 :: a10 :: a11 :: a12 :: b :: L) (.int x :: st) G Q = (XW ms d k es (a0 :: a1 :: a2 :: a3 :: a4 :: a5 :: a6 :: a7 :: a8 :: a9 :: a10 :: a11 :: a12 :: .int x :: L) st G Q) := by 
  have hk : xok1 (a0 :: a1 :: a2 :: a3 :: a4 :: a5 :: a6 :: a7 :: a8 :: a9 :: a10 :: a11 :: a12 :: b :: L) 13 = true := by simp [xok1, h]
  unfold i_ist
  rw [XW_p]
  simp only [x_ist, hk, if_true]; rfl
theorem w_ast_0 {b : Value} {x : Nat}  : XW ms d k ((pc, i_ast 0) :: es) (b :: L) (.ref x :: st) G Q = (XW ms d k es (.ref x :: L) st G Q) := by unfold i_ast; rw [XW_p]; rfl
theorem w_ast_1 {a0 : Value} {b : Value} {x : Nat} (h : a0.category = 1) : XW ms d k ((pc, i_ast 1) :: es) (a0 :: b :: L) (.ref x :: st) G Q = (XW ms d k es (a0 :: .ref x :: L) st G Q) := by 
  have hk : xok1 (a0 :: b :: L) 1 = true := by simp [xok1, h]
  unfold i_ast
  rw [XW_p]
  simp only [x_ast, xunR, hk, if_true]; rfl
theorem w_ast_2 {a0 a1 : Value} {b : Value} {x : Nat} (h : a1.category = 1) : XW ms d k ((pc, i_ast 2) :: es) (a0 :: a1 :: b :: L) (.ref x :: st) G Q = (XW ms d k es (a0 :: a1 :: .ref x :: L) st G Q) := by 
  have hk : xok1 (a0 :: a1 :: b :: L) 2 = true := by simp [xok1, h]
  unfold i_ast
  rw [XW_p]
  simp only [x_ast, xunR, hk, if_true]; rfl
theorem w_ast_3 {a0 a1 a2 : Value} {b : Value} {x : Nat} (h : a2.category = 1) : XW ms d k ((pc, i_ast 3) :: es) (a0 :: a1 :: a2 :: b :: L) (.ref x :: st) G Q = (XW ms d k es (a0 :: a1 :: a2 :: .ref x :: L) st G Q) := by 
  have hk : xok1 (a0 :: a1 :: a2 :: b :: L) 3 = true := by simp [xok1, h]
  unfold i_ast
  rw [XW_p]
  simp only [x_ast, xunR, hk, if_true]; rfl
theorem w_ast_4 {a0 a1 a2 a3 : Value} {b : Value} {x : Nat} (h : a3.category = 1) : XW ms d k ((pc, i_ast 4) :: es) (a0 :: a1 :: a2 :: a3 :: b :: L) (.ref x :: st) G Q = (XW ms d k es (a0 :: a1 :: a2 :: a3 :: .ref x :: L) st G Q) := by 
  have hk : xok1 (a0 :: a1 :: a2 :: a3 :: b :: L) 4 = true := by simp [xok1, h]
  unfold i_ast
  rw [XW_p]
  simp only [x_ast, xunR, hk, if_true]; rfl
theorem w_ast_5 {a0 a1 a2 a3 a4 : Value} {b : Value} {x : Nat} (h : a4.category = 1) : XW ms d k ((pc, i_ast 5) :: es) (a0 :: a1 :: a2 :: a3 :: a4 :: b :: L) (.ref x :: st) G Q = (XW ms d k es (a0 :: a1 :: a2 :: a3 :: a4 :: .ref x :: L) st G Q) := by 
  have hk : xok1 (a0 :: a1 :: a2 :: a3 :: a4 :: b :: L) 5 = true := by simp [xok1, h]
  unfold i_ast
  rw [XW_p]
  simp only [x_ast, xunR, hk, if_true]; rfl
theorem w_ast_6 {a0 a1 a2 a3 a4 a5 : Value} {b : Value} {x : Nat} (h : a5.category = 1) : XW ms d k ((pc, i_ast 6) :: es) (a0 :: a1 :: a2 :: a3 :: a4 :: a5 :: b :: L) (.ref x :: st) G Q = (XW ms d k es (a0 :: a1 :: a2 :: a3 :: a4 :: a5 :: .ref x :: L) st G Q) := by 
  have hk : xok1 (a0 :: a1 :: a2 :: a3 :: a4 :: a5 :: b :: L) 6 = true := by simp [xok1, h]
  unfold i_ast
  rw [XW_p]
  simp only [x_ast, xunR, hk, if_true]; rfl
theorem w_ast_7 {a0 a1 a2 a3 a4 a5 a6 : Value} {b : Value} {x : Nat} (h : a6.category = 1) : XW ms d k ((pc, i_ast 7) :: es) (a0 :: a1 :: a2 :: a3 :: a4 :: a5 :: a6 :: b :: L) (.ref x :: st) G Q = (XW ms d k es (a0 :: a1 :: a2 :: a3 :: a4 :: a5 :: a6 :: .ref x :: L) st G Q) := by 
  have hk : xok1 (a0 :: a1 :: a2 :: a3 :: a4 :: a5 :: a6 :: b :: L) 7 = true := by simp [xok1, h]
  unfold i_ast
  rw [XW_p]
  simp only [x_ast, xunR, hk, if_true]; rfl
theorem w_ast_8 {a0 a1 a2 a3 a4 a5 a6 a7 : Value} {b : Value} {x : Nat} (h : a7.category = 1) : XW ms d k ((pc, i_ast 8) :: es) (a0 :: a1 :: a2 :: a3 :: a4 :: a5 :: a6 :: a7 :: b :: L) (.ref x :: st) G Q = (XW ms d k es (a0 :: a1 :: a2 :: a3 :: a4 :: a5 :: a6 :: a7 :: .ref x :: L) st G Q) := by 
  have hk : xok1 (a0 :: a1 :: a2 :: a3 :: a4 :: a5 :: a6 :: a7 :: b :: L) 8 = true := by simp [xok1, h]
  unfold i_ast
  rw [XW_p]
  simp only [x_ast, xunR, hk, if_true]; rfl
theorem w_ast_9 {a0 a1 a2 a3 a4 a5 a6 a7 a8 : Value} {b : Value} {x : Nat} (h : a8.category = 1) : XW ms d k ((pc, i_ast 9) :: es) (a0 :: a1 :: a2 :: a3 :: a4 :: a5 :: a6 :: a7 :: a8 :: b :: L) (.ref x :: st) G Q = (XW ms d k es (a0 :: a1 :: a2 :: a3 :: a4 :: a5 :: a6 :: a7 :: a8 :: .ref x :: L) st G Q) := by 
  have hk : xok1 (a0 :: a1 :: a2 :: a3 :: a4 :: a5 :: a6 :: a7 :: a8 :: b :: L) 9 = true := by simp [xok1, h]
  unfold i_ast
  rw [XW_p]
  simp only [x_ast, xunR, hk, if_true]; rfl
theorem w_ast_10 {a0 a1 a2 a3 a4 a5 a6 a7 a8 a9 : Value} {b : Value} {x : Nat} (h : a9.category = 1) : XW ms d k ((pc, i_ast 10) :: es) (a0 :: a1 :: a2 :: a3 :: a4 :: a5 :: a6 :: a7 :: a8 :: a9 :: b :: L) (.ref x :: st) G Q = (XW ms d k es (a0 :: a1 :: a2 :: a3 :: a4 :: a5 :: a6 :: a7 :: a8 :: a9 :: .ref x :: L) st G Q) := by 
  have hk : xok1 (a0 :: a1 :: a2 :: a3 :: a4 :: a5 :: a6 :: a7 :: a8 :: a9 :: b :: L) 10 = true := by simp [xok1, h]
  unfold i_ast
  rw [XW_p]
  simp only [x_ast, xunR, hk, if_true]; rfl
theorem w_ast_11 {a0 a1 a2 a3 a4 a5 a6 a7 a8 a9 a10 : Value} {b : Value} {x : Nat} (h : a10.category = 1) : XW ms d k ((pc, i_ast 11) :: es) (a0 :: a1 :: a2 :: a3 :: a4 :: a5 :: a6 :: a7 :: a8 :: a9 :: a10 :: b :: L) (.ref x :: st) G Q = (XW ms d k es (a0 :: a1 :: a2 :: a3 :: a4 :: a5 :: a6 :: a7 :: a8 :: a9 :: a10 :: .ref x :: L) st G Q) := by 
  have hk : xok1 (a0 :: a1 :: a2 :: a3 :: a4 :: a5 :: a6 :: a7 :: a8 :: a9 :: a10 :: b :: L) 11 = true := by simp [xok1, h]
  unfold i_ast
  rw [XW_p]
  simp only [x_ast, xunR, hk, if_true]; rfl
theorem w_ast_12 {a0 a1 a2 a3 a4 a5 a6 a7 a8 a9 a10 a11 : Value} {b : Value} {x : Nat} (h : a11.category = 1) : XW ms d k ((pc, i_ast 12) :: es) (a0 :: a1 :: a2 :: a3 :: a4 :: a5 :: a6 :: a7 :: a8 :: a9 :: a10 :: a11 :: b :: L) (.ref x :: st) G Q = (XW ms d k es (a0 :: a1 :: a2 :: a3 :: a4 :: a5 :: a6 :: a7 :: a8 :: a9 :: a10 :: a11 :: .ref x :: L) st G Q) := by 
  have hk : xok1 (a0 :: a1 :: a2 :: a3 :: a4 :: a5 :: a6 :: a7 :: a8 :: a9 :: a10 :: a11 :: b :: L) 12 = true := by simp [xok1, h]
  unfold i_ast
  rw [XW_p]
  simp only [x_ast, xunR, hk, if_true]; rfl
theorem w_ast_13 {a0 a1 a2 a3 a4 a5 a6 a7 a8 a9 a10 a11 a12 : Value} {b : Value} {x : Nat} (h : a12.category = 1) : XW ms d k ((pc, i_ast 13) :: es) (a0 :: a1 :: a2 :: a3 :: a4 :: a5 :: a6 :: a7 :: a8 :: a9 :: a10 :: a11 :: a12 :: b :: L) (.ref x :: st) G Q = (XW ms d k es (a0 :: a1 :: a2 :: a3 :: a4 :: a5 :: a6 :: a7 :: a8 :: a9 :: a10 :: a11 :: a12 :: .ref x :: L) st G Q) := by 
  have hk : xok1 (a0 :: a1 :: a2 :: a3 :: a4 :: a5 :: a6 :: a7 :: a8 :: a9 :: a10 :: a11 :: a12 :: b :: L) 13 = true := by simp [xok1, h]
  unfold i_ast
  rw [XW_p]
  simp only [x_ast, xunR, hk, if_true]; rfl
theorem w_astN_0 {b : Value}   : XW ms d k ((pc, i_ast 0) :: es) (b :: L) (.null :: st) G Q = (XW ms d k es (.null :: L) st G Q) := by unfold i_ast; rw [XW_p]; rfl
theorem w_astN_1 {a0 : Value} {b : Value}  (h : a0.category = 1) : XW ms d k ((pc, i_ast 1) :: es) (a0 :: b :: L) (.null :: st) G Q = (XW ms d k es (a0 :: .null :: L) st G Q) := by 
  have hk : xok1 (a0 :: b :: L) 1 = true := by simp [xok1, h]
  unfold i_ast
  rw [XW_p]
  simp only [x_ast, xunR, hk, if_true]; rfl
theorem w_astN_2 {a0 a1 : Value} {b : Value}  (h : a1.category = 1) : XW ms d k ((pc, i_ast 2) :: es) (a0 :: a1 :: b :: L) (.null :: st) G Q = (XW ms d k es (a0 :: a1 :: .null :: L) st G Q) := by 
  have hk : xok1 (a0 :: a1 :: b :: L) 2 = true := by simp [xok1, h]
  unfold i_ast
  rw [XW_p]
  simp only [x_ast, xunR, hk, if_true]; rfl
theorem w_astN_3 {a0 a1 a2 : Value} {b : Value}  (h : a2.category = 1) : XW ms d k ((pc, i_ast 3) :: es) (a0 :: a1 :: a2 :: b :: L) (.null :: st) G Q = (XW ms d k es (a0 :: a1 :: a2 :: .null :: L) st G Q) := by 
  have hk : xok1 (a0 :: a1 :: a2 :: b :: L) 3 = true := by simp [xok1, h]
  unfold i_ast
  rw [XW_p]
  simp only [x_ast, xunR, hk, if_true]; rfl
theorem w_astN_4 {a0 a1 a2 a3 : Value} {b : Value}  (h : a3.category = 1) : XW ms d k ((pc, i_ast 4) :: es) (a0 :: a1 :: a2 :: a3 :: b :: L) (.null :: st) G Q = (XW ms d k es (a0 :: a1 :: a2 :: a3 :: .null :: L) st G Q) := by 
  have hk : xok1 (a0 :: a1 :: a2 :: a3 :: b :: L) 4 = true := by simp [xok1, h]
  unfold i_ast
  rw [XW_p]
  simp only [x_ast, xunR, hk, if_true]; rfl
theorem w_astN_5 {a0 a1 a2 a3 a4 : Value} {b : Value}  (h : a4.category = 1) : XW ms d k ((pc, i_ast 5) :: es) (a0 :: a1 :: a2 :: a3 :: a4 :: b :: L) (.null :: st) G Q = (XW ms d k es (a0 :: a1 :: a2 :: a3 :: a4 :: .null :: L) st G Q) := by 
  have hk : xok1 (a0 :: a1 :: a2 :: a3 :: a4 :: b :: L) 5 = true := by simp [xok1, h]
  unfold i_ast
  rw [XW_p]
  simp only [x_ast, xunR, hk, if_true]; rfl
theorem w_astN_6 {a0 a1 a2 a3 a4 a5 : Value} {b : Value}  (h : a5.category = 1) : XW ms d k ((pc, i_ast 6) :: es) (a0 :: a1 :: a2 :: a3 :: a4 :: a5 :: b :: L) (.null :: st) G Q = (XW ms d k es (a0 :: a1 :: a2 :: a3 :: a4 :: a5 :: .null :: L) st G Q) := by 
  have hk : xok1 (a0 :: a1 :: a2 :: a3 :: a4 :: a5 :: b :: L) 6 = true := by simp [xok1, h]
  unfold i_ast
  rw [XW_p]
  simp only [x_ast, xunR, hk, if_true]; rfl
theorem w_astN_7 {a0 a1 a2 a3 a4 a5 a6 : Value} {b : Value}  (h : a6.category = 1) : XW ms d k ((pc, i_ast 7) :: es) (a0 :: a1 :: a2 :: a3 :: a4 :: a5 :: a6 :: b :: L) (.null :: st) G Q = (XW ms d k es (a0 :: a1 :: a2 :: a3 :: a4 :: a5 :: a6 :: .null :: L) st G Q) := by 
  have hk : xok1 (a0 :: a1 :: a2 :: a3 :: a4 :: a5 :: a6 :: b :: L) 7 = true := by simp [xok1, h]
  unfold i_ast
  rw [XW_p]
  simp only [x_ast, xunR, hk, if_true]; rfl
theorem w_astN_8 {a0 a1 a2 a3 a4 a5 a6 a7 : Value} {b : Value}  (h : a7.category = 1) : XW ms d k ((pc, i_ast 8) :: es) (a0 :: a1 :: a2 :: a3 :: a4 :: a5 :: a6 :: a7 :: b :: L) (.null :: st) G Q = (XW ms d k es (a0 :: a1 :: a2 :: a3 :: a4 :: a5 :: a6 :: a7 :: .null :: L) st G Q) := by 
  have hk : xok1 (a0 :: a1 :: a2 :: a3 :: a4 :: a5 :: a6 :: a7 :: b :: L) 8 = true := by simp [xok1, h]
  unfold i_ast
  rw [XW_p]
  simp only [x_ast, xunR, hk, if_true]; rfl
theorem w_astN_9 {a0 a1 a2 a3 a4 a5 a6 a7 a8 : Value} {b : Value}  (h : a8.category = 1) : XW ms d k ((pc, i_ast 9) :: es) (a0 :: a1 :: a2 :: a3 :: a4 :: a5 :: a6 :: a7 :: a8 :: b :: L) (.null :: st) G Q = (XW ms d k es (a0 :: a1 :: a2 :: a3 :: a4 :: a5 :: a6 :: a7 :: a8 :: .null :: L) st G Q) := by 
  have hk : xok1 (a0 :: a1 :: a2 :: a3 :: a4 :: a5 :: a6 :: a7 :: a8 :: b :: L) 9 = true := by simp [xok1, h]
  unfold i_ast
  rw [XW_p]
  simp only [x_ast, xunR, hk, if_true]; rfl
theorem w_astN_10 {a0 a1 a2 a3 a4 a5 a6 a7 a8 a9 : Value} {b : Value}  (h : a9.category = 1) : XW ms d k ((pc, i_ast 10) :: es) (a0 :: a1 :: a2 :: a3 :: a4 :: a5 :: a6 :: a7 :: a8 :: a9 :: b :: L) (.null :: st) G Q = (XW ms d k es (a0 :: a1 :: a2 :: a3 :: a4 :: a5 :: a6 :: a7 :: a8 :: a9 :: .null :: L) st G Q) := by 
  have hk : xok1 (a0 :: a1 :: a2 :: a3 :: a4 :: a5 :: a6 :: a7 :: a8 :: a9 :: b :: L) 10 = true := by simp [xok1, h]
  unfold i_ast
  rw [XW_p]
  simp only [x_ast, xunR, hk, if_true]; rfl
theorem w_astN_11 {a0 a1 a2 a3 a4 a5 a6 a7 a8 a9 a10 : Value} {b : Value}  (h : a10.category = 1) : XW ms d k ((pc, i_ast 11) :: es) (a0 :: a1 :: a2 :: a3 :: a4 :: a5 :: a6 :: a7 :: a8 :: a9 :: a10 :: b :: L) (.null :: st) G Q = (XW ms d k es (a0 :: a1 :: a2 :: a3 :: a4 :: a5 :: a6 :: a7 :: a8 :: a9 :: a10 :: .null :: L) st G Q) := by 
  have hk : xok1 (a0 :: a1 :: a2 :: a3 :: a4 :: a5 :: a6 :: a7 :: a8 :: a9 :: a10 :: b :: L) 11 = true := by simp [xok1, h]
  unfold i_ast
  rw [XW_p]
  simp only [x_ast, xunR, hk, if_true]; rfl
theorem w_astN_12 {a0 a1 a2 a3 a4 a5 a6 a7 a8 a9 a10 a11 : Value} {b : Value}  (h : a11.category = 1) : XW ms d k ((pc, i_ast 12) :: es) (a0 :: a1 :: a2 :: a3 :: a4 :: a5 :: a6 :: a7 :: a8 :: a9 :: a10 :: a11 :: b :: L) (.null :: st) G Q = (XW ms d k es (a0 :: a1 :: a2 :: a3 :: a4 :: a5 :: a6 :: a7 :: a8 :: a9 :: a10 :: a11 :: .null :: L) st G Q) := by 
  have hk : xok1 (a0 :: a1 :: a2 :: a3 :: a4 :: a5 :: a6 :: a7 :: a8 :: a9 :: a10 :: a11 :: b :: L) 12 = true := by simp [xok1, h]
  unfold i_ast
  rw [XW_p]
  simp only [x_ast, xunR, hk, if_true]; rfl
theorem w_astN_13 {a0 a1 a2 a3 a4 a5 a6 a7 a8 a9 a10 a11 a12 : Value} {b : Value}  (h : a12.category = 1) : XW ms d k ((pc, i_ast 13) :: es) (a0 :: a1 :: a2 :: a3 :: a4 :: a5 :: a6 :: a7 :: a8 :: a9 :: a10 :: a11 :: a12 :: b :: L) (.null :: st) G Q = (XW ms d k es (a0 :: a1 :: a2 :: a3 :: a4 :: a5 :: a6 :: a7 :: a8 :: a9 :: a10 :: a11 :: a12 :: .null :: L) st G Q) := by 
  have hk : xok1 (a0 :: a1 :: a2 :: a3 :: a4 :: a5 :: a6 :: a7 :: a8 :: a9 :: a10 :: a11 :: a12 :: b :: L) 13 = true := by simp [xok1, h]
  unfold i_ast
  rw [XW_p]
  simp only [x_ast, xunR, hk, if_true]; rfl
theorem w_astO_0 {b : Value} {x : Option Nat}  : XW ms d k ((pc, i_ast 0) :: es) (b :: L) (va_rf x :: st) G Q = (XW ms d k es (va_rf x :: L) st G Q) := by unfold i_ast; rw [XW_p]; cases x <;> rfl
theorem w_astO_1 {a0 : Value} {b : Value} {x : Option Nat} (h : a0.category = 1) : XW ms d k ((pc, i_ast 1) :: es) (a0 :: b :: L) (va_rf x :: st) G Q = (XW ms d k es (a0 :: va_rf x :: L) st G Q) := by 
  have hk : xok1 (a0 :: b :: L) 1 = true := by simp [xok1, h]
  unfold i_ast
  rw [XW_p]
  simp only [x_ast, xunR_rf, hk, if_true]; rfl
theorem w_astO_2 {a0 a1 : Value} {b : Value} {x : Option Nat} (h : a1.category = 1) : XW ms d k ((pc, i_ast 2) :: es) (a0 :: a1 :: b :: L) (va_rf x :: st) G Q = (XW ms d k es (a0 :: a1 :: va_rf x :: L) st G Q) := by 
  have hk : xok1 (a0 :: a1 :: b :: L) 2 = true := by simp [xok1, h]
  unfold i_ast
  rw [XW_p]
  simp only [x_ast, xunR_rf, hk, if_true]; rfl
theorem w_astO_3 {a0 a1 a2 : Value} {b : Value} {x : Option Nat} (h : a2.category = 1) : XW ms d k ((pc, i_ast 3) :: es) (a0 :: a1 :: a2 :: b :: L) (va_rf x :: st) G Q = (XW ms d k es (a0 :: a1 :: a2 :: va_rf x :: L) st G Q) := by 
  have hk : xok1 (a0 :: a1 :: a2 :: b :: L) 3 = true := by simp [xok1, h]
  unfold i_ast
  rw [XW_p]
  simp only [x_ast, xunR_rf, hk, if_true]; rfl
theorem w_astO_4 {a0 a1 a2 a3 : Value} {b : Value} {x : Option Nat} (h : a3.category = 1) : XW ms d k ((pc, i_ast 4) :: es) (a0 :: a1 :: a2 :: a3 :: b :: L) (va_rf x :: st) G Q = (XW ms d k es (a0 :: a1 :: a2 :: a3 :: va_rf x :: L) st G Q) := by 
  have hk : xok1 (a0 :: a1 :: a2 :: a3 :: b :: L) 4 = true := by simp [xok1, h]
  unfold i_ast
  rw [XW_p]
  simp only [x_ast, xunR_rf, hk, if_true]; rfl
theorem w_astO_5 {a0 a1 a2 a3 a4 : Value} {b : Value} {x : Option Nat} (h : a4.category = 1) : XW ms d k ((pc, i_ast 5) :: es) (a0 :: a1 :: a2 :: a3 :: a4 :: b :: L) (va_rf x :: st) G Q = (XW ms d k es (a0 :: a1 :: a2 :: a3 :: a4 :: va_rf x :: L) st G Q) := by 
  have hk : xok1 (a0 :: a1 :: a2 :: a3 :: a4 :: b :: L) 5 = true := by simp [xok1, h]
  unfold i_ast
  rw [XW_p]
  simp only [x_ast, xunR_rf, hk, if_true]; rfl
theorem w_astO_6 {a0 a1 a2 a3 a4 a5 : Value} {b : Value} {x : Option Nat} (h : a5.category = 1) : XW ms d k ((pc, i_ast 6) :: es) (a0 :: a1 :: a2 :: a3 :: a4 :: a5 :: b :: L) (va_rf x :: st) G Q = (XW ms d k es (a0 :: a1 :: a2 :: a3 :: a4 :: a5 :: va_rf x :: L) st G Q) := by 
  have hk : xok1 (a0 :: a1 :: a2 :: a3 :: a4 :: a5 :: b :: L) 6 = true := by simp [xok1, h]
  unfold i_ast
  rw [XW_p]
  simp only [x_ast, xunR_rf, hk, if_true]; rfl
theorem w_astO_7 {a0 a1 a2 a3 a4 a5 a6 : Value} {b : Value} {x : Option Nat} (h : a6.category = 1) : XW ms d k ((pc, i_ast 7) :: es) (a0 :: a1 :: a2 :: a3 :: a4 :: a5 :: a6 :: b :: L) (va_rf x :: st) G Q = (XW ms d k es (a0 :: a1 :: a2 :: a3 :: a4 :: a5 :: a6 :: va_rf x :: L) st G Q) := by 
  have hk : xok1 (a0 :: a1 :: a2 :: a3 :: a4 :: a5 :: a6 :: b :: L) 7 = true := by simp [xok1, h]
  unfold i_ast
  rw [XW_p]
  simp only [x_ast, xunR_rf, hk, if_true]; rfl
theorem w_astO_8 {a0 a1 a2 a3 a4 a5 a6 a7 : Value} {b : Value} {x : Option Nat} (h : a7.category = 1) : XW ms d k ((pc, i_ast 8) :: es) (a0 :: a1 :: a2 :: a3 :: a4 :: a5 :: a6 :: a7 :: b :: L) (va_rf x :: st) G Q = (XW ms d k es (a0 :: a1 :: a2 :: a3 :: a4 :: a5 :: a6 :: a7 :: va_rf x :: L) st G Q) := by 
  have hk : xok1 (a0 :: a1 :: a2 :: a3 :: a4 :: a5 :: a6 :: a7 :: b :: L) 8 = true := by simp [xok1, h]
  unfold i_ast
  rw [XW_p]
  simp only [x_ast, xunR_rf, hk, if_true]; rfl
theorem w_astO_9 {a0 a1 a2 a3 a4 a5 a6 a7 a8 : Value} {b : Value} {x : Option Nat} (h : a8.category = 1) : XW ms d k ((pc, i_ast 9) :: es) (a0 :: a1 :: a2 :: a3 :: a4 :: a5 :: a6 :: a7 :: a8 :: b :: L) (va_rf x :: st) G Q = (XW ms d k es (a0 :: a1 :: a2 :: a3 :: a4 :: a5 :: a6 :: a7 :: a8 :: va_rf x :: L) st G Q) := by 
  have hk : xok1 (a0 :: a1 :: a2 :: a3 :: a4 :: a5 :: a6 :: a7 :: a8 :: b :: L) 9 = true := by simp [xok1, h]
  unfold i_ast
  rw [XW_p]
  simp only [x_ast, xunR_rf, hk, if_true]; rfl
theorem w_astO_10 {a0 a1 a2 a3 a4 a5 a6 a7 a8 a9 : Value} {b : Value} {x : Option Nat} (h : a9.category = 1) : XW ms d k ((pc, i_ast 10) :: es) (a0 :: a1 :: a2 :: a3 :: a4 :: a5 :: a6 :: a7 :: a8 :: a9 :: b :: L) (va_rf x :: st) G Q = (XW ms d k es (a0 :: a1 :: a2 :: a3 :: a4 :: a5 :: a6 :: a7 :: a8 :: a9 :: va_rf x :: L) st G Q) := by 
  have hk : xok1 (a0 :: a1 :: a2 :: a3 :: a4 :: a5 :: a6 :: a7 :: a8 :: a9 :: b :: L) 10 = true := by simp [xok1, h]
  unfold i_ast
  rw [XW_p]
  simp only [x_ast, xunR_rf, hk, if_true]; rfl
theorem w_astO_11 {a0 a1 a2 a3 a4 a5 a6 a7 a8 a9 a10 : Value} {b : Value} {x : Option Nat} (h : a10.category = 1) : XW ms d k ((pc, i_ast 11) :: es) (a0 :: a1 :: a2 :: a3 :: a4 :: a5 :: a6 :: a7 :: a8 :: a9 :: a10 :: b :: L) (va_rf x :: st) G Q = (XW ms d k es (a0 :: a1 :: a2 :: a3 :: a4 :: a5 :: a6 :: a7 :: a8 :: a9 :: a10 :: va_rf x :: L) st G Q) := by 
  have hk : xok1 (a0 :: a1 :: a2 :: a3 :: a4 :: a5 :: a6 :: a7 :: a8 :: a9 :: a10 :: b :: L) 11 = true := by simp [xok1, h]
  unfold i_ast
  rw [XW_p]
  simp only [x_ast, xunR_rf, hk, if_true]; rfl
theorem w_astO_12 {a0 a1 a2 a3 a4 a5 a6 a7 a8 a9 a10 a11 : Value} {b : Value} {x : Option Nat} (h : a11.category = 1) : XW ms d k ((pc, i_ast 12) :: es) (a0 :: a1 :: a2 :: a3 :: a4 :: a5 :: a6 :: a7 :: a8 :: a9 :: a10 :: a11 :: b :: L) (va_rf x :: st) G Q = (XW ms d k es (a0 :: a1 :: a2 :: a3 :: a4 :: a5 :: a6 :: a7 :: a8 :: a9 :: a10 :: a11 :: va_rf x :: L) st G Q) := by 
  have hk : xok1 (a0 :: a1 :: a2 :: a3 :: a4 :: a5 :: a6 :: a7 :: a8 :: a9 :: a10 :: a11 :: b :: L) 12 = true := by simp [xok1, h]
  unfold i_ast
  rw [XW_p]
  simp only [x_ast, xunR_rf, hk, if_true]; rfl
theorem w_astO_13 {a0 a1 a2 a3 a4 a5 a6 a7 a8 a9 a10 a11 a12 : Value} {b : Value} {x : Option Nat} (h : a12.category = 1) : XW ms d k ((pc, i_ast 13) :: es) (a0 :: a1 :: a2 :: a3 :: a4 :: a5 :: a6 :: a7 :: a8 :: a9 :: a10 :: a11 :: a12 :: b :: L) (va_rf x :: st) G Q = (XW ms d k es (a0 :: a1 :: a2 :: a3 :: a4 :: a5 :: a6 :: a7 :: a8 :: a9 :: a10 :: a11 :: a12 :: va_rf x :: L) st G Q) := by 
  have hk : xok1 (a0 :: a1 :: a2 :: a3 :: a4 :: a5 :: a6 :: a7 :: a8 :: a9 :: a10 :: a11 :: a12 :: b :: L) 13 = true := by simp [xok1, h]
  unfold i_ast
  rw [XW_p]
  simp only [x_ast, xunR_rf, hk, if_true]; rfl
theorem w_inc_0 {x n : Int32}  : XW ms d k ((pc, i_inc 0 n) :: es) (.int x :: L) st G Q = (XW ms d k es (.int (x + n) :: L) st G Q) := by unfold i_inc; rw [XW_p]; rfl
theorem w_inc_1 {a0 : Value} {x n : Int32} (h : a0.category = 1) : XW ms d k ((pc, i_inc 1 n) :: es) (a0 :: .int x :: L) st G Q = (XW ms d k es (a0 :: .int (x + n) :: L) st G Q) := by 
  have hk : xok1 (a0 :: .int x :: L) 1 = true := by simp [xok1, h]
  have hg : (a0 :: .int x :: L)[1]? = some (.int x) := rfl
  unfold i_inc
  rw [XW_p]
  simp only [x_inc, hg, hk, if_true]; rfl
theorem w_inc_2 {a0 a1 : Value} {x n : Int32} (h : a1.category = 1) : XW ms d k ((pc, i_inc 2 n) :: es) (a0 :: a1 :: .int x :: L) st G Q = (XW ms d k es (a0 :: a1 :: .int (x + n) :: L) st G Q) := by 
  have hk : xok1 (a0 :: a1 :: .int x :: L) 2 = true := by simp [xok1, h]
  have hg : (a0 :: a1 :: .int x :: L)[2]? = some (.int x) := rfl
  unfold i_inc
  rw [XW_p]
  simp only [x_inc, hg, hk, if_true]; rfl
theorem w_inc_3 {a0 a1 a2 : Value} {x n : Int32} (h : a2.category = 1) : XW ms d k ((pc, i_inc 3 n) :: es) (a0 :: a1 :: a2 :: .int x :: L) st G Q = (XW ms d k es (a0 :: a1 :: a2 :: .int (x + n) :: L) st G Q) := by 
  have hk : xok1 (a0 :: a1 :: a2 :: .int x :: L) 3 = true := by simp [xok1, h]
  have hg : (a0 :: a1 :: a2 :: .int x :: L)[3]? = some (.int x) := rfl
  unfold i_inc
  rw [XW_p]
  simp only [x_inc, hg, hk, if_true]; rfl
theorem w_inc_4 {a0 a1 a2 a3 : Value} {x n : Int32} (h : a3.category = 1) : XW ms d k ((pc, i_inc 4 n) :: es) (a0 :: a1 :: a2 :: a3 :: .int x :: L) st G Q = (XW ms d k es (a0 :: a1 :: a2 :: a3 :: .int (x + n) :: L) st G Q) := by 
  have hk : xok1 (a0 :: a1 :: a2 :: a3 :: .int x :: L) 4 = true := by simp [xok1, h]
  have hg : (a0 :: a1 :: a2 :: a3 :: .int x :: L)[4]? = some (.int x) := rfl
  unfold i_inc
  rw [XW_p]
  simp only [x_inc, hg, hk, if_true]; rfl
theorem w_inc_5 {a0 a1 a2 a3 a4 : Value} {x n : Int32} (h : a4.category = 1) : XW ms d k ((pc, i_inc 5 n) :: es) (a0 :: a1 :: a2 :: a3 :: a4 :: .int x :: L) st G Q = (XW ms d k es (a0 :: a1 :: a2 :: a3 :: a4 :: .int (x + n) :: L) st G Q) := by 
  have hk : xok1 (a0 :: a1 :: a2 :: a3 :: a4 :: .int x :: L) 5 = true := by simp [xok1, h]
  have hg : (a0 :: a1 :: a2 :: a3 :: a4 :: .int x :: L)[5]? = some (.int x) := rfl
  unfold i_inc
  rw [XW_p]
  simp only [x_inc, hg, hk, if_true]; rfl
theorem w_inc_6 {a0 a1 a2 a3 a4 a5 : Value} {x n : Int32} (h : a5.category = 1) : XW ms d k ((pc, i_inc 6 n) :: es) (a0 :: a1 :: a2 :: a3 :: a4 :: a5 :: .int x :: L) st G Q = (XW ms d k es (a0 :: a1 :: a2 :: a3 :: a4 :: a5 :: .int (x + n) :: L) st G Q) := by 
  have hk : xok1 (a0 :: a1 :: a2 :: a3 :: a4 :: a5 :: .int x :: L) 6 = true := by simp [xok1, h]
  have hg : (a0 :: a1 :: a2 :: a3 :: a4 :: a5 :: .int x :: L)[6]? = some (.int x) := rfl
  unfold i_inc
  rw [XW_p]
  simp only [x_inc, hg, hk, if_true]; rfl
theorem w_inc_7 {a0 a1 a2 a3 a4 a5 a6 : Value} {x n : Int32} (h : a6.category = 1) : XW ms d k ((pc, i_inc 7 n) :: es) (a0 :: a1 :: a2 :: a3 :: a4 :: a5 :: a6 :: .int x :: L) st G Q = (XW ms d k es (a0 :: a1 :: a2 :: a3 :: a4 :: a5 :: a6 :: .int (x + n) :: L) st G Q) := by 
  have hk : xok1 (a0 :: a1 :: a2 :: a3 :: a4 :: a5 :: a6 :: .int x :: L) 7 = true := by simp [xok1, h]
  have hg : (a0 :: a1 :: a2 :: a3 :: a4 :: a5 :: a6 :: .int x :: L)[7]? = some (.int x) := rfl
  unfold i_inc
  rw [XW_p]
  simp only [x_inc, hg, hk, if_true]; rfl
theorem w_inc_8 {a0 a1 a2 a3 a4 a5 a6 a7 : Value} {x n : Int32} (h : a7.category = 1) : XW ms d k ((pc, i_inc 8 n) :: es) (a0 :: a1 :: a2 :: a3 :: a4 :: a5 :: a6 :: a7 :: .int x :: L) st G Q = (XW ms d k es (a0 :: a1 :: a2 :: a3 :: a4 :: a5 :: a6 :: a7 :: .int (x + n) :: L) st G Q) := by 
  have hk : xok1 (a0 :: a1 :: a2 :: a3 :: a4 :: a5 :: a6 :: a7 :: .int x :: L) 8 = true := by simp [xok1, h]
  have hg : (a0 :: a1 :: a2 :: a3 :: a4 :: a5 :: a6 :: a7 :: .int x :: L)[8]? = some (.int x) := rfl
  unfold i_inc
  rw [XW_p]
  simp only [x_inc, hg, hk, if_true]; rfl
theorem w_inc_9 {a0 a1 a2 a3 a4 a5 a6 a7 a8 : Value} {x n : Int32} (h : a8.category = 1) : XW ms d k ((pc, i_inc 9 n) :: es) (a0 :: a1 :: a2 :: a3 :: a4 :: a5 :: a6 :: a7 :: a8 :: .int x :: L) st G Q = (XW ms d k es (a0 :: a1 :: a2 :: a3 :: a4 :: a5 :: a6 :: a7 :: a8 :: .int (x + n) :: L) st G Q) := by 
  have hk : xok1 (a0 :: a1 :: a2 :: a3 :: a4 :: a5 :: a6 :: a7 :: a8 :: .int x :: L) 9 = true := by simp [xok1, h]
  have hg : (a0 :: a1 :: a2 :: a3 :: a4 :: a5 :: a6 :: a7 :: a8 :: .int x :: L)[9]? = some (.int x) := rfl
  unfold i_inc
  rw [XW_p]
  simp only [x_inc, hg, hk, if_true]; rfl
theorem w_inc_10 {a0 a1 a2 a3 a4 a5 a6 a7 a8 a9 : Value} {x n : Int32} (h : a9.category = 1) : XW ms d k ((pc, i_inc 10 n) :: es) (a0 :: a1 :: a2 :: a3 :: a4 :: a5 :: a6 :: a7 :: a8 :: a9 :: .int x :: L) st G Q = (XW ms d k es (a0 :: a1 :: a2 :: a3 :: a4 :: a5 :: a6 :: a7 :: a8 :: a9 :: .int (x + n) :: L) st G Q) := by 
  have hk : xok1 (a0 :: a1 :: a2 :: a3 :: a4 :: a5 :: a6 :: a7 :: a8 :: a9 :: .int x :: L) 10 = true := by simp [xok1, h]
  have hg : (a0 :: a1 :: a2 :: a3 :: a4 :: a5 :: a6 :: a7 :: a8 :: a9 :: .int x :: L)[10]? = some (.int x) := rfl
  unfold i_inc
  rw [XW_p]
  simp only [x_inc, hg, hk, if_true]; rfl
theorem w_inc_11 {a0 a1 a2 a3 a4 a5 a6 a7 a8 a9 a10 : Value} {x n : Int32} (h : a10.category = 1) : XW ms d k ((pc, i_inc 11 n) :: es) (a0 :: a1 :: a2 :: a3 :: a4 :: a5 :: a6 :: a7 :: a8 :: a9 :: a10 :: .int x :: L) st G Q = (XW ms d k es (a0 :: a1 :: a2 :: a3 :: a4 :: a5 :: a6 :: a7 :: a8 :: a9 :: a10 :: .int (x + n) :: L) st G Q) := by 
  have hk : xok1 (a0 :: a1 :: a2 :: a3 :: a4 :: a5 :: a6 :: a7 :: a8 :: a9 :: a10 :: .int x :: L) 11 = true := by simp [xok1, h]
  have hg : (a0 :: a1 :: a2 :: a3 :: a4 :: a5 :: a6 :: a7 :: a8 :: a9 :: a10 :: .int x :: L)[11]? = some (.int x) := rfl
  unfold i_inc
  rw [XW_p]
  simp only [x_inc, hg, hk, if_true]; rfl
theorem w_inc_12 {a0 a1 a2 a3 a4 a5 a6 a7 a8 a9 a10 a11 : Value} {x n : Int32} (h : a11.category = 1) : XW ms d k ((pc, i_inc 12 n) :: es) (a0 :: a1 :: a2 :: a3 :: a4 :: a5 :: a6 :: a7 :: a8 :: a9 :: a10 :: a11 :: .int x :: L) st G Q = (XW ms d k es (a0 :: a1 :: a2 :: a3 :: a4 :: a5 :: a6 :: a7 :: a8 :: a9 :: a10 :: a11 :: .int (x + n) :: L) st G Q) := by 
  have hk : xok1 (a0 :: a1 :: a2 :: a3 :: a4 :: a5 :: a6 :: a7 :: a8 :: a9 :: a10 :: a11 :: .int x :: L) 12 = true := by simp [xok1, h]
  have hg : (a0 :: a1 :: a2 :: a3 :: a4 :: a5 :: a6 :: a7 :: a8 :: a9 :: a10 :: a11 :: .int x :: L)[12]? = some (.int x) := rfl
  unfold i_inc
  rw [XW_p]
  simp only [x_inc, hg, hk, if_true]; rfl
theorem w_inc_13 {a0 a1 a2 a3 a4 a5 a6 a7 a8 a9 a10 a11 a12 : Value} {x n : Int32} (h : a12.category = 1) : XW ms d k ((pc, i_inc 13 n) :: es) (a0 :: a1 :: a2 :: a3 :: a4 :: a5 :: a6 :: a7 :: a8 :: a9 :: a10 :: a11 :: a12 :: .int x :: L) st G Q = (XW ms d k es (a0 :: a1 :: a2 :: a3 :: a4 :: a5 :: a6 :: a7 :: a8 :: a9 :: a10 :: a11 :: a12 :: .int (x + n) :: L) st G Q) := by 
  have hk : xok1 (a0 :: a1 :: a2 :: a3 :: a4 :: a5 :: a6 :: a7 :: a8 :: a9 :: a10 :: a11 :: a12 :: .int x :: L) 13 = true := by simp [xok1, h]
  have hg : (a0 :: a1 :: a2 :: a3 :: a4 :: a5 :: a6 :: a7 :: a8 :: a9 :: a10 :: a11 :: a12 :: .int x :: L)[13]? = some (.int x) := rfl
  unfold i_inc
  rw [XW_p]
  simp only [x_inc, hg, hk, if_true]; rfl
theorem w_lst_1 {a0 : Value} {b c : Value} {x : Int64} (h : a0.category = 1) : XW ms d k ((pc, i_lst 1) :: es) (a0 :: b :: c :: L) (.long x :: st) G Q = (XW ms d k es (a0 :: .long x :: xjk :: L) st G Q) := by 
  have hk : xok1 (a0 :: b :: c :: L) 1 = true := by simp [xok1, h]
  have hl : 1 + 1 < (a0 :: b :: c :: L).length := by simp
  unfold i_lst
  rw [XW_p]
  simp only [x_lst, hk, hl, and_self, if_true]; rfl
theorem w_lst_2 {a0 a1 : Value} {b c : Value} {x : Int64} (h : a1.category = 1) : XW ms d k ((pc, i_lst 2) :: es) (a0 :: a1 :: b :: c :: L) (.long x :: st) G Q = (XW ms d k es (a0 :: a1 :: .long x :: xjk :: L) st G Q) := by 
  have hk : xok1 (a0 :: a1 :: b :: c :: L) 2 = true := by simp [xok1, h]
  have hl : 2 + 1 < (a0 :: a1 :: b :: c :: L).length := by simp
  unfold i_lst
  rw [XW_p]
  simp only [x_lst, hk, hl, and_self, if_true]; rfl
theorem w_lst_3 {a0 a1 a2 : Value} {b c : Value} {x : Int64} (h : a2.category = 1) : XW ms d k ((pc, i_lst 3) :: es) (a0 :: a1 :: a2 :: b :: c :: L) (.long x :: st) G Q = (XW ms d k es (a0 :: a1 :: a2 :: .long x :: xjk :: L) st G Q) := by 
  have hk : xok1 (a0 :: a1 :: a2 :: b :: c :: L) 3 = true := by simp [xok1, h]
  have hl : 3 + 1 < (a0 :: a1 :: a2 :: b :: c :: L).length := by simp
  unfold i_lst
  rw [XW_p]
  simp only [x_lst, hk, hl, and_self, if_true]; rfl
theorem w_lst_4 {a0 a1 a2 a3 : Value} {b c : Value} {x : Int64} (h : a3.category = 1) : XW ms d k ((pc, i_lst 4) :: es) (a0 :: a1 :: a2 :: a3 :: b :: c :: L) (.long x :: st) G Q = (XW ms d k es (a0 :: a1 :: a2 :: a3 :: .long x :: xjk :: L) st G Q) := by 
  have hk : xok1 (a0 :: a1 :: a2 :: a3 :: b :: c :: L) 4 = true := by simp [xok1, h]
  have hl : 4 + 1 < (a0 :: a1 :: a2 :: a3 :: b :: c :: L).length := by simp
  unfold i_lst
  rw [XW_p]
  simp only [x_lst, hk, hl, and_self, if_true]; rfl
theorem w_lst_5 {a0 a1 a2 a3 a4 : Value} {b c : Value} {x : Int64} (h : a4.category = 1) : XW ms d k ((pc, i_lst 5) :: es) (a0 :: a1 :: a2 :: a3 :: a4 :: b :: c :: L) (.long x :: st) G Q = (XW ms d k es (a0 :: a1 :: a2 :: a3 :: a4 :: .long x :: xjk :: L) st G Q) := by 
  have hk : xok1 (a0 :: a1 :: a2 :: a3 :: a4 :: b :: c :: L) 5 = true := by simp [xok1, h]
  have hl : 5 + 1 < (a0 :: a1 :: a2 :: a3 :: a4 :: b :: c :: L).length := by simp
  unfold i_lst
  rw [XW_p]
  simp only [x_lst, hk, hl, and_self, if_true]; rfl
theorem w_add {x y : Int32} : XW ms d k ((pc, i_add) :: es) L (.int y :: .int x :: st) G Q = (XW ms d k es L (.int (x + y) :: st) G Q) := by unfold i_add; rw [XW_p]; rfl
theorem w_sub {x y : Int32} : XW ms d k ((pc, i_sub) :: es) L (.int y :: .int x :: st) G Q = (XW ms d k es L (.int (x - y) :: st) G Q) := by unfold i_sub; rw [XW_p]; rfl
theorem w_mul {x y : Int32} : XW ms d k ((pc, i_mul) :: es) L (.int y :: .int x :: st) G Q = (XW ms d k es L (.int (x * y) :: st) G Q) := by unfold i_mul; rw [XW_p]; rfl
theorem w_and {x y : Int32} : XW ms d k ((pc, i_and) :: es) L (.int y :: .int x :: st) G Q = (XW ms d k es L (.int (x &&& y) :: st) G Q) := by unfold i_and; rw [XW_p]; rfl
theorem w_or {x y : Int32} : XW ms d k ((pc, i_or) :: es) L (.int y :: .int x :: st) G Q = (XW ms d k es L (.int (x ||| y) :: st) G Q) := by unfold i_or; rw [XW_p]; rfl
theorem w_div {x y : Int32} : XW ms d k ((pc, i_div) :: es) L (.int y :: .int x :: st) G Q = (¬ y = 0 ∧ XW ms d k es L (.int (x / y) :: st) G Q) := by unfold i_div; rw [XW_p]; simp only [x_div]; by_cases h : y = 0 <;> simp [h, XS]
theorem w_rem {x y : Int32} : XW ms d k ((pc, i_rem) :: es) L (.int y :: .int x :: st) G Q = (¬ y = 0 ∧ XW ms d k es L (.int (x - x / y * y) :: st) G Q) := by unfold i_rem; rw [XW_p]; simp only [x_div]; by_cases h : y = 0 <;> simp [h, XS]
theorem w_neg {x : Int32} : XW ms d k ((pc, i_neg) :: es) L (.int x :: st) G Q = (XW ms d k es L (.int (-x) :: st) G Q) := by unfold i_neg; rw [XW_p]; rfl
theorem w_i2b {x : Int32} : XW ms d k ((pc, i_i2b) :: es) L (.int x :: st) G Q = (XW ms d k es L (.int x.toInt8.toInt32 :: st) G Q) := by unfold i_i2b; rw [XW_p]; rfl
theorem w_i2l {x : Int32} : XW ms d k ((pc, i_i2l) :: es) L (.int x :: st) G Q = (XW ms d k es L (.long x.toInt64 :: st) G Q) := by unfold i_i2l; rw [XW_p]; rfl
theorem w_l2i {x : Int64} : XW ms d k ((pc, i_l2i) :: es) L (.long x :: st) G Q = (XW ms d k es L (.int x.toInt32 :: st) G Q) := by unfold i_l2i; rw [XW_p]; rfl
theorem w_ladd {x y : Int64} : XW ms d k ((pc, i_ladd) :: es) L (.long y :: .long x :: st) G Q = (XW ms d k es L (.long (x + y) :: st) G Q) := by unfold i_ladd; rw [XW_p]; rfl
theorem w_lsub {x y : Int64} : XW ms d k ((pc, i_lsub) :: es) L (.long y :: .long x :: st) G Q = (XW ms d k es L (.long (x - y) :: st) G Q) := by unfold i_lsub; rw [XW_p]; rfl
theorem w_lmul {x y : Int64} : XW ms d k ((pc, i_lmul) :: es) L (.long y :: .long x :: st) G Q = (XW ms d k es L (.long (x * y) :: st) G Q) := by unfold i_lmul; rw [XW_p]; rfl
theorem w_land {x y : Int64} : XW ms d k ((pc, i_land) :: es) L (.long y :: .long x :: st) G Q = (XW ms d k es L (.long (x &&& y) :: st) G Q) := by unfold i_land; rw [XW_p]; rfl
theorem w_lor {x y : Int64} : XW ms d k ((pc, i_lor) :: es) L (.long y :: .long x :: st) G Q = (XW ms d k es L (.long (x ||| y) :: st) G Q) := by unfold i_lor; rw [XW_p]; rfl
theorem w_lshl {x : Int64} {y : Int32} : XW ms d k ((pc, i_lshl) :: es) L (.int y :: .long x :: st) G Q = (XW ms d k es L (.long (x <<< (y.toInt64 &&& 63)) :: st) G Q) := by unfold i_lshl; rw [XW_p]; rfl
theorem w_lshr {x : Int64} {y : Int32} : XW ms d k ((pc, i_lshr) :: es) L (.int y :: .long x :: st) G Q = (XW ms d k es L (.long (x >>> (y.toInt64 &&& 63)) :: st) G Q) := by unfold i_lshr; rw [XW_p]; rfl
theorem w_lcm {x y : Int64} : XW ms d k ((pc, i_lcm) :: es) L (.long y :: .long x :: st) G Q = (XW ms d k es L (.int (if x > y then 1 else if x = y then 0 else -1) :: st) G Q) := by unfold i_lcm; rw [XW_p]; rfl
theorem w_dup {v : Value} (h : v.category = 1) : XW ms d k ((pc, i_dup) :: es) L (v :: st) G Q = (XW ms d k es L (v :: v :: st) G Q) := by unfold i_dup; rw [XW_p]; simp only [x_dup, h, if_true]; rfl
theorem w_du2 {v w : Value} (h : v.category = 1) (h2 : w.category = 1) : XW ms d k ((pc, i_du2) :: es) L (v :: w :: st) G Q = (XW ms d k es L (v :: w :: v :: w :: st) G Q) := by unfold i_du2; rw [XW_p]; simp only [x_du2, h, h2, and_self, if_true]; rfl
theorem w_dx1 {v w : Value} (h : v.category = 1) (h2 : w.category = 1) : XW ms d k ((pc, i_dx1) :: es) L (v :: w :: st) G Q = (XW ms d k es L (v :: w :: v :: st) G Q) := by unfold i_dx1; rw [XW_p]; simp only [x_dx1, h, h2, and_self, if_true]; rfl
theorem w_pop {v : Value} (h : v.category = 1) : XW ms d k ((pc, i_pop) :: es) L (v :: st) G Q = (XW ms d k es L st G Q) := by unfold i_pop; rw [XW_p]; simp only [x_pop, h, if_true]; rfl
theorem w_ifeq {x : Int32} {t : Nat} : XW ms d k ((pc, i_ifeq t) :: es) L (.int x :: st) G Q = (if x = 0 then XL ms d k t L st G Q else XW ms d k es L st G Q) := by unfold i_ifeq; rw [XW_p]; simp only [x_if1, decide_eq_true_eq]; by_cases h : x = 0 <;> simp [h, XS]
theorem w_ifne {x : Int32} {t : Nat} : XW ms d k ((pc, i_ifne t) :: es) L (.int x :: st) G Q = (if ¬ x = 0 then XL ms d k t L st G Q else XW ms d k es L st G Q) := by unfold i_ifne; rw [XW_p]; simp only [x_if1, decide_eq_true_eq]; by_cases h : ¬ x = 0 <;> simp [h, XS]
theorem w_iflt {x : Int32} {t : Nat} : XW ms d k ((pc, i_iflt t) :: es) L (.int x :: st) G Q = (if x < 0 then XL ms d k t L st G Q else XW ms d k es L st G Q) := by unfold i_iflt; rw [XW_p]; simp only [x_if1, decide_eq_true_eq]; by_cases h : x < 0 <;> simp [h, XS]
theorem w_ifge {x : Int32} {t : Nat} : XW ms d k ((pc, i_ifge t) :: es) L (.int x :: st) G Q = (if 0 ≤ x then XL ms d k t L st G Q else XW ms d k es L st G Q) := by unfold i_ifge; rw [XW_p]; simp only [x_if1, decide_eq_true_eq]; by_cases h : 0 ≤ x <;> simp [h, XS]
theorem w_ifgt {x : Int32} {t : Nat} : XW ms d k ((pc, i_ifgt t) :: es) L (.int x :: st) G Q = (if 0 < x then XL ms d k t L st G Q else XW ms d k es L st G Q) := by unfold i_ifgt; rw [XW_p]; simp only [x_if1, decide_eq_true_eq]; by_cases h : 0 < x <;> simp [h, XS]
theorem w_ifle {x : Int32} {t : Nat} : XW ms d k ((pc, i_ifle t) :: es) L (.int x :: st) G Q = (if x ≤ 0 then XL ms d k t L st G Q else XW ms d k es L st G Q) := by unfold i_ifle; rw [XW_p]; simp only [x_if1, decide_eq_true_eq]; by_cases h : x ≤ 0 <;> simp [h, XS]
theorem w_iceq {x y : Int32} {t : Nat} : XW ms d k ((pc, i_iceq t) :: es) L (.int y :: .int x :: st) G Q = (if x = y then XL ms d k t L st G Q else XW ms d k es L st G Q) := by unfold i_iceq; rw [XW_p]; simp only [x_if2, decide_eq_true_eq]; by_cases h : x = y <;> simp [h, XS]
theorem w_icne {x y : Int32} {t : Nat} : XW ms d k ((pc, i_icne t) :: es) L (.int y :: .int x :: st) G Q = (if ¬ x = y then XL ms d k t L st G Q else XW ms d k es L st G Q) := by unfold i_icne; rw [XW_p]; simp only [x_if2, decide_eq_true_eq]; by_cases h : ¬ x = y <;> simp [h, XS]
theorem w_iclt {x y : Int32} {t : Nat} : XW ms d k ((pc, i_iclt t) :: es) L (.int y :: .int x :: st) G Q = (if x < y then XL ms d k t L st G Q else XW ms d k es L st G Q) := by unfold i_iclt; rw [XW_p]; simp only [x_if2, decide_eq_true_eq]; by_cases h : x < y <;> simp [h, XS]
theorem w_icge {x y : Int32} {t : Nat} : XW ms d k ((pc, i_icge t) :: es) L (.int y :: .int x :: st) G Q = (if y ≤ x then XL ms d k t L st G Q else XW ms d k es L st G Q) := by unfold i_icge; rw [XW_p]; simp only [x_if2, decide_eq_true_eq]; by_cases h : y ≤ x <;> simp [h, XS]
theorem w_icgt {x y : Int32} {t : Nat} : XW ms d k ((pc, i_icgt t) :: es) L (.int y :: .int x :: st) G Q = (if y < x then XL ms d k t L st G Q else XW ms d k es L st G Q) := by unfold i_icgt; rw [XW_p]; simp only [x_if2, decide_eq_true_eq]; by_cases h : y < x <;> simp [h, XS]
theorem w_icle {x y : Int32} {t : Nat} : XW ms d k ((pc, i_icle t) :: es) L (.int y :: .int x :: st) G Q = (if x ≤ y then XL ms d k t L st G Q else XW ms d k es L st G Q) := by unfold i_icle; rw [XW_p]; simp only [x_if2, decide_eq_true_eq]; by_cases h : x ≤ y <;> simp [h, XS]
theorem w_got {t : Nat} : XW ms d k ((pc, i_got t) :: es) L st G Q = (XL ms d k t L st G Q) := by unfold i_got; rw [XW_p]; rfl
theorem w_fal {t : Nat} : XW ms d k ((pc, i_fal t) :: es) L st G Q = (XL ms d k t L st G Q) := by unfold i_fal; rw [XW_p]; rfl
theorem w_ifnN {t : Nat} : XW ms d k ((pc, i_ifn t) :: es) L (.null :: st) G Q = (XL ms d k t L st G Q) := by unfold i_ifn; rw [XW_p]; rfl
theorem w_ifnR {t a : Nat} : XW ms d k ((pc, i_ifn t) :: es) L (.ref a :: st) G Q = (XW ms d k es L st G Q) := by unfold i_ifn; rw [XW_p]; rfl
theorem w_innN {t : Nat} : XW ms d k ((pc, i_inn t) :: es) L (.null :: st) G Q = (XW ms d k es L st G Q) := by unfold i_inn; rw [XW_p]; rfl
theorem w_innR {t a : Nat} : XW ms d k ((pc, i_inn t) :: es) L (.ref a :: st) G Q = (XL ms d k t L st G Q) := by unfold i_inn; rw [XW_p]; rfl
theorem w_ifnO {t : Nat} {o : Option Nat} : XW ms d k ((pc, i_ifn t) :: es) L (va_rf o :: st) G Q = (if o = none then XL ms d k t L st G Q else XW ms d k es L st G Q) := by unfold i_ifn; rw [XW_p]; cases o <;> rfl
theorem w_innO {t : Nat} {o : Option Nat} : XW ms d k ((pc, i_inn t) :: es) L (va_rf o :: st) G Q = (if o = none then XW ms d k es L st G Q else XL ms d k t L st G Q) := by unfold i_inn; rw [XW_p]; cases o <;> rfl
/-- a jump to one of a row of places -/
def XT (ms : Nat → XM) (d k : Nat) (o : Option Nat) (L st : List Value) (G : XG) (Q : (Option Value ⊕ Nat) → XG → Prop) : Prop := match o with
  | some t => XL ms d k t L st G Q
  | none => False
theorem w_XTs {t : Nat} : XT ms d k (some t) L st G Q = XL ms d k t L st G Q := rfl
theorem w_tsw {x : Int32} {lo : Int} {n t : Nat} {ts : List Nat} : XW ms d k ((pc, i_tsw lo n t ts) :: es) L (.int x :: st) G Q = (if x.toInt < lo ∨ lo + n ≤ x.toInt then XL ms d k t L st G Q else XT ms d k ts[(x.toInt - lo).toNat]? L st G Q) := by 
  unfold i_tsw
  rw [XW_p]
  simp only [x_tsw]
  by_cases h : x.toInt < lo ∨ lo + n ≤ x.toInt
  · simp [h, XS]
  · rw [if_neg h, if_neg h]
    cases ts[(x.toInt - lo).toNat]? <;> rfl
theorem w_lsw {x : Int32} {t : Nat} {ks : List (Int × Nat)} : XW ms d k ((pc, i_lsw t ks) :: es) L (.int x :: st) G Q = (XL ms d k (xlsw t ks x.toInt) L st G Q) := by unfold i_lsw; rw [XW_p]; rfl
theorem w_gei {g a : Nat} {cs : List Nat} : XW ms d k ((pc, i_gei g cs) :: es) L (.ref a :: st) G Q = (Gkd G a ∈ cs ∧ XW ms d k es L (.int (Gfi G g a) :: st) G Q) := by unfold i_gei; rw [XW_p]; simp only [x_gei]; by_cases h : Gkd G a ∈ cs <;> simp [h, XS]
theorem w_ger {g a : Nat} {cs : List Nat} : XW ms d k ((pc, i_ger g cs) :: es) L (.ref a :: st) G Q = (Gkd G a ∈ cs ∧ XW ms d k es L (va_rf (Gfr G g a) :: st) G Q) := by unfold i_ger; rw [XW_p]; simp only [x_ger]; by_cases h : Gkd G a ∈ cs <;> simp [h, XS]
theorem w_pui {g a : Nat} {v : Int32} {cs : List Nat} : XW ms d k ((pc, i_pui g cs) :: es) L (.int v :: .ref a :: st) G Q = (Gkd G a ∈ cs ∧ XW ms d k es L st (Sfi G g a v) Q) := by unfold i_pui; rw [XW_p]; simp only [x_pui]; by_cases h : Gkd G a ∈ cs <;> simp [h, XS]
theorem w_puz {g a : Nat} {v : Int32} {cs : List Nat} : XW ms d k ((pc, i_puz g cs) :: es) L (.int v :: .ref a :: st) G Q = ((Gkd G a ∈ cs ∧ (v = 0 ∨ v = 1)) ∧ XW ms d k es L st (Sfi G g a v) Q) := by unfold i_puz; rw [XW_p]; simp only [x_puz]; by_cases h : (Gkd G a ∈ cs ∧ (v = 0 ∨ v = 1)) <;> simp [h, XS]
theorem w_purR {g a : Nat} {cs : List Nat} {b : Nat} : XW ms d k ((pc, i_pur g cs) :: es) L (.ref b :: .ref a :: st) G Q = (Gkd G a ∈ cs ∧ XW ms d k es L st (Sfr G g a (some b)) Q) := by unfold i_pur; rw [XW_p]; simp only [x_pur, xunR]; by_cases h : Gkd G a ∈ cs <;> simp [h, XS]
theorem w_purN {g a : Nat} {cs : List Nat}  : XW ms d k ((pc, i_pur g cs) :: es) L (.null :: .ref a :: st) G Q = (Gkd G a ∈ cs ∧ XW ms d k es L st (Sfr G g a none) Q) := by unfold i_pur; rw [XW_p]; simp only [x_pur, xunR]; by_cases h : Gkd G a ∈ cs <;> simp [h, XS]
theorem w_purO {g a : Nat} {cs : List Nat} {o : Option Nat} : XW ms d k ((pc, i_pur g cs) :: es) L (va_rf o :: .ref a :: st) G Q = (Gkd G a ∈ cs ∧ XW ms d k es L st (Sfr G g a o) Q) := by unfold i_pur; rw [XW_p]; simp only [x_pur, xunR_rf]; by_cases h : Gkd G a ∈ cs <;> simp [h, XS]
theorem xinb_iff {i : Int32} {n : Nat} : (xinb i n = true) = xin i n := by simp [xinb, xin]
theorem xisB_iff {t q : Nat} : (xisB t q = true) = (q = 100 + t ∨ q = 200 + t) := by simp [xisB]
theorem w_lda0 {i : Int32} {a : Nat} : XW ms d k ((pc, i_lda 0) :: es) L (.int i :: .ref a :: st) G Q = (((Gkd G a = 100 ∨ Gkd G a = 200) ∧ xin i (Gln G a)) ∧ XW ms d k es L (.int (Gai G a i.toNatClampNeg) :: st) G Q) := by 
  have e : (Gkd G a = 100 ∨ Gkd G a = 200) = (xisB 0 (Gkd G a) = true) := by simp [xisB]
  rw [e, ← xinb_iff]
  unfold i_lda
  rw [XW_p]
  simp only [x_lda]
  by_cases h : (xisB 0 (Gkd G a) = true ∧ xinb i (Gln G a) = true) <;> simp [h, XS, xav]
theorem w_lda1 {i : Int32} {a : Nat} : XW ms d k ((pc, i_lda 1) :: es) L (.int i :: .ref a :: st) G Q = (((Gkd G a = 101 ∨ Gkd G a = 201) ∧ xin i (Gln G a)) ∧ XW ms d k es L (.int (Gai G a i.toNatClampNeg) :: st) G Q) := by 
  have e : (Gkd G a = 101 ∨ Gkd G a = 201) = (xisB 1 (Gkd G a) = true) := by simp [xisB]
  rw [e, ← xinb_iff]
  unfold i_lda
  rw [XW_p]
  simp only [x_lda]
  by_cases h : (xisB 1 (Gkd G a) = true ∧ xinb i (Gln G a) = true) <;> simp [h, XS, xav]
theorem w_lda2 {i : Int32} {a : Nat} : XW ms d k ((pc, i_lda 2) :: es) L (.int i :: .ref a :: st) G Q = (((Gkd G a = 102 ∨ Gkd G a = 202) ∧ xin i (Gln G a)) ∧ XW ms d k es L (.int (Gai G a i.toNatClampNeg) :: st) G Q) := by 
  have e : (Gkd G a = 102 ∨ Gkd G a = 202) = (xisB 2 (Gkd G a) = true) := by simp [xisB]
  rw [e, ← xinb_iff]
  unfold i_lda
  rw [XW_p]
  simp only [x_lda]
  by_cases h : (xisB 2 (Gkd G a) = true ∧ xinb i (Gln G a) = true) <;> simp [h, XS, xav]
theorem w_lda3 {i : Int32} {a : Nat} : XW ms d k ((pc, i_lda 3) :: es) L (.int i :: .ref a :: st) G Q = (((Gkd G a = 103 ∨ Gkd G a = 203) ∧ xin i (Gln G a)) ∧ XW ms d k es L (.long (Gal G a i.toNatClampNeg) :: st) G Q) := by 
  have e : (Gkd G a = 103 ∨ Gkd G a = 203) = (xisB 3 (Gkd G a) = true) := by simp [xisB]
  rw [e, ← xinb_iff]
  unfold i_lda
  rw [XW_p]
  simp only [x_lda]
  by_cases h : (xisB 3 (Gkd G a) = true ∧ xinb i (Gln G a) = true) <;> simp [h, XS, xav]
theorem w_lda4 {i : Int32} {a : Nat} : XW ms d k ((pc, i_lda 4) :: es) L (.int i :: .ref a :: st) G Q = (((Gkd G a = 104 ∨ Gkd G a = 204) ∧ xin i (Gln G a)) ∧ XW ms d k es L (va_rf (Gar G a i.toNatClampNeg) :: st) G Q) := by 
  have e : (Gkd G a = 104 ∨ Gkd G a = 204) = (xisB 4 (Gkd G a) = true) := by simp [xisB]
  rw [e, ← xinb_iff]
  unfold i_lda
  rw [XW_p]
  simp only [x_lda]
  by_cases h : (xisB 4 (Gkd G a) = true ∧ xinb i (Gln G a) = true) <;> simp [h, XS, xav]
theorem w_lda5 {i : Int32} {a : Nat} : XW ms d k ((pc, i_lda 5) :: es) L (.int i :: .ref a :: st) G Q = (((Gkd G a = 105 ∨ Gkd G a = 205) ∧ xin i (Gln G a)) ∧ XW ms d k es L (va_rf (Gar G a i.toNatClampNeg) :: st) G Q) := by 
  have e : (Gkd G a = 105 ∨ Gkd G a = 205) = (xisB 5 (Gkd G a) = true) := by simp [xisB]
  rw [e, ← xinb_iff]
  unfold i_lda
  rw [XW_p]
  simp only [x_lda]
  by_cases h : (xisB 5 (Gkd G a) = true ∧ xinb i (Gln G a) = true) <;> simp [h, XS, xav]
theorem w_lda6 {i : Int32} {a : Nat} : XW ms d k ((pc, i_lda 6) :: es) L (.int i :: .ref a :: st) G Q = (((Gkd G a = 106 ∨ Gkd G a = 206) ∧ xin i (Gln G a)) ∧ XW ms d k es L (va_rf (Gar G a i.toNatClampNeg) :: st) G Q) := by 
  have e : (Gkd G a = 106 ∨ Gkd G a = 206) = (xisB 6 (Gkd G a) = true) := by simp [xisB]
  rw [e, ← xinb_iff]
  unfold i_lda
  rw [XW_p]
  simp only [x_lda]
  by_cases h : (xisB 6 (Gkd G a) = true ∧ xinb i (Gln G a) = true) <;> simp [h, XS, xav]
theorem w_lda7 {i : Int32} {a : Nat} : XW ms d k ((pc, i_lda 7) :: es) L (.int i :: .ref a :: st) G Q = (((Gkd G a = 107 ∨ Gkd G a = 207) ∧ xin i (Gln G a)) ∧ XW ms d k es L (va_rf (Gar G a i.toNatClampNeg) :: st) G Q) := by 
  have e : (Gkd G a = 107 ∨ Gkd G a = 207) = (xisB 7 (Gkd G a) = true) := by simp [xisB]
  rw [e, ← xinb_iff]
  unfold i_lda
  rw [XW_p]
  simp only [x_lda]
  by_cases h : (xisB 7 (Gkd G a) = true ∧ xinb i (Gln G a) = true) <;> simp [h, XS, xav]
theorem w_lda8 {i : Int32} {a : Nat} : XW ms d k ((pc, i_lda 8) :: es) L (.int i :: .ref a :: st) G Q = (((Gkd G a = 108 ∨ Gkd G a = 208) ∧ xin i (Gln G a)) ∧ XW ms d k es L (va_rf (Gar G a i.toNatClampNeg) :: st) G Q) := by 
  have e : (Gkd G a = 108 ∨ Gkd G a = 208) = (xisB 8 (Gkd G a) = true) := by simp [xisB]
  rw [e, ← xinb_iff]
  unfold i_lda
  rw [XW_p]
  simp only [x_lda]
  by_cases h : (xisB 8 (Gkd G a) = true ∧ xinb i (Gln G a) = true) <;> simp [h, XS, xav]
theorem w_lda9 {i : Int32} {a : Nat} : XW ms d k ((pc, i_lda 9) :: es) L (.int i :: .ref a :: st) G Q = (((Gkd G a = 109 ∨ Gkd G a = 209) ∧ xin i (Gln G a)) ∧ XW ms d k es L (va_rf (Gar G a i.toNatClampNeg) :: st) G Q) := by 
  have e : (Gkd G a = 109 ∨ Gkd G a = 209) = (xisB 9 (Gkd G a) = true) := by simp [xisB]
  rw [e, ← xinb_iff]
  unfold i_lda
  rw [XW_p]
  simp only [x_lda]
  by_cases h : (xisB 9 (Gkd G a) = true ∧ xinb i (Gln G a) = true) <;> simp [h, XS, xav]
theorem w_ias {x i : Int32} {a : Nat} : XW ms d k ((pc, i_ias) :: es) L (.int x :: .int i :: .ref a :: st) G Q = ((Gkd G a = 100 ∧ xin i (Gln G a)) ∧ XW ms d k es L st (Sai G a i.toNatClampNeg x) Q) := by unfold i_ias; rw [XW_p]; rw [← xinb_iff]; simp only [x_ias]; by_cases h : (Gkd G a = 100 ∧ xinb i (Gln G a) = true) <;> simp [h, XS]
theorem w_bas {x i : Int32} {a : Nat} : XW ms d k ((pc, i_bas) :: es) L (.int x :: .int i :: .ref a :: st) G Q = ((Gkd G a = 101 ∧ xin i (Gln G a)) ∧ XW ms d k es L st (Sai G a i.toNatClampNeg x.toInt8.toInt32) Q) := by unfold i_bas; rw [XW_p]; rw [← xinb_iff]; simp only [x_bas]; by_cases h : (Gkd G a = 101 ∧ xinb i (Gln G a) = true) <;> simp [h, XS]
theorem w_zas {x i : Int32} {a : Nat} : XW ms d k ((pc, i_zas) :: es) L (.int x :: .int i :: .ref a :: st) G Q = ((Gkd G a = 102 ∧ xin i (Gln G a) ∧ (x = 0 ∨ x = 1)) ∧ XW ms d k es L st (Sai G a i.toNatClampNeg x) Q) := by unfold i_zas; rw [XW_p]; rw [← xinb_iff]; simp only [x_zas]; by_cases h : (Gkd G a = 102 ∧ xinb i (Gln G a) = true ∧ (x = 0 ∨ x = 1)) <;> simp [h, XS]
theorem w_las {i : Int32} {x : Int64} {a : Nat} : XW ms d k ((pc, i_las) :: es) L (.long x :: .int i :: .ref a :: st) G Q = ((Gkd G a = 103 ∧ xin i (Gln G a)) ∧ XW ms d k es L st (Sal G a i.toNatClampNeg x) Q) := by unfold i_las; rw [XW_p]; rw [← xinb_iff]; simp only [x_las]; by_cases h : (Gkd G a = 103 ∧ xinb i (Gln G a) = true) <;> simp [h, XS]
theorem w_aasR {t a : Nat} {i : Int32} {cs : List Nat} {b : Nat} : XW ms d k ((pc, i_aas t cs) :: es) L (.ref b :: .int i :: .ref a :: st) G Q = ((Gkd G a = 100 + t ∧ xin i (Gln G a) ∧ xrfk G cs (some b) = true) ∧ XW ms d k es L st (Sar G a i.toNatClampNeg (some b)) Q) := by unfold i_aas; rw [XW_p]; rw [← xinb_iff]; simp only [x_aas, xunR]; by_cases h : (Gkd G a = 100 + t ∧ xinb i (Gln G a) = true ∧ xrfk G cs (some b) = true) <;> simp [h, XS]
theorem w_aaAR {a : Nat} {i : Int32} {b : Nat} : XW ms d k ((pc, i_aaA) :: es) L (.ref b :: .int i :: .ref a :: st) G Q = ((Gkd G a = 105 ∧ xin i (Gln G a) ∧ xrfk G [104] (some b) = true) ∧ XW ms d k es L st (Sar G a i.toNatClampNeg (some b)) Q) := by unfold i_aaA; rw [XW_p]; rw [← xinb_iff]; simp only [x_aaA, xunR]; by_cases h : (Gkd G a = 105 ∧ xinb i (Gln G a) = true ∧ xrfk G [104] (some b) = true) <;> simp [h, XS]
theorem w_cstR {cs : List Nat} {b : Nat} : XW ms d k ((pc, i_cst cs) :: es) L (.ref b :: st) G Q = (xrfk G cs (some b) = true ∧ XW ms d k es L (va_rf (some b) :: st) G Q) := by unfold i_cst; rw [XW_p]; simp only [x_cst, xunR]; by_cases h : xrfk G cs (some b) = true <;> simp [h, XS, va_rf]
theorem w_aasN {t a : Nat} {i : Int32} {cs : List Nat}  : XW ms d k ((pc, i_aas t cs) :: es) L (.null :: .int i :: .ref a :: st) G Q = ((Gkd G a = 100 + t ∧ xin i (Gln G a) ∧ xrfk G cs none = true) ∧ XW ms d k es L st (Sar G a i.toNatClampNeg none) Q) := by unfold i_aas; rw [XW_p]; rw [← xinb_iff]; simp only [x_aas, xunR]; by_cases h : (Gkd G a = 100 + t ∧ xinb i (Gln G a) = true ∧ xrfk G cs none = true) <;> simp [h, XS]
theorem w_aaAN {a : Nat} {i : Int32}  : XW ms d k ((pc, i_aaA) :: es) L (.null :: .int i :: .ref a :: st) G Q = ((Gkd G a = 105 ∧ xin i (Gln G a) ∧ xrfk G [104] none = true) ∧ XW ms d k es L st (Sar G a i.toNatClampNeg none) Q) := by unfold i_aaA; rw [XW_p]; rw [← xinb_iff]; simp only [x_aaA, xunR]; by_cases h : (Gkd G a = 105 ∧ xinb i (Gln G a) = true ∧ xrfk G [104] none = true) <;> simp [h, XS]
theorem w_cstN {cs : List Nat}  : XW ms d k ((pc, i_cst cs) :: es) L (.null :: st) G Q = (xrfk G cs none = true ∧ XW ms d k es L (va_rf none :: st) G Q) := by unfold i_cst; rw [XW_p]; simp only [x_cst, xunR]; by_cases h : xrfk G cs none = true <;> simp [h, XS, va_rf]
theorem w_aasO {t a : Nat} {i : Int32} {cs : List Nat} {o : Option Nat} : XW ms d k ((pc, i_aas t cs) :: es) L (va_rf o :: .int i :: .ref a :: st) G Q = ((Gkd G a = 100 + t ∧ xin i (Gln G a) ∧ xrfk G cs o = true) ∧ XW ms d k es L st (Sar G a i.toNatClampNeg o) Q) := by unfold i_aas; rw [XW_p]; rw [← xinb_iff]; simp only [x_aas, xunR_rf]; by_cases h : (Gkd G a = 100 + t ∧ xinb i (Gln G a) = true ∧ xrfk G cs o = true) <;> simp [h, XS]
theorem w_aaAO {a : Nat} {i : Int32} {o : Option Nat} : XW ms d k ((pc, i_aaA) :: es) L (va_rf o :: .int i :: .ref a :: st) G Q = ((Gkd G a = 105 ∧ xin i (Gln G a) ∧ xrfk G [104] o = true) ∧ XW ms d k es L st (Sar G a i.toNatClampNeg o) Q) := by unfold i_aaA; rw [XW_p]; rw [← xinb_iff]; simp only [x_aaA, xunR_rf]; by_cases h : (Gkd G a = 105 ∧ xinb i (Gln G a) = true ∧ xrfk G [104] o = true) <;> simp [h, XS]
theorem w_cstO {cs : List Nat} {o : Option Nat} : XW ms d k ((pc, i_cst cs) :: es) L (va_rf o :: st) G Q = (xrfk G cs o = true ∧ XW ms d k es L (va_rf o :: st) G Q) := by unfold i_cst; rw [XW_p]; simp only [x_cst, xunR_rf]; by_cases h : xrfk G cs o = true <;> simp [h, XS, va_rf]
theorem w_len {a : Nat} : XW ms d k ((pc, i_len) :: es) L (.ref a :: st) G Q = ((100 ≤ Gkd G a ∧ Gkd G a < 300) ∧ XW ms d k es L (.int (nI (Gln G a)) :: st) G Q) := by unfold i_len; rw [XW_p]; simp only [x_len]; by_cases h : (100 ≤ Gkd G a ∧ Gkd G a < 300) <;> simp [h, XS]
theorem w_nwa {t : Nat} {n : Int32} : XW ms d k ((pc, i_nwa t) :: es) L (.int n :: st) G Q = ((¬ n < 0 ∧ n.toNatClampNeg ≤ 60000000) ∧ XW ms d k es L (.ref (Gtp G) :: st) (Sna G t n.toNatClampNeg) Q) := by unfold i_nwa; rw [XW_p]; simp only [x_nwa]; by_cases h : (¬ n < 0 ∧ n.toNatClampNeg ≤ 60000000) <;> simp only [h, XS, if_true, if_false, true_and, false_and, and_self, not_false_eq_true]
theorem w_new {c n : Nat} : XW ms d k ((pc, i_new c n) :: es) L st G Q = (XW ms d k es L (.ref (Gtp G) :: st) (Sno G c n) Q) := by unfold i_new; rw [XW_p]; rfl
theorem w_obj {a : Nat} : XW ms d k ((pc, i_obj) :: es) L (.ref a :: st) G Q = (xwt st ≤ 8 ∧ XW ms d k es L st G Q) := by unfold i_obj; rw [XW_p]; simp only [x_obj]; by_cases h : xwt st ≤ 8 <;> simp [h, XS]
theorem w_cpi {n dp sp : Int32} {a b : Nat} : XW ms d k ((pc, i_cpi) :: es) L (.int n :: .int dp :: .ref b :: .int sp :: .ref a :: st) G Q = ((xwt st ≤ 8 ∧ ¬ sp < 0 ∧ ¬ dp < 0 ∧ ¬ n < 0 ∧ sp.toNatClampNeg + n.toNatClampNeg ≤ Gln G a ∧ dp.toNatClampNeg + n.toNatClampNeg ≤ Gln G b ∧ Gkd G a = 100 ∧ Gkd G b = 100) ∧ XW ms d k es L st (Rai G b (va_cpy (Gai G a) (Gai G b) sp.toNatClampNeg dp.toNatClampNeg n.toNatClampNeg)) Q) := by unfold i_cpi; rw [XW_p]; simp only [x_cpi]; by_cases h : (xwt st ≤ 8 ∧ ¬ sp < 0 ∧ ¬ dp < 0 ∧ ¬ n < 0 ∧ sp.toNatClampNeg + n.toNatClampNeg ≤ Gln G a ∧ dp.toNatClampNeg + n.toNatClampNeg ≤ Gln G b ∧ Gkd G a = 100 ∧ Gkd G b = 100) <;> simp only [h, XS, if_true, if_false, true_and, false_and, and_self, not_false_eq_true]
theorem w_cpq {n dp sp : Int32} {a b t : Nat} {ks : List Nat} : XW ms d k ((pc, i_cpq t ks) :: es) L (.int n :: .int dp :: .ref b :: .int sp :: .ref a :: st) G Q = ((xwt st ≤ 8 ∧ ¬ sp < 0 ∧ ¬ dp < 0 ∧ ¬ n < 0 ∧ sp.toNatClampNeg + n.toNatClampNeg ≤ Gln G a ∧ dp.toNatClampNeg + n.toNatClampNeg ≤ Gln G b ∧ Gkd G a = 100 + t ∧ Gkd G b = 100 + t ∧ ∀ i, i < n.toNatClampNeg → xrfk G ks (Gar G a (sp.toNatClampNeg + i)) = true) ∧ XW ms d k es L st (Rar G b (va_cpy (Gar G a) (Gar G b) sp.toNatClampNeg dp.toNatClampNeg n.toNatClampNeg)) Q) := by 
  unfold i_cpq
  rw [XW_p]
  simp only [x_cpq]
  by_cases h : (xwt st ≤ 8 ∧ ¬ sp < 0 ∧ ¬ dp < 0 ∧ ¬ n < 0 ∧ sp.toNatClampNeg + n.toNatClampNeg ≤ Gln G a ∧ dp.toNatClampNeg + n.toNatClampNeg ≤ Gln G b ∧ Gkd G a = 100 + t ∧ Gkd G b = 100 + t ∧ ∀ i, i < n.toNatClampNeg → xrfk G ks (Gar G a (sp.toNatClampNeg + i)) = true)
  · rw [if_pos h]; exact propext ⟨fun z => ⟨h, z⟩, fun z => z.2⟩
  · rw [if_neg h]; exact propext ⟨fun z => z.elim, fun z => absurd z.1 h⟩
theorem w_sln {a : Nat} : XW ms d k ((pc, i_sln) :: es) L (.ref a :: st) G Q = ((300 ≤ Gkd G a ∧ xwt st ≤ 8) ∧ XW ms d k es L (.int (nI (xsln (Gkd G a - 300))) :: st) G Q) := by unfold i_sln; rw [XW_p]; simp only [x_sln]; by_cases h : (300 ≤ Gkd G a ∧ xwt st ≤ 8) <;> simp [h, XS]
theorem w_sch {a : Nat} {i : Int32} : XW ms d k ((pc, i_sch) :: es) L (.int i :: .ref a :: st) G Q = ((300 ≤ Gkd G a ∧ xin i (xsln (Gkd G a - 300)) ∧ xwt st ≤ 8) ∧ XW ms d k es L (.int ((xsby (Gkd G a - 300)).getD i.toNatClampNeg 0) :: st) G Q) := by unfold i_sch; rw [XW_p]; rw [← xinb_iff]; simp only [x_sch]; by_cases h : (300 ≤ Gkd G a ∧ xinb i (xsln (Gkd G a - 300)) = true ∧ xwt st ≤ 8) <;> simp [h, XS]
/-- behind a call -/
def XK (ms : Nat → XM) (d k pc : Nat) (es : List (Nat × XI)) (L st : List Value) (Q : (Option Value ⊕ Nat) → XG → Prop) (o : Option Value ⊕ Nat) (G' : XG) : Prop := match o with
  | .inl v => XW ms d k es L (v.toList ++ st) G' Q
  | .inr z => XH ms d k pc z L G' Q
theorem w_XKn : XK ms d k pc es L st Q (.inl none) G = XW ms d k es L st G Q := rfl
theorem w_XKs {v : Value} : XK ms d k pc es L st Q (.inl (some v)) G = XW ms d k es L (v :: st) G Q := rfl
theorem w_XKx {z : Nat} : XK ms d k pc es L st Q (.inr z) G = XH ms d k pc z L G Q := rfl
/-- a call of who is chosen by the receiver's kind -/
def XV (ms : Nat → XM) (d k pc : Nat) (es : List (Nat × XI)) (L st as : List Value) (G : XG) (Q : (Option Value ⊕ Nat) → XG → Prop) (o : Option Nat) : Prop := match o with
  | some j => xwt st ≤ 8 ∧ XC ms d j as G (XK ms d k pc es L st Q)
  | none => False
theorem w_XVs {j : Nat} {as : List Value} : XV ms d k pc es L st as G Q (some j) = (xwt st ≤ 8 ∧ XC ms d j as G (XK ms d k pc es L st Q)) := rfl
theorem w_cls0 {j : Nat}  : XW ms d k ((pc, i_cls j 0) :: es) L (st) G Q = (xwt st ≤ 8 ∧ XC ms d j [] G (XK ms d k pc es L st Q)) := by 
  have hq : x_cls j 0 (st) G = some (j, [], st) := by simp [x_cls]
  unfold i_cls
  rw [XW_c, hq]
  rfl
theorem w_cli0 {j c : Nat}  : XW ms d k ((pc, i_cli j 0) :: es) L (.ref c :: st) G Q = (xwt st ≤ 8 ∧ XC ms d j [.ref c] G (XK ms d k pc es L st Q)) := by 
  have hq : x_cli j 0 (.ref c :: st) G = some (j, [.ref c], st) := by simp [x_cli]
  unfold i_cli
  rw [XW_c, hq]
  rfl
theorem w_clv0 {c : Nat} {l : List (Nat × Nat)}  : XW ms d k ((pc, i_clv 0 l) :: es) L (.ref c :: st) G Q = (XV ms d k pc es L st [.ref c] G Q (xlo l (Gkd G c))) := by 
  unfold i_clv
  rw [XW_c]
  cases hx : xlo l (Gkd G c) with
  | none =>
    have hq : x_clv 0 l (.ref c :: st) G = none := by simp [x_clv, hx]
    rw [hq]
    rfl
  | some j =>
    have hq : x_clv 0 l (.ref c :: st) G = some (j, [.ref c], st) := by simp [x_clv, hx]
    rw [hq]
    rfl
theorem w_cls1 {j : Nat} {b0 : Value} : XW ms d k ((pc, i_cls j 1) :: es) L (b0 :: st) G Q = (xwt st ≤ 8 ∧ XC ms d j [b0] G (XK ms d k pc es L st Q)) := by 
  have hq : x_cls j 1 (b0 :: st) G = some (j, [b0], st) := by simp [x_cls]
  unfold i_cls
  rw [XW_c, hq]
  rfl
theorem w_cli1 {j c : Nat} {b0 : Value} : XW ms d k ((pc, i_cli j 1) :: es) L (b0 :: .ref c :: st) G Q = (xwt st ≤ 8 ∧ XC ms d j [.ref c, b0] G (XK ms d k pc es L st Q)) := by 
  have hq : x_cli j 1 (b0 :: .ref c :: st) G = some (j, [.ref c, b0], st) := by simp [x_cli]
  unfold i_cli
  rw [XW_c, hq]
  rfl
theorem w_clv1 {c : Nat} {l : List (Nat × Nat)} {b0 : Value} : XW ms d k ((pc, i_clv 1 l) :: es) L (b0 :: .ref c :: st) G Q = (XV ms d k pc es L st [.ref c, b0] G Q (xlo l (Gkd G c))) := by 
  unfold i_clv
  rw [XW_c]
  cases hx : xlo l (Gkd G c) with
  | none =>
    have hq : x_clv 1 l (b0 :: .ref c :: st) G = none := by simp [x_clv, hx]
    rw [hq]
    rfl
  | some j =>
    have hq : x_clv 1 l (b0 :: .ref c :: st) G = some (j, [.ref c, b0], st) := by simp [x_clv, hx]
    rw [hq]
    rfl
theorem w_cls2 {j : Nat} {b0 b1 : Value} : XW ms d k ((pc, i_cls j 2) :: es) L (b1 :: b0 :: st) G Q = (xwt st ≤ 8 ∧ XC ms d j [b0, b1] G (XK ms d k pc es L st Q)) := by 
  have hq : x_cls j 2 (b1 :: b0 :: st) G = some (j, [b0, b1], st) := by simp [x_cls]
  unfold i_cls
  rw [XW_c, hq]
  rfl
theorem w_cli2 {j c : Nat} {b0 b1 : Value} : XW ms d k ((pc, i_cli j 2) :: es) L (b1 :: b0 :: .ref c :: st) G Q = (xwt st ≤ 8 ∧ XC ms d j [.ref c, b0, b1] G (XK ms d k pc es L st Q)) := by 
  have hq : x_cli j 2 (b1 :: b0 :: .ref c :: st) G = some (j, [.ref c, b0, b1], st) := by simp [x_cli]
  unfold i_cli
  rw [XW_c, hq]
  rfl
theorem w_clv2 {c : Nat} {l : List (Nat × Nat)} {b0 b1 : Value} : XW ms d k ((pc, i_clv 2 l) :: es) L (b1 :: b0 :: .ref c :: st) G Q = (XV ms d k pc es L st [.ref c, b0, b1] G Q (xlo l (Gkd G c))) := by 
  unfold i_clv
  rw [XW_c]
  cases hx : xlo l (Gkd G c) with
  | none =>
    have hq : x_clv 2 l (b1 :: b0 :: .ref c :: st) G = none := by simp [x_clv, hx]
    rw [hq]
    rfl
  | some j =>
    have hq : x_clv 2 l (b1 :: b0 :: .ref c :: st) G = some (j, [.ref c, b0, b1], st) := by simp [x_clv, hx]
    rw [hq]
    rfl
theorem w_cls3 {j : Nat} {b0 b1 b2 : Value} : XW ms d k ((pc, i_cls j 3) :: es) L (b2 :: b1 :: b0 :: st) G Q = (xwt st ≤ 8 ∧ XC ms d j [b0, b1, b2] G (XK ms d k pc es L st Q)) := by 
  have hq : x_cls j 3 (b2 :: b1 :: b0 :: st) G = some (j, [b0, b1, b2], st) := by simp [x_cls]
  unfold i_cls
  rw [XW_c, hq]
  rfl
theorem w_cli3 {j c : Nat} {b0 b1 b2 : Value} : XW ms d k ((pc, i_cli j 3) :: es) L (b2 :: b1 :: b0 :: .ref c :: st) G Q = (xwt st ≤ 8 ∧ XC ms d j [.ref c, b0, b1, b2] G (XK ms d k pc es L st Q)) := by 
  have hq : x_cli j 3 (b2 :: b1 :: b0 :: .ref c :: st) G = some (j, [.ref c, b0, b1, b2], st) := by simp [x_cli]
  unfold i_cli
  rw [XW_c, hq]
  rfl
theorem w_clv3 {c : Nat} {l : List (Nat × Nat)} {b0 b1 b2 : Value} : XW ms d k ((pc, i_clv 3 l) :: es) L (b2 :: b1 :: b0 :: .ref c :: st) G Q = (XV ms d k pc es L st [.ref c, b0, b1, b2] G Q (xlo l (Gkd G c))) := by 
  unfold i_clv
  rw [XW_c]
  cases hx : xlo l (Gkd G c) with
  | none =>
    have hq : x_clv 3 l (b2 :: b1 :: b0 :: .ref c :: st) G = none := by simp [x_clv, hx]
    rw [hq]
    rfl
  | some j =>
    have hq : x_clv 3 l (b2 :: b1 :: b0 :: .ref c :: st) G = some (j, [.ref c, b0, b1, b2], st) := by simp [x_clv, hx]
    rw [hq]
    rfl
theorem w_cls4 {j : Nat} {b0 b1 b2 b3 : Value} : XW ms d k ((pc, i_cls j 4) :: es) L (b3 :: b2 :: b1 :: b0 :: st) G Q = (xwt st ≤ 8 ∧ XC ms d j [b0, b1, b2, b3] G (XK ms d k pc es L st Q)) := by 
  have hq : x_cls j 4 (b3 :: b2 :: b1 :: b0 :: st) G = some (j, [b0, b1, b2, b3], st) := by simp [x_cls]
  unfold i_cls
  rw [XW_c, hq]
  rfl
theorem w_cli4 {j c : Nat} {b0 b1 b2 b3 : Value} : XW ms d k ((pc, i_cli j 4) :: es) L (b3 :: b2 :: b1 :: b0 :: .ref c :: st) G Q = (xwt st ≤ 8 ∧ XC ms d j [.ref c, b0, b1, b2, b3] G (XK ms d k pc es L st Q)) := by 
  have hq : x_cli j 4 (b3 :: b2 :: b1 :: b0 :: .ref c :: st) G = some (j, [.ref c, b0, b1, b2, b3], st) := by simp [x_cli]
  unfold i_cli
  rw [XW_c, hq]
  rfl
theorem w_clv4 {c : Nat} {l : List (Nat × Nat)} {b0 b1 b2 b3 : Value} : XW ms d k ((pc, i_clv 4 l) :: es) L (b3 :: b2 :: b1 :: b0 :: .ref c :: st) G Q = (XV ms d k pc es L st [.ref c, b0, b1, b2, b3] G Q (xlo l (Gkd G c))) := by 
  unfold i_clv
  rw [XW_c]
  cases hx : xlo l (Gkd G c) with
  | none =>
    have hq : x_clv 4 l (b3 :: b2 :: b1 :: b0 :: .ref c :: st) G = none := by simp [x_clv, hx]
    rw [hq]
    rfl
  | some j =>
    have hq : x_clv 4 l (b3 :: b2 :: b1 :: b0 :: .ref c :: st) G = some (j, [.ref c, b0, b1, b2, b3], st) := by simp [x_clv, hx]
    rw [hq]
    rfl
theorem w_cls5 {j : Nat} {b0 b1 b2 b3 b4 : Value} : XW ms d k ((pc, i_cls j 5) :: es) L (b4 :: b3 :: b2 :: b1 :: b0 :: st) G Q = (xwt st ≤ 8 ∧ XC ms d j [b0, b1, b2, b3, b4] G (XK ms d k pc es L st Q)) := by 
  have hq : x_cls j 5 (b4 :: b3 :: b2 :: b1 :: b0 :: st) G = some (j, [b0, b1, b2, b3, b4], st) := by simp [x_cls]
  unfold i_cls
  rw [XW_c, hq]
  rfl
theorem w_cli5 {j c : Nat} {b0 b1 b2 b3 b4 : Value} : XW ms d k ((pc, i_cli j 5) :: es) L (b4 :: b3 :: b2 :: b1 :: b0 :: .ref c :: st) G Q = (xwt st ≤ 8 ∧ XC ms d j [.ref c, b0, b1, b2, b3, b4] G (XK ms d k pc es L st Q)) := by 
  have hq : x_cli j 5 (b4 :: b3 :: b2 :: b1 :: b0 :: .ref c :: st) G = some (j, [.ref c, b0, b1, b2, b3, b4], st) := by simp [x_cli]
  unfold i_cli
  rw [XW_c, hq]
  rfl
theorem w_clv5 {c : Nat} {l : List (Nat × Nat)} {b0 b1 b2 b3 b4 : Value} : XW ms d k ((pc, i_clv 5 l) :: es) L (b4 :: b3 :: b2 :: b1 :: b0 :: .ref c :: st) G Q = (XV ms d k pc es L st [.ref c, b0, b1, b2, b3, b4] G Q (xlo l (Gkd G c))) := by 
  unfold i_clv
  rw [XW_c]
  cases hx : xlo l (Gkd G c) with
  | none =>
    have hq : x_clv 5 l (b4 :: b3 :: b2 :: b1 :: b0 :: .ref c :: st) G = none := by simp [x_clv, hx]
    rw [hq]
    rfl
  | some j =>
    have hq : x_clv 5 l (b4 :: b3 :: b2 :: b1 :: b0 :: .ref c :: st) G = some (j, [.ref c, b0, b1, b2, b3, b4], st) := by simp [x_clv, hx]
    rw [hq]
    rfl
theorem w_cls6 {j : Nat} {b0 b1 b2 b3 b4 b5 : Value} : XW ms d k ((pc, i_cls j 6) :: es) L (b5 :: b4 :: b3 :: b2 :: b1 :: b0 :: st) G Q = (xwt st ≤ 8 ∧ XC ms d j [b0, b1, b2, b3, b4, b5] G (XK ms d k pc es L st Q)) := by 
  have hq : x_cls j 6 (b5 :: b4 :: b3 :: b2 :: b1 :: b0 :: st) G = some (j, [b0, b1, b2, b3, b4, b5], st) := by simp [x_cls]
  unfold i_cls
  rw [XW_c, hq]
  rfl
theorem w_cli6 {j c : Nat} {b0 b1 b2 b3 b4 b5 : Value} : XW ms d k ((pc, i_cli j 6) :: es) L (b5 :: b4 :: b3 :: b2 :: b1 :: b0 :: .ref c :: st) G Q = (xwt st ≤ 8 ∧ XC ms d j [.ref c, b0, b1, b2, b3, b4, b5] G (XK ms d k pc es L st Q)) := by 
  have hq : x_cli j 6 (b5 :: b4 :: b3 :: b2 :: b1 :: b0 :: .ref c :: st) G = some (j, [.ref c, b0, b1, b2, b3, b4, b5], st) := by simp [x_cli]
  unfold i_cli
  rw [XW_c, hq]
  rfl
theorem w_clv6 {c : Nat} {l : List (Nat × Nat)} {b0 b1 b2 b3 b4 b5 : Value} : XW ms d k ((pc, i_clv 6 l) :: es) L (b5 :: b4 :: b3 :: b2 :: b1 :: b0 :: .ref c :: st) G Q = (XV ms d k pc es L st [.ref c, b0, b1, b2, b3, b4, b5] G Q (xlo l (Gkd G c))) := by 
  unfold i_clv
  rw [XW_c]
  cases hx : xlo l (Gkd G c) with
  | none =>
    have hq : x_clv 6 l (b5 :: b4 :: b3 :: b2 :: b1 :: b0 :: .ref c :: st) G = none := by simp [x_clv, hx]
    rw [hq]
    rfl
  | some j =>
    have hq : x_clv 6 l (b5 :: b4 :: b3 :: b2 :: b1 :: b0 :: .ref c :: st) G = some (j, [.ref c, b0, b1, b2, b3, b4, b5], st) := by simp [x_clv, hx]
    rw [hq]
    rfl
theorem w_cls7 {j : Nat} {b0 b1 b2 b3 b4 b5 b6 : Value} : XW ms d k ((pc, i_cls j 7) :: es) L (b6 :: b5 :: b4 :: b3 :: b2 :: b1 :: b0 :: st) G Q = (xwt st ≤ 8 ∧ XC ms d j [b0, b1, b2, b3, b4, b5, b6] G (XK ms d k pc es L st Q)) := by 
  have hq : x_cls j 7 (b6 :: b5 :: b4 :: b3 :: b2 :: b1 :: b0 :: st) G = some (j, [b0, b1, b2, b3, b4, b5, b6], st) := by simp [x_cls]
  unfold i_cls
  rw [XW_c, hq]
  rfl
theorem w_cli7 {j c : Nat} {b0 b1 b2 b3 b4 b5 b6 : Value} : XW ms d k ((pc, i_cli j 7) :: es) L (b6 :: b5 :: b4 :: b3 :: b2 :: b1 :: b0 :: .ref c :: st) G Q = (xwt st ≤ 8 ∧ XC ms d j [.ref c, b0, b1, b2, b3, b4, b5, b6] G (XK ms d k pc es L st Q)) := by 
  have hq : x_cli j 7 (b6 :: b5 :: b4 :: b3 :: b2 :: b1 :: b0 :: .ref c :: st) G = some (j, [.ref c, b0, b1, b2, b3, b4, b5, b6], st) := by simp [x_cli]
  unfold i_cli
  rw [XW_c, hq]
  rfl
theorem w_clv7 {c : Nat} {l : List (Nat × Nat)} {b0 b1 b2 b3 b4 b5 b6 : Value} : XW ms d k ((pc, i_clv 7 l) :: es) L (b6 :: b5 :: b4 :: b3 :: b2 :: b1 :: b0 :: .ref c :: st) G Q = (XV ms d k pc es L st [.ref c, b0, b1, b2, b3, b4, b5, b6] G Q (xlo l (Gkd G c))) := by 
  unfold i_clv
  rw [XW_c]
  cases hx : xlo l (Gkd G c) with
  | none =>
    have hq : x_clv 7 l (b6 :: b5 :: b4 :: b3 :: b2 :: b1 :: b0 :: .ref c :: st) G = none := by simp [x_clv, hx]
    rw [hq]
    rfl
  | some j =>
    have hq : x_clv 7 l (b6 :: b5 :: b4 :: b3 :: b2 :: b1 :: b0 :: .ref c :: st) G = some (j, [.ref c, b0, b1, b2, b3, b4, b5, b6], st) := by simp [x_clv, hx]
    rw [hq]
    rfl
theorem w_ret0 : XW ms d k ((pc, i_ret 0) :: es) L [] G Q = (Q (.inl none) G) := by unfold i_ret; rw [XW_r]; rfl
theorem w_ret1 {x : Int32} : XW ms d k ((pc, i_ret 1) :: es) L [.int x] G Q = (Q (.inl (some (.int x))) G) := by unfold i_ret; rw [XW_r]; rfl
theorem w_ret2 {x : Int64} : XW ms d k ((pc, i_ret 2) :: es) L [.long x] G Q = (Q (.inl (some (.long x))) G) := by unfold i_ret; rw [XW_r]; rfl
theorem w_ret3 {x : Nat} : XW ms d k ((pc, i_ret 3) :: es) L [.ref x] G Q = (Q (.inl (some (.ref x))) G) := by unfold i_ret; rw [XW_r]; rfl
theorem w_ret3N : XW ms d k ((pc, i_ret 3) :: es) L [.null] G Q = (Q (.inl (some .null)) G) := by unfold i_ret; rw [XW_r]; rfl
theorem w_ret3O {o : Option Nat} : XW ms d k ((pc, i_ret 3) :: es) L [va_rf o] G Q = (Q (.inl (some (va_rf o))) G) := by unfold i_ret; rw [XW_r]; cases o <;> rfl
theorem w_ret4 {x : Int32} : XW ms d k ((pc, i_ret 4) :: es) L [.int x] G Q = ((x = 0 ∨ x = 1) ∧ Q (.inl (some (.int x))) G) := by unfold i_ret; rw [XW_r]; simp only [xrt]; by_cases h : (x = 0 ∨ x = 1) <;> simp [h]
theorem w_thr {z : Nat} : XW ms d k ((pc, i_thr) :: es) L (.ref z :: st) G Q = (xthk (Gkd G z) = true ∧ XH ms d k pc z L G Q) := by unfold i_thr; rw [XW_t]
end XRULES
/-- ALL RULES of the plain machine, for simp -/
theorem xc_i {x : Int32} : (Value.int x).category = 1 := rfl
theorem xc_l {x : Int64} : (Value.long x).category = 2 := rfl
theorem xc_n : Value.null.category = 1 := rfl
theorem xc_r {a : Nat} : (Value.ref a).category = 1 := rfl
theorem xc_j : xjk.category = 1 := rfl
theorem xwt_n : xwt [] = 0 := rfl
theorem xwt_c {v : Value} {r : List Value} : xwt (v :: r) = v.category + xwt r := by simp [xwt]
theorem xrf_n : va_rf none = .null := rfl
theorem xrf_s {a : Nat} : va_rf (some a) = .ref a := rfl
theorem xex_n : xex [] = [] := rfl
theorem xex_1 {v : Value} {r : List Value} (h : v.category = 1) : xex (v :: r) = v :: xex r := by simp [xex, h]
theorem xex_2 {v : Value} {r : List Value} (h : v.category = 2) : xex (v :: r) = v :: xjk :: xex r := by simp [xex, h]
theorem xlo_n {k : Nat} : xlo [] k = none := rfl
theorem xlo_c {a b k : Nat} {r : List (Nat × Nat)} : xlo ((a, b) :: r) k = if k = a then some b else xlo r k := rfl
theorem xrfk_n {G : XG} {cs : List Nat} : (xrfk G cs none = true) = True := by simp [xrfk]
theorem xrfk_s {G : XG} {cs : List Nat} {b : Nat} : (xrfk G cs (some b) = true) = (Gkd G b ∈ cs) := by simp [xrfk]
theorem h_SfiGfi (G : XG) (g a : Nat) (v : Int32) (x y : Nat) : Gfi (Sfi G g a v) x y = if x = g ∧ y = a then v else Gfi G x y := rfl
theorem h_SfiGfr (G : XG) (g a : Nat) (v : Int32) : Gfr (Sfi G g a v) = Gfr G := rfl
theorem h_SfiGai (G : XG) (g a : Nat) (v : Int32) : Gai (Sfi G g a v) = Gai G := rfl
theorem h_SfiGal (G : XG) (g a : Nat) (v : Int32) : Gal (Sfi G g a v) = Gal G := rfl
theorem h_SfiGar (G : XG) (g a : Nat) (v : Int32) : Gar (Sfi G g a v) = Gar G := rfl
theorem h_SfiGkd (G : XG) (g a : Nat) (v : Int32) : Gkd (Sfi G g a v) = Gkd G := rfl
theorem h_SfiGln (G : XG) (g a : Nat) (v : Int32) : Gln (Sfi G g a v) = Gln G := rfl
theorem h_SfiGsv (G : XG) (g a : Nat) (v : Int32) : Gsv (Sfi G g a v) = Gsv G := rfl
theorem h_SfiGtp (G : XG) (g a : Nat) (v : Int32) : Gtp (Sfi G g a v) = Gtp G := rfl
theorem h_SfiGus (G : XG) (g a : Nat) (v : Int32) : Gus (Sfi G g a v) = Gus G := rfl
theorem h_SfrGfi (G : XG) (g a : Nat) (v : Option Nat) : Gfi (Sfr G g a v) = Gfi G := rfl
theorem h_SfrGfr (G : XG) (g a : Nat) (v : Option Nat) (x y : Nat) : Gfr (Sfr G g a v) x y = if x = g ∧ y = a then v else Gfr G x y := rfl
theorem h_SfrGai (G : XG) (g a : Nat) (v : Option Nat) : Gai (Sfr G g a v) = Gai G := rfl
theorem h_SfrGal (G : XG) (g a : Nat) (v : Option Nat) : Gal (Sfr G g a v) = Gal G := rfl
theorem h_SfrGar (G : XG) (g a : Nat) (v : Option Nat) : Gar (Sfr G g a v) = Gar G := rfl
theorem h_SfrGkd (G : XG) (g a : Nat) (v : Option Nat) : Gkd (Sfr G g a v) = Gkd G := rfl
theorem h_SfrGln (G : XG) (g a : Nat) (v : Option Nat) : Gln (Sfr G g a v) = Gln G := rfl
theorem h_SfrGsv (G : XG) (g a : Nat) (v : Option Nat) : Gsv (Sfr G g a v) = Gsv G := rfl
theorem h_SfrGtp (G : XG) (g a : Nat) (v : Option Nat) : Gtp (Sfr G g a v) = Gtp G := rfl
theorem h_SfrGus (G : XG) (g a : Nat) (v : Option Nat) : Gus (Sfr G g a v) = Gus G := rfl
theorem h_SaiGfi (G : XG) (g a : Nat) (v : Int32) : Gfi (Sai G g a v) = Gfi G := rfl
theorem h_SaiGfr (G : XG) (g a : Nat) (v : Int32) : Gfr (Sai G g a v) = Gfr G := rfl
theorem h_SaiGai (G : XG) (g a : Nat) (v : Int32) (x y : Nat) : Gai (Sai G g a v) x y = if x = g ∧ y = a then v else Gai G x y := rfl
theorem h_SaiGal (G : XG) (g a : Nat) (v : Int32) : Gal (Sai G g a v) = Gal G := rfl
theorem h_SaiGar (G : XG) (g a : Nat) (v : Int32) : Gar (Sai G g a v) = Gar G := rfl
theorem h_SaiGkd (G : XG) (g a : Nat) (v : Int32) : Gkd (Sai G g a v) = Gkd G := rfl
theorem h_SaiGln (G : XG) (g a : Nat) (v : Int32) : Gln (Sai G g a v) = Gln G := rfl
theorem h_SaiGsv (G : XG) (g a : Nat) (v : Int32) : Gsv (Sai G g a v) = Gsv G := rfl
theorem h_SaiGtp (G : XG) (g a : Nat) (v : Int32) : Gtp (Sai G g a v) = Gtp G := rfl
theorem h_SaiGus (G : XG) (g a : Nat) (v : Int32) : Gus (Sai G g a v) = Gus G := rfl
theorem h_SalGfi (G : XG) (g a : Nat) (v : Int64) : Gfi (Sal G g a v) = Gfi G := rfl
theorem h_SalGfr (G : XG) (g a : Nat) (v : Int64) : Gfr (Sal G g a v) = Gfr G := rfl
theorem h_SalGai (G : XG) (g a : Nat) (v : Int64) : Gai (Sal G g a v) = Gai G := rfl
theorem h_SalGal (G : XG) (g a : Nat) (v : Int64) (x y : Nat) : Gal (Sal G g a v) x y = if x = g ∧ y = a then v else Gal G x y := rfl
theorem h_SalGar (G : XG) (g a : Nat) (v : Int64) : Gar (Sal G g a v) = Gar G := rfl
theorem h_SalGkd (G : XG) (g a : Nat) (v : Int64) : Gkd (Sal G g a v) = Gkd G := rfl
theorem h_SalGln (G : XG) (g a : Nat) (v : Int64) : Gln (Sal G g a v) = Gln G := rfl
theorem h_SalGsv (G : XG) (g a : Nat) (v : Int64) : Gsv (Sal G g a v) = Gsv G := rfl
theorem h_SalGtp (G : XG) (g a : Nat) (v : Int64) : Gtp (Sal G g a v) = Gtp G := rfl
theorem h_SalGus (G : XG) (g a : Nat) (v : Int64) : Gus (Sal G g a v) = Gus G := rfl
theorem h_SarGfi (G : XG) (g a : Nat) (v : Option Nat) : Gfi (Sar G g a v) = Gfi G := rfl
theorem h_SarGfr (G : XG) (g a : Nat) (v : Option Nat) : Gfr (Sar G g a v) = Gfr G := rfl
theorem h_SarGai (G : XG) (g a : Nat) (v : Option Nat) : Gai (Sar G g a v) = Gai G := rfl
theorem h_SarGal (G : XG) (g a : Nat) (v : Option Nat) : Gal (Sar G g a v) = Gal G := rfl
theorem h_SarGar (G : XG) (g a : Nat) (v : Option Nat) (x y : Nat) : Gar (Sar G g a v) x y = if x = g ∧ y = a then v else Gar G x y := rfl
theorem h_SarGkd (G : XG) (g a : Nat) (v : Option Nat) : Gkd (Sar G g a v) = Gkd G := rfl
theorem h_SarGln (G : XG) (g a : Nat) (v : Option Nat) : Gln (Sar G g a v) = Gln G := rfl
theorem h_SarGsv (G : XG) (g a : Nat) (v : Option Nat) : Gsv (Sar G g a v) = Gsv G := rfl
theorem h_SarGtp (G : XG) (g a : Nat) (v : Option Nat) : Gtp (Sar G g a v) = Gtp G := rfl
theorem h_SarGus (G : XG) (g a : Nat) (v : Option Nat) : Gus (Sar G g a v) = Gus G := rfl
theorem h_RaiGfi (G : XG) (a : Nat) (r : Nat → Int32) : Gfi (Rai G a r) = Gfi G := rfl
theorem h_RaiGfr (G : XG) (a : Nat) (r : Nat → Int32) : Gfr (Rai G a r) = Gfr G := rfl
theorem h_RaiGai (G : XG) (a : Nat) (r : Nat → Int32) (x y : Nat) : Gai (Rai G a r) x y = if x = a then r y else Gai G x y := rfl
theorem h_RaiGal (G : XG) (a : Nat) (r : Nat → Int32) : Gal (Rai G a r) = Gal G := rfl
theorem h_RaiGar (G : XG) (a : Nat) (r : Nat → Int32) : Gar (Rai G a r) = Gar G := rfl
theorem h_RaiGkd (G : XG) (a : Nat) (r : Nat → Int32) : Gkd (Rai G a r) = Gkd G := rfl
theorem h_RaiGln (G : XG) (a : Nat) (r : Nat → Int32) : Gln (Rai G a r) = Gln G := rfl
theorem h_RaiGsv (G : XG) (a : Nat) (r : Nat → Int32) : Gsv (Rai G a r) = Gsv G := rfl
theorem h_RaiGtp (G : XG) (a : Nat) (r : Nat → Int32) : Gtp (Rai G a r) = Gtp G := rfl
theorem h_RaiGus (G : XG) (a : Nat) (r : Nat → Int32) : Gus (Rai G a r) = Gus G := rfl
theorem h_RarGfi (G : XG) (a : Nat) (r : Nat → Option Nat) : Gfi (Rar G a r) = Gfi G := rfl
theorem h_RarGfr (G : XG) (a : Nat) (r : Nat → Option Nat) : Gfr (Rar G a r) = Gfr G := rfl
theorem h_RarGai (G : XG) (a : Nat) (r : Nat → Option Nat) : Gai (Rar G a r) = Gai G := rfl
theorem h_RarGal (G : XG) (a : Nat) (r : Nat → Option Nat) : Gal (Rar G a r) = Gal G := rfl
theorem h_RarGar (G : XG) (a : Nat) (r : Nat → Option Nat) (x y : Nat) : Gar (Rar G a r) x y = if x = a then r y else Gar G x y := rfl
theorem h_RarGkd (G : XG) (a : Nat) (r : Nat → Option Nat) : Gkd (Rar G a r) = Gkd G := rfl
theorem h_RarGln (G : XG) (a : Nat) (r : Nat → Option Nat) : Gln (Rar G a r) = Gln G := rfl
theorem h_RarGsv (G : XG) (a : Nat) (r : Nat → Option Nat) : Gsv (Rar G a r) = Gsv G := rfl
theorem h_RarGtp (G : XG) (a : Nat) (r : Nat → Option Nat) : Gtp (Rar G a r) = Gtp G := rfl
theorem h_RarGus (G : XG) (a : Nat) (r : Nat → Option Nat) : Gus (Rar G a r) = Gus G := rfl
theorem h_SnoGai (G : XG) (c n : Nat) : Gai (Sno G c n) = Gai G := rfl
theorem h_SnoGal (G : XG) (c n : Nat) : Gal (Sno G c n) = Gal G := rfl
theorem h_SnoGar (G : XG) (c n : Nat) : Gar (Sno G c n) = Gar G := rfl
theorem h_SnoGln (G : XG) (c n : Nat) : Gln (Sno G c n) = Gln G := rfl
theorem h_SnoGsv (G : XG) (c n : Nat) : Gsv (Sno G c n) = Gsv G := rfl
theorem h_SnoGfi (G : XG) (c n x y : Nat) : Gfi (Sno G c n) x y = if y = Gtp G then 0 else Gfi G x y := rfl
theorem h_SnoGfr (G : XG) (c n x y : Nat) : Gfr (Sno G c n) x y = if y = Gtp G then none else Gfr G x y := rfl
theorem h_SnoGkd (G : XG) (c n y : Nat) : Gkd (Sno G c n) y = if y = Gtp G then c + 1 else Gkd G y := rfl
theorem h_SnoGtp (G : XG) (c n : Nat) : Gtp (Sno G c n) = Gtp G + 1 := rfl
theorem h_SnoGus (G : XG) (c n : Nat) : Gus (Sno G c n) = Gus G + n := rfl
theorem h_SnaGfi (G : XG) (t n : Nat) : Gfi (Sna G t n) = Gfi G := rfl
theorem h_SnaGfr (G : XG) (t n : Nat) : Gfr (Sna G t n) = Gfr G := rfl
theorem h_SnaGsv (G : XG) (t n : Nat) : Gsv (Sna G t n) = Gsv G := rfl
theorem h_SnaGai (G : XG) (t n x y : Nat) : Gai (Sna G t n) x y = if x = Gtp G then 0 else Gai G x y := rfl
theorem h_SnaGal (G : XG) (t n x y : Nat) : Gal (Sna G t n) x y = if x = Gtp G then 0 else Gal G x y := rfl
theorem h_SnaGar (G : XG) (t n x y : Nat) : Gar (Sna G t n) x y = if x = Gtp G then none else Gar G x y := rfl
theorem h_SnaGkd (G : XG) (t n y : Nat) : Gkd (Sna G t n) y = if y = Gtp G then 100 + t else Gkd G y := rfl
theorem h_SnaGln (G : XG) (t n y : Nat) : Gln (Sna G t n) y = if y = Gtp G then n else Gln G y := rfl
theorem h_SnaGtp (G : XG) (t n : Nat) : Gtp (Sna G t n) = Gtp G + 1 := rfl
theorem h_SnaGus (G : XG) (t n : Nat) : Gus (Sna G t n) = Gus G + n := rfl
theorem xS : (∀ (ms : Nat → XM) (d : Nat) (k : Nat) (pc : Nat) (es : List (Nat × XI)) (L : List Value) (st : List Value) (G : XG) (Q : (Option Value ⊕ Nat) → XG → Prop) (x : Int32), XW ms d k ((pc, i_ild 0) :: es) (.int x :: L) st G Q = (XW ms d k es (.int x :: L) (.int x :: st) G Q)) ∧
  (∀ (ms : Nat → XM) (d : Nat) (k : Nat) (pc : Nat) (es : List (Nat × XI)) (L : List Value) (st : List Value) (G : XG) (Q : (Option Value ⊕ Nat) → XG → Prop) (a0 : Value) (x : Int32), XW ms d k ((pc, i_ild 1) :: es) (a0 :: .int x :: L) st G Q = (XW ms d k es (a0 :: .int x :: L) (.int x :: st) G Q)) ∧
  (∀ (ms : Nat → XM) (d : Nat) (k : Nat) (pc : Nat) (es : List (Nat × XI)) (L : List Value) (st : List Value) (G : XG) (Q : (Option Value ⊕ Nat) → XG → Prop) (a0 a1 : Value) (x : Int32), XW ms d k ((pc, i_ild 2) :: es) (a0 :: a1 :: .int x :: L) st G Q = (XW ms d k es (a0 :: a1 :: .int x :: L) (.int x :: st) G Q)) ∧
  (∀ (ms : Nat → XM) (d : Nat) (k : Nat) (pc : Nat) (es : List (Nat × XI)) (L : List Value) (st : List Value) (G : XG) (Q : (Option Value ⊕ Nat) → XG → Prop) (a0 a1 a2 : Value) (x : Int32), XW ms d k ((pc, i_ild 3) :: es) (a0 :: a1 :: a2 :: .int x :: L) st G Q = (XW ms d k es (a0 :: a1 :: a2 :: .int x :: L) (.int x :: st) G Q)) ∧
  (∀ (ms : Nat → XM) (d : Nat) (k : Nat) (pc : Nat) (es : List (Nat × XI)) (L : List Value) (st : List Value) (G : XG) (Q : (Option Value ⊕ Nat) → XG → Prop) (a0 a1 a2 a3 : Value) (x : Int32), XW ms d k ((pc, i_ild 4) :: es) (a0 :: a1 :: a2 :: a3 :: .int x :: L) st G Q = (XW ms d k es (a0 :: a1 :: a2 :: a3 :: .int x :: L) (.int x :: st) G Q)) ∧
  (∀ (ms : Nat → XM) (d : Nat) (k : Nat) (pc : Nat) (es : List (Nat × XI)) (L : List Value) (st : List Value) (G : XG) (Q : (Option Value ⊕ Nat) → XG → Prop) (a0 a1 a2 a3 a4 : Value) (x : Int32), XW ms d k ((pc, i_ild 5) :: es) (a0 :: a1 :: a2 :: a3 :: a4 :: .int x :: L) st G Q = (XW ms d k es (a0 :: a1 :: a2 :: a3 :: a4 :: .int x :: L) (.int x :: st) G Q)) ∧
  (∀ (ms : Nat → XM) (d : Nat) (k : Nat) (pc : Nat) (es : List (Nat × XI)) (L : List Value) (st : List Value) (G : XG) (Q : (Option Value ⊕ Nat) → XG → Prop) (a0 a1 a2 a3 a4 a5 : Value) (x : Int32), XW ms d k ((pc, i_ild 6) :: es) (a0 :: a1 :: a2 :: a3 :: a4 :: a5 :: .int x :: L) st G Q = (XW ms d k es (a0 :: a1 :: a2 :: a3 :: a4 :: a5 :: .int x :: L) (.int x :: st) G Q)) ∧
  (∀ (ms : Nat → XM) (d : Nat) (k : Nat) (pc : Nat) (es : List (Nat × XI)) (L : List Value) (st : List Value) (G : XG) (Q : (Option Value ⊕ Nat) → XG → Prop) (a0 a1 a2 a3 a4 a5 a6 : Value) (x : Int32), XW ms d k ((pc, i_ild 7) :: es) (a0 :: a1 :: a2 :: a3 :: a4 :: a5 :: a6 :: .int x :: L) st G Q = (XW ms d k es (a0 :: a1 :: a2 :: a3 :: a4 :: a5 :: a6 :: .int x :: L) (.int x :: st) G Q)) ∧
  (∀ (ms : Nat → XM) (d : Nat) (k : Nat) (pc : Nat) (es : List (Nat × XI)) (L : List Value) (st : List Value) (G : XG) (Q : (Option Value ⊕ Nat) → XG → Prop) (a0 a1 a2 a3 a4 a5 a6 a7 : Value) (x : Int32), XW ms d k ((pc, i_ild 8) :: es) (a0 :: a1 :: a2 :: a3 :: a4 :: a5 :: a6 :: a7 :: .int x :: L) st G Q = (XW ms d k es (a0 :: a1 :: a2 :: a3 :: a4 :: a5 :: a6 :: a7 :: .int x :: L) (.int x :: st) G Q)) ∧
  (∀ (ms : Nat → XM) (d : Nat) (k : Nat) (pc : Nat) (es : List (Nat × XI)) (L : List Value) (st : List Value) (G : XG) (Q : (Option Value ⊕ Nat) → XG → Prop) (a0 a1 a2 a3 a4 a5 a6 a7 a8 : Value) (x : Int32), XW ms d k ((pc, i_ild 9) :: es) (a0 :: a1 :: a2 :: a3 :: a4 :: a5 :: a6 :: a7 :: a8 :: .int x :: L) st G Q = (XW ms d k es (a0 :: a1 :: a2 :: a3 :: a4 :: a5 :: a6 :: a7 :: a8 :: .int x :: L) (.int x :: st) G Q)) ∧
  (∀ (ms : Nat → XM) (d : Nat) (k : Nat) (pc : Nat) (es : List (Nat × XI)) (L : List Value) (st : List Value) (G : XG) (Q : (Option Value ⊕ Nat) → XG → Prop) (a0 a1 a2 a3 a4 a5 a6 a7 a8 a9 : Value) (x : Int32), XW ms d k ((pc, i_ild 10) :: es) (a0 :: a1 :: a2 :: a3 :: a4 :: a5 :: a6 :: a7 :: a8 :: a9 :: .int x :: L) st G Q = (XW ms d k es (a0 :: a1 :: a2 :: a3 :: a4 :: a5 :: a6 :: a7 :: a8 :: a9 :: .int x :: L) (.int x :: st) G Q)) ∧
  (∀ (ms : Nat → XM) (d : Nat) (k : Nat) (pc : Nat) (es : List (Nat × XI)) (L : List Value) (st : List Value) (G : XG) (Q : (Option Value ⊕ Nat) → XG → Prop) (a0 a1 a2 a3 a4 a5 a6 a7 a8 a9 a10 : Value) (x : Int32), XW ms d k ((pc, i_ild 11) :: es) (a0 :: a1 :: a2 :: a3 :: a4 :: a5 :: a6 :: a7 :: a8 :: a9 :: a10 :: .int x :: L) st G Q = (XW ms d k es (a0 :: a1 :: a2 :: a3 :: a4 :: a5 :: a6 :: a7 :: a8 :: a9 :: a10 :: .int x :: L) (.int x :: st) G Q)) ∧
  (∀ (ms : Nat → XM) (d : Nat) (k : Nat) (pc : Nat) (es : List (Nat × XI)) (L : List Value) (st : List Value) (G : XG) (Q : (Option Value ⊕ Nat) → XG → Prop) (a0 a1 a2 a3 a4 a5 a6 a7 a8 a9 a10 a11 : Value) (x : Int32), XW ms d k ((pc, i_ild 12) :: es) (a0 :: a1 :: a2 :: a3 :: a4 :: a5 :: a6 :: a7 :: a8 :: a9 :: a10 :: a11 :: .int x :: L) st G Q = (XW ms d k es (a0 :: a1 :: a2 :: a3 :: a4 :: a5 :: a6 :: a7 :: a8 :: a9 :: a10 :: a11 :: .int x :: L) (.int x :: st) G Q)) ∧
  (∀ (ms : Nat → XM) (d : Nat) (k : Nat) (pc : Nat) (es : List (Nat × XI)) (L : List Value) (st : List Value) (G : XG) (Q : (Option Value ⊕ Nat) → XG → Prop) (x : Int64), XW ms d k ((pc, i_lld 0) :: es) (.long x :: L) st G Q = (XW ms d k es (.long x :: L) (.long x :: st) G Q)) ∧
  (∀ (ms : Nat → XM) (d : Nat) (k : Nat) (pc : Nat) (es : List (Nat × XI)) (L : List Value) (st : List Value) (G : XG) (Q : (Option Value ⊕ Nat) → XG → Prop) (a0 : Value) (x : Int64), XW ms d k ((pc, i_lld 1) :: es) (a0 :: .long x :: L) st G Q = (XW ms d k es (a0 :: .long x :: L) (.long x :: st) G Q)) ∧
  (∀ (ms : Nat → XM) (d : Nat) (k : Nat) (pc : Nat) (es : List (Nat × XI)) (L : List Value) (st : List Value) (G : XG) (Q : (Option Value ⊕ Nat) → XG → Prop) (a0 a1 : Value) (x : Int64), XW ms d k ((pc, i_lld 2) :: es) (a0 :: a1 :: .long x :: L) st G Q = (XW ms d k es (a0 :: a1 :: .long x :: L) (.long x :: st) G Q)) ∧
  (∀ (ms : Nat → XM) (d : Nat) (k : Nat) (pc : Nat) (es : List (Nat × XI)) (L : List Value) (st : List Value) (G : XG) (Q : (Option Value ⊕ Nat) → XG → Prop) (a0 a1 a2 : Value) (x : Int64), XW ms d k ((pc, i_lld 3) :: es) (a0 :: a1 :: a2 :: .long x :: L) st G Q = (XW ms d k es (a0 :: a1 :: a2 :: .long x :: L) (.long x :: st) G Q)) ∧
  (∀ (ms : Nat → XM) (d : Nat) (k : Nat) (pc : Nat) (es : List (Nat × XI)) (L : List Value) (st : List Value) (G : XG) (Q : (Option Value ⊕ Nat) → XG → Prop) (a0 a1 a2 a3 : Value) (x : Int64), XW ms d k ((pc, i_lld 4) :: es) (a0 :: a1 :: a2 :: a3 :: .long x :: L) st G Q = (XW ms d k es (a0 :: a1 :: a2 :: a3 :: .long x :: L) (.long x :: st) G Q)) ∧
  (∀ (ms : Nat → XM) (d : Nat) (k : Nat) (pc : Nat) (es : List (Nat × XI)) (L : List Value) (st : List Value) (G : XG) (Q : (Option Value ⊕ Nat) → XG → Prop) (a0 a1 a2 a3 a4 : Value) (x : Int64), XW ms d k ((pc, i_lld 5) :: es) (a0 :: a1 :: a2 :: a3 :: a4 :: .long x :: L) st G Q = (XW ms d k es (a0 :: a1 :: a2 :: a3 :: a4 :: .long x :: L) (.long x :: st) G Q)) ∧
  (∀ (ms : Nat → XM) (d : Nat) (k : Nat) (pc : Nat) (es : List (Nat × XI)) (L : List Value) (st : List Value) (G : XG) (Q : (Option Value ⊕ Nat) → XG → Prop) (a0 a1 a2 a3 a4 a5 : Value) (x : Int64), XW ms d k ((pc, i_lld 6) :: es) (a0 :: a1 :: a2 :: a3 :: a4 :: a5 :: .long x :: L) st G Q = (XW ms d k es (a0 :: a1 :: a2 :: a3 :: a4 :: a5 :: .long x :: L) (.long x :: st) G Q)) ∧
  (∀ (ms : Nat → XM) (d : Nat) (k : Nat) (pc : Nat) (es : List (Nat × XI)) (L : List Value) (st : List Value) (G : XG) (Q : (Option Value ⊕ Nat) → XG → Prop) (a0 a1 a2 a3 a4 a5 a6 : Value) (x : Int64), XW ms d k ((pc, i_lld 7) :: es) (a0 :: a1 :: a2 :: a3 :: a4 :: a5 :: a6 :: .long x :: L) st G Q = (XW ms d k es (a0 :: a1 :: a2 :: a3 :: a4 :: a5 :: a6 :: .long x :: L) (.long x :: st) G Q)) ∧
  (∀ (ms : Nat → XM) (d : Nat) (k : Nat) (pc : Nat) (es : List (Nat × XI)) (L : List Value) (st : List Value) (G : XG) (Q : (Option Value ⊕ Nat) → XG → Prop) (a0 a1 a2 a3 a4 a5 a6 a7 : Value) (x : Int64), XW ms d k ((pc, i_lld 8) :: es) (a0 :: a1 :: a2 :: a3 :: a4 :: a5 :: a6 :: a7 :: .long x :: L) st G Q = (XW ms d k es (a0 :: a1 :: a2 :: a3 :: a4 :: a5 :: a6 :: a7 :: .long x :: L) (.long x :: st) G Q)) ∧
  (∀ (ms : Nat → XM) (d : Nat) (k : Nat) (pc : Nat) (es : List (Nat × XI)) (L : List Value) (st : List Value) (G : XG) (Q : (Option Value ⊕ Nat) → XG → Prop) (a0 a1 a2 a3 a4 a5 a6 a7 a8 : Value) (x : Int64), XW ms d k ((pc, i_lld 9) :: es) (a0 :: a1 :: a2 :: a3 :: a4 :: a5 :: a6 :: a7 :: a8 :: .long x :: L) st G Q = (XW ms d k es (a0 :: a1 :: a2 :: a3 :: a4 :: a5 :: a6 :: a7 :: a8 :: .long x :: L) (.long x :: st) G Q)) ∧
  (∀ (ms : Nat → XM) (d : Nat) (k : Nat) (pc : Nat) (es : List (Nat × XI)) (L : List Value) (st : List Value) (G : XG) (Q : (Option Value ⊕ Nat) → XG → Prop) (a0 a1 a2 a3 a4 a5 a6 a7 a8 a9 : Value) (x : Int64), XW ms d k ((pc, i_lld 10) :: es) (a0 :: a1 :: a2 :: a3 :: a4 :: a5 :: a6 :: a7 :: a8 :: a9 :: .long x :: L) st G Q = (XW ms d k es (a0 :: a1 :: a2 :: a3 :: a4 :: a5 :: a6 :: a7 :: a8 :: a9 :: .long x :: L) (.long x :: st) G Q)) ∧
  (∀ (ms : Nat → XM) (d : Nat) (k : Nat) (pc : Nat) (es : List (Nat × XI)) (L : List Value) (st : List Value) (G : XG) (Q : (Option Value ⊕ Nat) → XG → Prop) (a0 a1 a2 a3 a4 a5 a6 a7 a8 a9 a10 : Value) (x : Int64), XW ms d k ((pc, i_lld 11) :: es) (a0 :: a1 :: a2 :: a3 :: a4 :: a5 :: a6 :: a7 :: a8 :: a9 :: a10 :: .long x :: L) st G Q = (XW ms d k es (a0 :: a1 :: a2 :: a3 :: a4 :: a5 :: a6 :: a7 :: a8 :: a9 :: a10 :: .long x :: L) (.long x :: st) G Q)) ∧
  (∀ (ms : Nat → XM) (d : Nat) (k : Nat) (pc : Nat) (es : List (Nat × XI)) (L : List Value) (st : List Value) (G : XG) (Q : (Option Value ⊕ Nat) → XG → Prop) (a0 a1 a2 a3 a4 a5 a6 a7 a8 a9 a10 a11 : Value) (x : Int64), XW ms d k ((pc, i_lld 12) :: es) (a0 :: a1 :: a2 :: a3 :: a4 :: a5 :: a6 :: a7 :: a8 :: a9 :: a10 :: a11 :: .long x :: L) st G Q = (XW ms d k es (a0 :: a1 :: a2 :: a3 :: a4 :: a5 :: a6 :: a7 :: a8 :: a9 :: a10 :: a11 :: .long x :: L) (.long x :: st) G Q)) ∧
  (∀ (ms : Nat → XM) (d : Nat) (k : Nat) (pc : Nat) (es : List (Nat × XI)) (L : List Value) (st : List Value) (G : XG) (Q : (Option Value ⊕ Nat) → XG → Prop) (x : Nat), XW ms d k ((pc, i_ald 0) :: es) (.ref x :: L) st G Q = (XW ms d k es (.ref x :: L) (.ref x :: st) G Q)) ∧
  (∀ (ms : Nat → XM) (d : Nat) (k : Nat) (pc : Nat) (es : List (Nat × XI)) (L : List Value) (st : List Value) (G : XG) (Q : (Option Value ⊕ Nat) → XG → Prop) (a0 : Value) (x : Nat), XW ms d k ((pc, i_ald 1) :: es) (a0 :: .ref x :: L) st G Q = (XW ms d k es (a0 :: .ref x :: L) (.ref x :: st) G Q)) ∧
  (∀ (ms : Nat → XM) (d : Nat) (k : Nat) (pc : Nat) (es : List (Nat × XI)) (L : List Value) (st : List Value) (G : XG) (Q : (Option Value ⊕ Nat) → XG → Prop) (a0 a1 : Value) (x : Nat), XW ms d k ((pc, i_ald 2) :: es) (a0 :: a1 :: .ref x :: L) st G Q = (XW ms d k es (a0 :: a1 :: .ref x :: L) (.ref x :: st) G Q)) ∧
  (∀ (ms : Nat → XM) (d : Nat) (k : Nat) (pc : Nat) (es : List (Nat × XI)) (L : List Value) (st : List Value) (G : XG) (Q : (Option Value ⊕ Nat) → XG → Prop) (a0 a1 a2 : Value) (x : Nat), XW ms d k ((pc, i_ald 3) :: es) (a0 :: a1 :: a2 :: .ref x :: L) st G Q = (XW ms d k es (a0 :: a1 :: a2 :: .ref x :: L) (.ref x :: st) G Q)) ∧
  (∀ (ms : Nat → XM) (d : Nat) (k : Nat) (pc : Nat) (es : List (Nat × XI)) (L : List Value) (st : List Value) (G : XG) (Q : (Option Value ⊕ Nat) → XG → Prop) (a0 a1 a2 a3 : Value) (x : Nat), XW ms d k ((pc, i_ald 4) :: es) (a0 :: a1 :: a2 :: a3 :: .ref x :: L) st G Q = (XW ms d k es (a0 :: a1 :: a2 :: a3 :: .ref x :: L) (.ref x :: st) G Q)) ∧
  (∀ (ms : Nat → XM) (d : Nat) (k : Nat) (pc : Nat) (es : List (Nat × XI)) (L : List Value) (st : List Value) (G : XG) (Q : (Option Value ⊕ Nat) → XG → Prop) (a0 a1 a2 a3 a4 : Value) (x : Nat), XW ms d k ((pc, i_ald 5) :: es) (a0 :: a1 :: a2 :: a3 :: a4 :: .ref x :: L) st G Q = (XW ms d k es (a0 :: a1 :: a2 :: a3 :: a4 :: .ref x :: L) (.ref x :: st) G Q)) ∧
  (∀ (ms : Nat → XM) (d : Nat) (k : Nat) (pc : Nat) (es : List (Nat × XI)) (L : List Value) (st : List Value) (G : XG) (Q : (Option Value ⊕ Nat) → XG → Prop) (a0 a1 a2 a3 a4 a5 : Value) (x : Nat), XW ms d k ((pc, i_ald 6) :: es) (a0 :: a1 :: a2 :: a3 :: a4 :: a5 :: .ref x :: L) st G Q = (XW ms d k es (a0 :: a1 :: a2 :: a3 :: a4 :: a5 :: .ref x :: L) (.ref x :: st) G Q)) ∧
  (∀ (ms : Nat → XM) (d : Nat) (k : Nat) (pc : Nat) (es : List (Nat × XI)) (L : List Value) (st : List Value) (G : XG) (Q : (Option Value ⊕ Nat) → XG → Prop) (a0 a1 a2 a3 a4 a5 a6 : Value) (x : Nat), XW ms d k ((pc, i_ald 7) :: es) (a0 :: a1 :: a2 :: a3 :: a4 :: a5 :: a6 :: .ref x :: L) st G Q = (XW ms d k es (a0 :: a1 :: a2 :: a3 :: a4 :: a5 :: a6 :: .ref x :: L) (.ref x :: st) G Q)) ∧
  (∀ (ms : Nat → XM) (d : Nat) (k : Nat) (pc : Nat) (es : List (Nat × XI)) (L : List Value) (st : List Value) (G : XG) (Q : (Option Value ⊕ Nat) → XG → Prop) (a0 a1 a2 a3 a4 a5 a6 a7 : Value) (x : Nat), XW ms d k ((pc, i_ald 8) :: es) (a0 :: a1 :: a2 :: a3 :: a4 :: a5 :: a6 :: a7 :: .ref x :: L) st G Q = (XW ms d k es (a0 :: a1 :: a2 :: a3 :: a4 :: a5 :: a6 :: a7 :: .ref x :: L) (.ref x :: st) G Q)) ∧
  (∀ (ms : Nat → XM) (d : Nat) (k : Nat) (pc : Nat) (es : List (Nat × XI)) (L : List Value) (st : List Value) (G : XG) (Q : (Option Value ⊕ Nat) → XG → Prop) (a0 a1 a2 a3 a4 a5 a6 a7 a8 : Value) (x : Nat), XW ms d k ((pc, i_ald 9) :: es) (a0 :: a1 :: a2 :: a3 :: a4 :: a5 :: a6 :: a7 :: a8 :: .ref x :: L) st G Q = (XW ms d k es (a0 :: a1 :: a2 :: a3 :: a4 :: a5 :: a6 :: a7 :: a8 :: .ref x :: L) (.ref x :: st) G Q)) ∧
  (∀ (ms : Nat → XM) (d : Nat) (k : Nat) (pc : Nat) (es : List (Nat × XI)) (L : List Value) (st : List Value) (G : XG) (Q : (Option Value ⊕ Nat) → XG → Prop) (a0 a1 a2 a3 a4 a5 a6 a7 a8 a9 : Value) (x : Nat), XW ms d k ((pc, i_ald 10) :: es) (a0 :: a1 :: a2 :: a3 :: a4 :: a5 :: a6 :: a7 :: a8 :: a9 :: .ref x :: L) st G Q = (XW ms d k es (a0 :: a1 :: a2 :: a3 :: a4 :: a5 :: a6 :: a7 :: a8 :: a9 :: .ref x :: L) (.ref x :: st) G Q)) ∧
  (∀ (ms : Nat → XM) (d : Nat) (k : Nat) (pc : Nat) (es : List (Nat × XI)) (L : List Value) (st : List Value) (G : XG) (Q : (Option Value ⊕ Nat) → XG → Prop) (a0 a1 a2 a3 a4 a5 a6 a7 a8 a9 a10 : Value) (x : Nat), XW ms d k ((pc, i_ald 11) :: es) (a0 :: a1 :: a2 :: a3 :: a4 :: a5 :: a6 :: a7 :: a8 :: a9 :: a10 :: .ref x :: L) st G Q = (XW ms d k es (a0 :: a1 :: a2 :: a3 :: a4 :: a5 :: a6 :: a7 :: a8 :: a9 :: a10 :: .ref x :: L) (.ref x :: st) G Q)) ∧
  (∀ (ms : Nat → XM) (d : Nat) (k : Nat) (pc : Nat) (es : List (Nat × XI)) (L : List Value) (st : List Value) (G : XG) (Q : (Option Value ⊕ Nat) → XG → Prop) (a0 a1 a2 a3 a4 a5 a6 a7 a8 a9 a10 a11 : Value) (x : Nat), XW ms d k ((pc, i_ald 12) :: es) (a0 :: a1 :: a2 :: a3 :: a4 :: a5 :: a6 :: a7 :: a8 :: a9 :: a10 :: a11 :: .ref x :: L) st G Q = (XW ms d k es (a0 :: a1 :: a2 :: a3 :: a4 :: a5 :: a6 :: a7 :: a8 :: a9 :: a10 :: a11 :: .ref x :: L) (.ref x :: st) G Q)) ∧
  (∀ (ms : Nat → XM) (d : Nat) (k : Nat) (pc : Nat) (es : List (Nat × XI)) (L : List Value) (st : List Value) (G : XG) (Q : (Option Value ⊕ Nat) → XG → Prop), XW ms d k ((pc, i_ald 0) :: es) (.null :: L) st G Q = (XW ms d k es (.null :: L) (.null :: st) G Q)) ∧
  (∀ (ms : Nat → XM) (d : Nat) (k : Nat) (pc : Nat) (es : List (Nat × XI)) (L : List Value) (st : List Value) (G : XG) (Q : (Option Value ⊕ Nat) → XG → Prop) (a0 : Value), XW ms d k ((pc, i_ald 1) :: es) (a0 :: .null :: L) st G Q = (XW ms d k es (a0 :: .null :: L) (.null :: st) G Q)) ∧
  (∀ (ms : Nat → XM) (d : Nat) (k : Nat) (pc : Nat) (es : List (Nat × XI)) (L : List Value) (st : List Value) (G : XG) (Q : (Option Value ⊕ Nat) → XG → Prop) (a0 a1 : Value), XW ms d k ((pc, i_ald 2) :: es) (a0 :: a1 :: .null :: L) st G Q = (XW ms d k es (a0 :: a1 :: .null :: L) (.null :: st) G Q)) ∧
  (∀ (ms : Nat → XM) (d : Nat) (k : Nat) (pc : Nat) (es : List (Nat × XI)) (L : List Value) (st : List Value) (G : XG) (Q : (Option Value ⊕ Nat) → XG → Prop) (a0 a1 a2 : Value), XW ms d k ((pc, i_ald 3) :: es) (a0 :: a1 :: a2 :: .null :: L) st G Q = (XW ms d k es (a0 :: a1 :: a2 :: .null :: L) (.null :: st) G Q)) ∧
  (∀ (ms : Nat → XM) (d : Nat) (k : Nat) (pc : Nat) (es : List (Nat × XI)) (L : List Value) (st : List Value) (G : XG) (Q : (Option Value ⊕ Nat) → XG → Prop) (a0 a1 a2 a3 : Value), XW ms d k ((pc, i_ald 4) :: es) (a0 :: a1 :: a2 :: a3 :: .null :: L) st G Q = (XW ms d k es (a0 :: a1 :: a2 :: a3 :: .null :: L) (.null :: st) G Q)) ∧
  (∀ (ms : Nat → XM) (d : Nat) (k : Nat) (pc : Nat) (es : List (Nat × XI)) (L : List Value) (st : List Value) (G : XG) (Q : (Option Value ⊕ Nat) → XG → Prop) (a0 a1 a2 a3 a4 : Value), XW ms d k ((pc, i_ald 5) :: es) (a0 :: a1 :: a2 :: a3 :: a4 :: .null :: L) st G Q = (XW ms d k es (a0 :: a1 :: a2 :: a3 :: a4 :: .null :: L) (.null :: st) G Q)) ∧
  (∀ (ms : Nat → XM) (d : Nat) (k : Nat) (pc : Nat) (es : List (Nat × XI)) (L : List Value) (st : List Value) (G : XG) (Q : (Option Value ⊕ Nat) → XG → Prop) (a0 a1 a2 a3 a4 a5 : Value), XW ms d k ((pc, i_ald 6) :: es) (a0 :: a1 :: a2 :: a3 :: a4 :: a5 :: .null :: L) st G Q = (XW ms d k es (a0 :: a1 :: a2 :: a3 :: a4 :: a5 :: .null :: L) (.null :: st) G Q)) ∧
  (∀ (ms : Nat → XM) (d : Nat) (k : Nat) (pc : Nat) (es : List (Nat × XI)) (L : List Value) (st : List Value) (G : XG) (Q : (Option Value ⊕ Nat) → XG → Prop) (a0 a1 a2 a3 a4 a5 a6 : Value), XW ms d k ((pc, i_ald 7) :: es) (a0 :: a1 :: a2 :: a3 :: a4 :: a5 :: a6 :: .null :: L) st G Q = (XW ms d k es (a0 :: a1 :: a2 :: a3 :: a4 :: a5 :: a6 :: .null :: L) (.null :: st) G Q)) ∧
  (∀ (ms : Nat → XM) (d : Nat) (k : Nat) (pc : Nat) (es : List (Nat × XI)) (L : List Value) (st : List Value) (G : XG) (Q : (Option Value ⊕ Nat) → XG → Prop) (a0 a1 a2 a3 a4 a5 a6 a7 : Value), XW ms d k ((pc, i_ald 8) :: es) (a0 :: a1 :: a2 :: a3 :: a4 :: a5 :: a6 :: a7 :: .null :: L) st G Q = (XW ms d k es (a0 :: a1 :: a2 :: a3 :: a4 :: a5 :: a6 :: a7 :: .null :: L) (.null :: st) G Q)) ∧
  (∀ (ms : Nat → XM) (d : Nat) (k : Nat) (pc : Nat) (es : List (Nat × XI)) (L : List Value) (st : List Value) (G : XG) (Q : (Option Value ⊕ Nat) → XG → Prop) (a0 a1 a2 a3 a4 a5 a6 a7 a8 : Value), XW ms d k ((pc, i_ald 9) :: es) (a0 :: a1 :: a2 :: a3 :: a4 :: a5 :: a6 :: a7 :: a8 :: .null :: L) st G Q = (XW ms d k es (a0 :: a1 :: a2 :: a3 :: a4 :: a5 :: a6 :: a7 :: a8 :: .null :: L) (.null :: st) G Q)) ∧
  (∀ (ms : Nat → XM) (d : Nat) (k : Nat) (pc : Nat) (es : List (Nat × XI)) (L : List Value) (st : List Value) (G : XG) (Q : (Option Value ⊕ Nat) → XG → Prop) (a0 a1 a2 a3 a4 a5 a6 a7 a8 a9 : Value), XW ms d k ((pc, i_ald 10) :: es) (a0 :: a1 :: a2 :: a3 :: a4 :: a5 :: a6 :: a7 :: a8 :: a9 :: .null :: L) st G Q = (XW ms d k es (a0 :: a1 :: a2 :: a3 :: a4 :: a5 :: a6 :: a7 :: a8 :: a9 :: .null :: L) (.null :: st) G Q)) ∧
  (∀ (ms : Nat → XM) (d : Nat) (k : Nat) (pc : Nat) (es : List (Nat × XI)) (L : List Value) (st : List Value) (G : XG) (Q : (Option Value ⊕ Nat) → XG → Prop) (a0 a1 a2 a3 a4 a5 a6 a7 a8 a9 a10 : Value), XW ms d k ((pc, i_ald 11) :: es) (a0 :: a1 :: a2 :: a3 :: a4 :: a5 :: a6 :: a7 :: a8 :: a9 :: a10 :: .null :: L) st G Q = (XW ms d k es (a0 :: a1 :: a2 :: a3 :: a4 :: a5 :: a6 :: a7 :: a8 :: a9 :: a10 :: .null :: L) (.null :: st) G Q)) ∧
  (∀ (ms : Nat → XM) (d : Nat) (k : Nat) (pc : Nat) (es : List (Nat × XI)) (L : List Value) (st : List Value) (G : XG) (Q : (Option Value ⊕ Nat) → XG → Prop) (a0 a1 a2 a3 a4 a5 a6 a7 a8 a9 a10 a11 : Value), XW ms d k ((pc, i_ald 12) :: es) (a0 :: a1 :: a2 :: a3 :: a4 :: a5 :: a6 :: a7 :: a8 :: a9 :: a10 :: a11 :: .null :: L) st G Q = (XW ms d k es (a0 :: a1 :: a2 :: a3 :: a4 :: a5 :: a6 :: a7 :: a8 :: a9 :: a10 :: a11 :: .null :: L) (.null :: st) G Q)) ∧
  (∀ (ms : Nat → XM) (d : Nat) (k : Nat) (pc : Nat) (es : List (Nat × XI)) (L : List Value) (st : List Value) (G : XG) (Q : (Option Value ⊕ Nat) → XG → Prop) (x : Option Nat), XW ms d k ((pc, i_ald 0) :: es) (va_rf x :: L) st G Q = (XW ms d k es (va_rf x :: L) (va_rf x :: st) G Q)) ∧
  (∀ (ms : Nat → XM) (d : Nat) (k : Nat) (pc : Nat) (es : List (Nat × XI)) (L : List Value) (st : List Value) (G : XG) (Q : (Option Value ⊕ Nat) → XG → Prop) (a0 : Value) (x : Option Nat), XW ms d k ((pc, i_ald 1) :: es) (a0 :: va_rf x :: L) st G Q = (XW ms d k es (a0 :: va_rf x :: L) (va_rf x :: st) G Q)) ∧
  (∀ (ms : Nat → XM) (d : Nat) (k : Nat) (pc : Nat) (es : List (Nat × XI)) (L : List Value) (st : List Value) (G : XG) (Q : (Option Value ⊕ Nat) → XG → Prop) (a0 a1 : Value) (x : Option Nat), XW ms d k ((pc, i_ald 2) :: es) (a0 :: a1 :: va_rf x :: L) st G Q = (XW ms d k es (a0 :: a1 :: va_rf x :: L) (va_rf x :: st) G Q)) ∧
  (∀ (ms : Nat → XM) (d : Nat) (k : Nat) (pc : Nat) (es : List (Nat × XI)) (L : List Value) (st : List Value) (G : XG) (Q : (Option Value ⊕ Nat) → XG → Prop) (a0 a1 a2 : Value) (x : Option Nat), XW ms d k ((pc, i_ald 3) :: es) (a0 :: a1 :: a2 :: va_rf x :: L) st G Q = (XW ms d k es (a0 :: a1 :: a2 :: va_rf x :: L) (va_rf x :: st) G Q)) ∧
  (∀ (ms : Nat → XM) (d : Nat) (k : Nat) (pc : Nat) (es : List (Nat × XI)) (L : List Value) (st : List Value) (G : XG) (Q : (Option Value ⊕ Nat) → XG → Prop) (a0 a1 a2 a3 : Value) (x : Option Nat), XW ms d k ((pc, i_ald 4) :: es) (a0 :: a1 :: a2 :: a3 :: va_rf x :: L) st G Q = (XW ms d k es (a0 :: a1 :: a2 :: a3 :: va_rf x :: L) (va_rf x :: st) G Q)) ∧
  (∀ (ms : Nat → XM) (d : Nat) (k : Nat) (pc : Nat) (es : List (Nat × XI)) (L : List Value) (st : List Value) (G : XG) (Q : (Option Value ⊕ Nat) → XG → Prop) (a0 a1 a2 a3 a4 : Value) (x : Option Nat), XW ms d k ((pc, i_ald 5) :: es) (a0 :: a1 :: a2 :: a3 :: a4 :: va_rf x :: L) st G Q = (XW ms d k es (a0 :: a1 :: a2 :: a3 :: a4 :: va_rf x :: L) (va_rf x :: st) G Q)) ∧
  (∀ (ms : Nat → XM) (d : Nat) (k : Nat) (pc : Nat) (es : List (Nat × XI)) (L : List Value) (st : List Value) (G : XG) (Q : (Option Value ⊕ Nat) → XG → Prop) (a0 a1 a2 a3 a4 a5 : Value) (x : Option Nat), XW ms d k ((pc, i_ald 6) :: es) (a0 :: a1 :: a2 :: a3 :: a4 :: a5 :: va_rf x :: L) st G Q = (XW ms d k es (a0 :: a1 :: a2 :: a3 :: a4 :: a5 :: va_rf x :: L) (va_rf x :: st) G Q)) ∧
  (∀ (ms : Nat → XM) (d : Nat) (k : Nat) (pc : Nat) (es : List (Nat × XI)) (L : List Value) (st : List Value) (G : XG) (Q : (Option Value ⊕ Nat) → XG → Prop) (a0 a1 a2 a3 a4 a5 a6 : Value) (x : Option Nat), XW ms d k ((pc, i_ald 7) :: es) (a0 :: a1 :: a2 :: a3 :: a4 :: a5 :: a6 :: va_rf x :: L) st G Q = (XW ms d k es (a0 :: a1 :: a2 :: a3 :: a4 :: a5 :: a6 :: va_rf x :: L) (va_rf x :: st) G Q)) ∧
  (∀ (ms : Nat → XM) (d : Nat) (k : Nat) (pc : Nat) (es : List (Nat × XI)) (L : List Value) (st : List Value) (G : XG) (Q : (Option Value ⊕ Nat) → XG → Prop) (a0 a1 a2 a3 a4 a5 a6 a7 : Value) (x : Option Nat), XW ms d k ((pc, i_ald 8) :: es) (a0 :: a1 :: a2 :: a3 :: a4 :: a5 :: a6 :: a7 :: va_rf x :: L) st G Q = (XW ms d k es (a0 :: a1 :: a2 :: a3 :: a4 :: a5 :: a6 :: a7 :: va_rf x :: L) (va_rf x :: st) G Q)) ∧
  (∀ (ms : Nat → XM) (d : Nat) (k : Nat) (pc : Nat) (es : List (Nat × XI)) (L : List Value) (st : List Value) (G : XG) (Q : (Option Value ⊕ Nat) → XG → Prop) (a0 a1 a2 a3 a4 a5 a6 a7 a8 : Value) (x : Option Nat), XW ms d k ((pc, i_ald 9) :: es) (a0 :: a1 :: a2 :: a3 :: a4 :: a5 :: a6 :: a7 :: a8 :: va_rf x :: L) st G Q = (XW ms d k es (a0 :: a1 :: a2 :: a3 :: a4 :: a5 :: a6 :: a7 :: a8 :: va_rf x :: L) (va_rf x :: st) G Q)) ∧
  (∀ (ms : Nat → XM) (d : Nat) (k : Nat) (pc : Nat) (es : List (Nat × XI)) (L : List Value) (st : List Value) (G : XG) (Q : (Option Value ⊕ Nat) → XG → Prop) (a0 a1 a2 a3 a4 a5 a6 a7 a8 a9 : Value) (x : Option Nat), XW ms d k ((pc, i_ald 10) :: es) (a0 :: a1 :: a2 :: a3 :: a4 :: a5 :: a6 :: a7 :: a8 :: a9 :: va_rf x :: L) st G Q = (XW ms d k es (a0 :: a1 :: a2 :: a3 :: a4 :: a5 :: a6 :: a7 :: a8 :: a9 :: va_rf x :: L) (va_rf x :: st) G Q)) ∧
  (∀ (ms : Nat → XM) (d : Nat) (k : Nat) (pc : Nat) (es : List (Nat × XI)) (L : List Value) (st : List Value) (G : XG) (Q : (Option Value ⊕ Nat) → XG → Prop) (a0 a1 a2 a3 a4 a5 a6 a7 a8 a9 a10 : Value) (x : Option Nat), XW ms d k ((pc, i_ald 11) :: es) (a0 :: a1 :: a2 :: a3 :: a4 :: a5 :: a6 :: a7 :: a8 :: a9 :: a10 :: va_rf x :: L) st G Q = (XW ms d k es (a0 :: a1 :: a2 :: a3 :: a4 :: a5 :: a6 :: a7 :: a8 :: a9 :: a10 :: va_rf x :: L) (va_rf x :: st) G Q)) ∧
  (∀ (ms : Nat → XM) (d : Nat) (k : Nat) (pc : Nat) (es : List (Nat × XI)) (L : List Value) (st : List Value) (G : XG) (Q : (Option Value ⊕ Nat) → XG → Prop) (a0 a1 a2 a3 a4 a5 a6 a7 a8 a9 a10 a11 : Value) (x : Option Nat), XW ms d k ((pc, i_ald 12) :: es) (a0 :: a1 :: a2 :: a3 :: a4 :: a5 :: a6 :: a7 :: a8 :: a9 :: a10 :: a11 :: va_rf x :: L) st G Q = (XW ms d k es (a0 :: a1 :: a2 :: a3 :: a4 :: a5 :: a6 :: a7 :: a8 :: a9 :: a10 :: a11 :: va_rf x :: L) (va_rf x :: st) G Q)) ∧
  (∀ (ms : Nat → XM) (d : Nat) (k : Nat) (pc : Nat) (es : List (Nat × XI)) (L : List Value) (st : List Value) (G : XG) (Q : (Option Value ⊕ Nat) → XG → Prop) (b : Value) (x : Int32), XW ms d k ((pc, i_ist 0) :: es) (b :: L) (.int x :: st) G Q = (XW ms d k es (.int x :: L) st G Q)) ∧
  (∀ (ms : Nat → XM) (d : Nat) (k : Nat) (pc : Nat) (es : List (Nat × XI)) (L : List Value) (st : List Value) (G : XG) (Q : (Option Value ⊕ Nat) → XG → Prop) (a0 : Value) (b : Value) (x : Int32) (h : a0.category = 1), XW ms d k ((pc, i_ist 1) :: es) (a0 :: b :: L) (.int x :: st) G Q = (XW ms d k es (a0 :: .int x :: L) st G Q)) ∧
  (∀ (ms : Nat → XM) (d : Nat) (k : Nat) (pc : Nat) (es : List (Nat × XI)) (L : List Value) (st : List Value) (G : XG) (Q : (Option Value ⊕ Nat) → XG → Prop) (a0 a1 : Value) (b : Value) (x : Int32) (h : a1.category = 1), XW ms d k ((pc, i_ist 2) :: es) (a0 :: a1 :: b :: L) (.int x :: st) G Q = (XW ms d k es (a0 :: a1 :: .int x :: L) st G Q)) ∧
  (∀ (ms : Nat → XM) (d : Nat) (k : Nat) (pc : Nat) (es : List (Nat × XI)) (L : List Value) (st : List Value) (G : XG) (Q : (Option Value ⊕ Nat) → XG → Prop) (a0 a1 a2 : Value) (b : Value) (x : Int32) (h : a2.category = 1), XW ms d k ((pc, i_ist 3) :: es) (a0 :: a1 :: a2 :: b :: L) (.int x :: st) G Q = (XW ms d k es (a0 :: a1 :: a2 :: .int x :: L) st G Q)) ∧
  (∀ (ms : Nat → XM) (d : Nat) (k : Nat) (pc : Nat) (es : List (Nat × XI)) (L : List Value) (st : List Value) (G : XG) (Q : (Option Value ⊕ Nat) → XG → Prop) (a0 a1 a2 a3 : Value) (b : Value) (x : Int32) (h : a3.category = 1), XW ms d k ((pc, i_ist 4) :: es) (a0 :: a1 :: a2 :: a3 :: b :: L) (.int x :: st) G Q = (XW ms d k es (a0 :: a1 :: a2 :: a3 :: .int x :: L) st G Q)) ∧
  (∀ (ms : Nat → XM) (d : Nat) (k : Nat) (pc : Nat) (es : List (Nat × XI)) (L : List Value) (st : List Value) (G : XG) (Q : (Option Value ⊕ Nat) → XG → Prop) (a0 a1 a2 a3 a4 : Value) (b : Value) (x : Int32) (h : a4.category = 1), XW ms d k ((pc, i_ist 5) :: es) (a0 :: a1 :: a2 :: a3 :: a4 :: b :: L) (.int x :: st) G Q = (XW ms d k es (a0 :: a1 :: a2 :: a3 :: a4 :: .int x :: L) st G Q)) ∧
  (∀ (ms : Nat → XM) (d : Nat) (k : Nat) (pc : Nat) (es : List (Nat × XI)) (L : List Value) (st : List Value) (G : XG) (Q : (Option Value ⊕ Nat) → XG → Prop) (a0 a1 a2 a3 a4 a5 : Value) (b : Value) (x : Int32) (h : a5.category = 1), XW ms d k ((pc, i_ist 6) :: es) (a0 :: a1 :: a2 :: a3 :: a4 :: a5 :: b :: L) (.int x :: st) G Q = (XW ms d k es (a0 :: a1 :: a2 :: a3 :: a4 :: a5 :: .int x :: L) st G Q)) ∧
  (∀ (ms : Nat → XM) (d : Nat) (k : Nat) (pc : Nat) (es : List (Nat × XI)) (L : List Value) (st : List Value) (G : XG) (Q : (Option Value ⊕ Nat) → XG → Prop) (a0 a1 a2 a3 a4 a5 a6 : Value) (b : Value) (x : Int32) (h : a6.category = 1), XW ms d k ((pc, i_ist 7) :: es) (a0 :: a1 :: a2 :: a3 :: a4 :: a5 :: a6 :: b :: L) (.int x :: st) G Q = (XW ms d k es (a0 :: a1 :: a2 :: a3 :: a4 :: a5 :: a6 :: .int x :: L) st G Q)) ∧
  (∀ (ms : Nat → XM) (d : Nat) (k : Nat) (pc : Nat) (es : List (Nat × XI)) (L : List Value) (st : List Value) (G : XG) (Q : (Option Value ⊕ Nat) → XG → Prop) (a0 a1 a2 a3 a4 a5 a6 a7 : Value) (b : Value) (x : Int32) (h : a7.category = 1), XW ms d k ((pc, i_ist 8) :: es) (a0 :: a1 :: a2 :: a3 :: a4 :: a5 :: a6 :: a7 :: b :: L) (.int x :: st) G Q = (XW ms d k es (a0 :: a1 :: a2 :: a3 :: a4 :: a5 :: a6 :: a7 :: .int x :: L) st G Q)) ∧
  (∀ (ms : Nat → XM) (d : Nat) (k : Nat) (pc : Nat) (es : List (Nat × XI)) (L : List Value) (st : List Value) (G : XG) (Q : (Option Value ⊕ Nat) → XG → Prop) (a0 a1 a2 a3 a4 a5 a6 a7 a8 : Value) (b : Value) (x : Int32) (h : a8.category = 1), XW ms d k ((pc, i_ist 9) :: es) (a0 :: a1 :: a2 :: a3 :: a4 :: a5 :: a6 :: a7 :: a8 :: b :: L) (.int x :: st) G Q = (XW ms d k es (a0 :: a1 :: a2 :: a3 :: a4 :: a5 :: a6 :: a7 :: a8 :: .int x :: L) st G Q)) ∧
  (∀ (ms : Nat → XM) (d : Nat) (k : Nat) (pc : Nat) (es : List (Nat × XI)) (L : List Value) (st : List Value) (G : XG) (Q : (Option Value ⊕ Nat) → XG → Prop) (a0 a1 a2 a3 a4 a5 a6 a7 a8 a9 : Value) (b : Value) (x : Int32) (h : a9.category = 1), XW ms d k ((pc, i_ist 10) :: es) (a0 :: a1 :: a2 :: a3 :: a4 :: a5 :: a6 :: a7 :: a8 :: a9 :: b :: L) (.int x :: st) G Q = (XW ms d k es (a0 :: a1 :: a2 :: a3 :: a4 :: a5 :: a6 :: a7 :: a8 :: a9 :: .int x :: L) st G Q)) ∧
  (∀ (ms : Nat → XM) (d : Nat) (k : Nat) (pc : Nat) (es : List (Nat × XI)) (L : List Value) (st : List Value) (G : XG) (Q : (Option Value ⊕ Nat) → XG → Prop) (a0 a1 a2 a3 a4 a5 a6 a7 a8 a9 a10 : Value) (b : Value) (x : Int32) (h : a10.category = 1), XW ms d k ((pc, i_ist 11) :: es) (a0 :: a1 :: a2 :: a3 :: a4 :: a5 :: a6 :: a7 :: a8 :: a9 :: a10 :: b :: L) (.int x :: st) G Q = (XW ms d k es (a0 :: a1 :: a2 :: a3 :: a4 :: a5 :: a6 :: a7 :: a8 :: a9 :: a10 :: .int x :: L) st G Q)) ∧
  (∀ (ms : Nat → XM) (d : Nat) (k : Nat) (pc : Nat) (es : List (Nat × XI)) (L : List Value) (st : List Value) (G : XG) (Q : (Option Value ⊕ Nat) → XG → Prop) (a0 a1 a2 a3 a4 a5 a6 a7 a8 a9 a10 a11 : Value) (b : Value) (x : Int32) (h : a11.category = 1), XW ms d k ((pc, i_ist 12) :: es) (a0 :: a1 :: a2 :: a3 :: a4 :: a5 :: a6 :: a7 :: a8 :: a9 :: a10 :: a11 :: b :: L) (.int x :: st) G Q = (XW ms d k es (a0 :: a1 :: a2 :: a3 :: a4 :: a5 :: a6 :: a7 :: a8 :: a9 :: a10 :: a11 :: .int x :: L) st G Q)) ∧
  (∀ (ms : Nat → XM) (d : Nat) (k : Nat) (pc : Nat) (es : List (Nat × XI)) (L : List Value) (st : List Value) (G : XG) (Q : (Option Value ⊕ Nat) → XG → Prop) (a0 a1 a2 a3 a4 a5 a6 a7 a8 a9 a10 a11 a12 : Value) (b : Value) (x : Int32) (h : a12.category = 1), XW ms d k ((pc, i_ist 13) :: es) (a0 :: a1 :: a2 :: a3 :: a4 :: a5 :: a6 :: a7 :: a8 :: a9 :: a10 :: a11 :: a12 :: b :: L) (.int x :: st) G Q = (XW ms d k es (a0 :: a1 :: a2 :: a3 :: a4 :: a5 :: a6 :: a7 :: a8 :: a9 :: a10 :: a11 :: a12 :: .int x :: L) st G Q)) ∧
  (∀ (ms : Nat → XM) (d : Nat) (k : Nat) (pc : Nat) (es : List (Nat × XI)) (L : List Value) (st : List Value) (G : XG) (Q : (Option Value ⊕ Nat) → XG → Prop) (b : Value) (x : Nat), XW ms d k ((pc, i_ast 0) :: es) (b :: L) (.ref x :: st) G Q = (XW ms d k es (.ref x :: L) st G Q)) ∧
  (∀ (ms : Nat → XM) (d : Nat) (k : Nat) (pc : Nat) (es : List (Nat × XI)) (L : List Value) (st : List Value) (G : XG) (Q : (Option Value ⊕ Nat) → XG → Prop) (a0 : Value) (b : Value) (x : Nat) (h : a0.category = 1), XW ms d k ((pc, i_ast 1) :: es) (a0 :: b :: L) (.ref x :: st) G Q = (XW ms d k es (a0 :: .ref x :: L) st G Q)) ∧
  (∀ (ms : Nat → XM) (d : Nat) (k : Nat) (pc : Nat) (es : List (Nat × XI)) (L : List Value) (st : List Value) (G : XG) (Q : (Option Value ⊕ Nat) → XG → Prop) (a0 a1 : Value) (b : Value) (x : Nat) (h : a1.category = 1), XW ms d k ((pc, i_ast 2) :: es) (a0 :: a1 :: b :: L) (.ref x :: st) G Q = (XW ms d k es (a0 :: a1 :: .ref x :: L) st G Q)) ∧
  (∀ (ms : Nat → XM) (d : Nat) (k : Nat) (pc : Nat) (es : List (Nat × XI)) (L : List Value) (st : List Value) (G : XG) (Q : (Option Value ⊕ Nat) → XG → Prop) (a0 a1 a2 : Value) (b : Value) (x : Nat) (h : a2.category = 1), XW ms d k ((pc, i_ast 3) :: es) (a0 :: a1 :: a2 :: b :: L) (.ref x :: st) G Q = (XW ms d k es (a0 :: a1 :: a2 :: .ref x :: L) st G Q)) ∧
  (∀ (ms : Nat → XM) (d : Nat) (k : Nat) (pc : Nat) (es : List (Nat × XI)) (L : List Value) (st : List Value) (G : XG) (Q : (Option Value ⊕ Nat) → XG → Prop) (a0 a1 a2 a3 : Value) (b : Value) (x : Nat) (h : a3.category = 1), XW ms d k ((pc, i_ast 4) :: es) (a0 :: a1 :: a2 :: a3 :: b :: L) (.ref x :: st) G Q = (XW ms d k es (a0 :: a1 :: a2 :: a3 :: .ref x :: L) st G Q)) ∧
  (∀ (ms : Nat → XM) (d : Nat) (k : Nat) (pc : Nat) (es : List (Nat × XI)) (L : List Value) (st : List Value) (G : XG) (Q : (Option Value ⊕ Nat) → XG → Prop) (a0 a1 a2 a3 a4 : Value) (b : Value) (x : Nat) (h : a4.category = 1), XW ms d k ((pc, i_ast 5) :: es) (a0 :: a1 :: a2 :: a3 :: a4 :: b :: L) (.ref x :: st) G Q = (XW ms d k es (a0 :: a1 :: a2 :: a3 :: a4 :: .ref x :: L) st G Q)) ∧
  (∀ (ms : Nat → XM) (d : Nat) (k : Nat) (pc : Nat) (es : List (Nat × XI)) (L : List Value) (st : List Value) (G : XG) (Q : (Option Value ⊕ Nat) → XG → Prop) (a0 a1 a2 a3 a4 a5 : Value) (b : Value) (x : Nat) (h : a5.category = 1), XW ms d k ((pc, i_ast 6) :: es) (a0 :: a1 :: a2 :: a3 :: a4 :: a5 :: b :: L) (.ref x :: st) G Q = (XW ms d k es (a0 :: a1 :: a2 :: a3 :: a4 :: a5 :: .ref x :: L) st G Q)) ∧
  (∀ (ms : Nat → XM) (d : Nat) (k : Nat) (pc : Nat) (es : List (Nat × XI)) (L : List Value) (st : List Value) (G : XG) (Q : (Option Value ⊕ Nat) → XG → Prop) (a0 a1 a2 a3 a4 a5 a6 : Value) (b : Value) (x : Nat) (h : a6.category = 1), XW ms d k ((pc, i_ast 7) :: es) (a0 :: a1 :: a2 :: a3 :: a4 :: a5 :: a6 :: b :: L) (.ref x :: st) G Q = (XW ms d k es (a0 :: a1 :: a2 :: a3 :: a4 :: a5 :: a6 :: .ref x :: L) st G Q)) ∧
  (∀ (ms : Nat → XM) (d : Nat) (k : Nat) (pc : Nat) (es : List (Nat × XI)) (L : List Value) (st : List Value) (G : XG) (Q : (Option Value ⊕ Nat) → XG → Prop) (a0 a1 a2 a3 a4 a5 a6 a7 : Value) (b : Value) (x : Nat) (h : a7.category = 1), XW ms d k ((pc, i_ast 8) :: es) (a0 :: a1 :: a2 :: a3 :: a4 :: a5 :: a6 :: a7 :: b :: L) (.ref x :: st) G Q = (XW ms d k es (a0 :: a1 :: a2 :: a3 :: a4 :: a5 :: a6 :: a7 :: .ref x :: L) st G Q)) ∧
  (∀ (ms : Nat → XM) (d : Nat) (k : Nat) (pc : Nat) (es : List (Nat × XI)) (L : List Value) (st : List Value) (G : XG) (Q : (Option Value ⊕ Nat) → XG → Prop) (a0 a1 a2 a3 a4 a5 a6 a7 a8 : Value) (b : Value) (x : Nat) (h : a8.category = 1), XW ms d k ((pc, i_ast 9) :: es) (a0 :: a1 :: a2 :: a3 :: a4 :: a5 :: a6 :: a7 :: a8 :: b :: L) (.ref x :: st) G Q = (XW ms d k es (a0 :: a1 :: a2 :: a3 :: a4 :: a5 :: a6 :: a7 :: a8 :: .ref x :: L) st G Q)) ∧
  (∀ (ms : Nat → XM) (d : Nat) (k : Nat) (pc : Nat) (es : List (Nat × XI)) (L : List Value) (st : List Value) (G : XG) (Q : (Option Value ⊕ Nat) → XG → Prop) (a0 a1 a2 a3 a4 a5 a6 a7 a8 a9 : Value) (b : Value) (x : Nat) (h : a9.category = 1), XW ms d k ((pc, i_ast 10) :: es) (a0 :: a1 :: a2 :: a3 :: a4 :: a5 :: a6 :: a7 :: a8 :: a9 :: b :: L) (.ref x :: st) G Q = (XW ms d k es (a0 :: a1 :: a2 :: a3 :: a4 :: a5 :: a6 :: a7 :: a8 :: a9 :: .ref x :: L) st G Q)) ∧
  (∀ (ms : Nat → XM) (d : Nat) (k : Nat) (pc : Nat) (es : List (Nat × XI)) (L : List Value) (st : List Value) (G : XG) (Q : (Option Value ⊕ Nat) → XG → Prop) (a0 a1 a2 a3 a4 a5 a6 a7 a8 a9 a10 : Value) (b : Value) (x : Nat) (h : a10.category = 1), XW ms d k ((pc, i_ast 11) :: es) (a0 :: a1 :: a2 :: a3 :: a4 :: a5 :: a6 :: a7 :: a8 :: a9 :: a10 :: b :: L) (.ref x :: st) G Q = (XW ms d k es (a0 :: a1 :: a2 :: a3 :: a4 :: a5 :: a6 :: a7 :: a8 :: a9 :: a10 :: .ref x :: L) st G Q)) ∧
  (∀ (ms : Nat → XM) (d : Nat) (k : Nat) (pc : Nat) (es : List (Nat × XI)) (L : List Value) (st : List Value) (G : XG) (Q : (Option Value ⊕ Nat) → XG → Prop) (a0 a1 a2 a3 a4 a5 a6 a7 a8 a9 a10 a11 : Value) (b : Value) (x : Nat) (h : a11.category = 1), XW ms d k ((pc, i_ast 12) :: es) (a0 :: a1 :: a2 :: a3 :: a4 :: a5 :: a6 :: a7 :: a8 :: a9 :: a10 :: a11 :: b :: L) (.ref x :: st) G Q = (XW ms d k es (a0 :: a1 :: a2 :: a3 :: a4 :: a5 :: a6 :: a7 :: a8 :: a9 :: a10 :: a11 :: .ref x :: L) st G Q)) ∧
  (∀ (ms : Nat → XM) (d : Nat) (k : Nat) (pc : Nat) (es : List (Nat × XI)) (L : List Value) (st : List Value) (G : XG) (Q : (Option Value ⊕ Nat) → XG → Prop) (a0 a1 a2 a3 a4 a5 a6 a7 a8 a9 a10 a11 a12 : Value) (b : Value) (x : Nat) (h : a12.category = 1), XW ms d k ((pc, i_ast 13) :: es) (a0 :: a1 :: a2 :: a3 :: a4 :: a5 :: a6 :: a7 :: a8 :: a9 :: a10 :: a11 :: a12 :: b :: L) (.ref x :: st) G Q = (XW ms d k es (a0 :: a1 :: a2 :: a3 :: a4 :: a5 :: a6 :: a7 :: a8 :: a9 :: a10 :: a11 :: a12 :: .ref x :: L) st G Q)) ∧
  (∀ (ms : Nat → XM) (d : Nat) (k : Nat) (pc : Nat) (es : List (Nat × XI)) (L : List Value) (st : List Value) (G : XG) (Q : (Option Value ⊕ Nat) → XG → Prop) (b : Value), XW ms d k ((pc, i_ast 0) :: es) (b :: L) (.null :: st) G Q = (XW ms d k es (.null :: L) st G Q)) ∧
  (∀ (ms : Nat → XM) (d : Nat) (k : Nat) (pc : Nat) (es : List (Nat × XI)) (L : List Value) (st : List Value) (G : XG) (Q : (Option Value ⊕ Nat) → XG → Prop) (a0 : Value) (b : Value)  (h : a0.category = 1), XW ms d k ((pc, i_ast 1) :: es) (a0 :: b :: L) (.null :: st) G Q = (XW ms d k es (a0 :: .null :: L) st G Q)) ∧
  (∀ (ms : Nat → XM) (d : Nat) (k : Nat) (pc : Nat) (es : List (Nat × XI)) (L : List Value) (st : List Value) (G : XG) (Q : (Option Value ⊕ Nat) → XG → Prop) (a0 a1 : Value) (b : Value)  (h : a1.category = 1), XW ms d k ((pc, i_ast 2) :: es) (a0 :: a1 :: b :: L) (.null :: st) G Q = (XW ms d k es (a0 :: a1 :: .null :: L) st G Q)) ∧
  (∀ (ms : Nat → XM) (d : Nat) (k : Nat) (pc : Nat) (es : List (Nat × XI)) (L : List Value) (st : List Value) (G : XG) (Q : (Option Value ⊕ Nat) → XG → Prop) (a0 a1 a2 : Value) (b : Value)  (h : a2.category = 1), XW ms d k ((pc, i_ast 3) :: es) (a0 :: a1 :: a2 :: b :: L) (.null :: st) G Q = (XW ms d k es (a0 :: a1 :: a2 :: .null :: L) st G Q)) ∧
  (∀ (ms : Nat → XM) (d : Nat) (k : Nat) (pc : Nat) (es : List (Nat × XI)) (L : List Value) (st : List Value) (G : XG) (Q : (Option Value ⊕ Nat) → XG → Prop) (a0 a1 a2 a3 : Value) (b : Value)  (h : a3.category = 1), XW ms d k ((pc, i_ast 4) :: es) (a0 :: a1 :: a2 :: a3 :: b :: L) (.null :: st) G Q = (XW ms d k es (a0 :: a1 :: a2 :: a3 :: .null :: L) st G Q)) ∧
  (∀ (ms : Nat → XM) (d : Nat) (k : Nat) (pc : Nat) (es : List (Nat × XI)) (L : List Value) (st : List Value) (G : XG) (Q : (Option Value ⊕ Nat) → XG → Prop) (a0 a1 a2 a3 a4 : Value) (b : Value)  (h : a4.category = 1), XW ms d k ((pc, i_ast 5) :: es) (a0 :: a1 :: a2 :: a3 :: a4 :: b :: L) (.null :: st) G Q = (XW ms d k es (a0 :: a1 :: a2 :: a3 :: a4 :: .null :: L) st G Q)) ∧
  (∀ (ms : Nat → XM) (d : Nat) (k : Nat) (pc : Nat) (es : List (Nat × XI)) (L : List Value) (st : List Value) (G : XG) (Q : (Option Value ⊕ Nat) → XG → Prop) (a0 a1 a2 a3 a4 a5 : Value) (b : Value)  (h : a5.category = 1), XW ms d k ((pc, i_ast 6) :: es) (a0 :: a1 :: a2 :: a3 :: a4 :: a5 :: b :: L) (.null :: st) G Q = (XW ms d k es (a0 :: a1 :: a2 :: a3 :: a4 :: a5 :: .null :: L) st G Q)) ∧
  (∀ (ms : Nat → XM) (d : Nat) (k : Nat) (pc : Nat) (es : List (Nat × XI)) (L : List Value) (st : List Value) (G : XG) (Q : (Option Value ⊕ Nat) → XG → Prop) (a0 a1 a2 a3 a4 a5 a6 : Value) (b : Value)  (h : a6.category = 1), XW ms d k ((pc, i_ast 7) :: es) (a0 :: a1 :: a2 :: a3 :: a4 :: a5 :: a6 :: b :: L) (.null :: st) G Q = (XW ms d k es (a0 :: a1 :: a2 :: a3 :: a4 :: a5 :: a6 :: .null :: L) st G Q)) ∧
  (∀ (ms : Nat → XM) (d : Nat) (k : Nat) (pc : Nat) (es : List (Nat × XI)) (L : List Value) (st : List Value) (G : XG) (Q : (Option Value ⊕ Nat) → XG → Prop) (a0 a1 a2 a3 a4 a5 a6 a7 : Value) (b : Value)  (h : a7.category = 1), XW ms d k ((pc, i_ast 8) :: es) (a0 :: a1 :: a2 :: a3 :: a4 :: a5 :: a6 :: a7 :: b :: L) (.null :: st) G Q = (XW ms d k es (a0 :: a1 :: a2 :: a3 :: a4 :: a5 :: a6 :: a7 :: .null :: L) st G Q)) ∧
  (∀ (ms : Nat → XM) (d : Nat) (k : Nat) (pc : Nat) (es : List (Nat × XI)) (L : List Value) (st : List Value) (G : XG) (Q : (Option Value ⊕ Nat) → XG → Prop) (a0 a1 a2 a3 a4 a5 a6 a7 a8 : Value) (b : Value)  (h : a8.category = 1), XW ms d k ((pc, i_ast 9) :: es) (a0 :: a1 :: a2 :: a3 :: a4 :: a5 :: a6 :: a7 :: a8 :: b :: L) (.null :: st) G Q = (XW ms d k es (a0 :: a1 :: a2 :: a3 :: a4 :: a5 :: a6 :: a7 :: a8 :: .null :: L) st G Q)) ∧
  (∀ (ms : Nat → XM) (d : Nat) (k : Nat) (pc : Nat) (es : List (Nat × XI)) (L : List Value) (st : List Value) (G : XG) (Q : (Option Value ⊕ Nat) → XG → Prop) (a0 a1 a2 a3 a4 a5 a6 a7 a8 a9 : Value) (b : Value)  (h : a9.category = 1), XW ms d k ((pc, i_ast 10) :: es) (a0 :: a1 :: a2 :: a3 :: a4 :: a5 :: a6 :: a7 :: a8 :: a9 :: b :: L) (.null :: st) G Q = (XW ms d k es (a0 :: a1 :: a2 :: a3 :: a4 :: a5 :: a6 :: a7 :: a8 :: a9 :: .null :: L) st G Q)) ∧
  (∀ (ms : Nat → XM) (d : Nat) (k : Nat) (pc : Nat) (es : List (Nat × XI)) (L : List Value) (st : List Value) (G : XG) (Q : (Option Value ⊕ Nat) → XG → Prop) (a0 a1 a2 a3 a4 a5 a6 a7 a8 a9 a10 : Value) (b : Value)  (h : a10.category = 1), XW ms d k ((pc, i_ast 11) :: es) (a0 :: a1 :: a2 :: a3 :: a4 :: a5 :: a6 :: a7 :: a8 :: a9 :: a10 :: b :: L) (.null :: st) G Q = (XW ms d k es (a0 :: a1 :: a2 :: a3 :: a4 :: a5 :: a6 :: a7 :: a8 :: a9 :: a10 :: .null :: L) st G Q)) ∧
  (∀ (ms : Nat → XM) (d : Nat) (k : Nat) (pc : Nat) (es : List (Nat × XI)) (L : List Value) (st : List Value) (G : XG) (Q : (Option Value ⊕ Nat) → XG → Prop) (a0 a1 a2 a3 a4 a5 a6 a7 a8 a9 a10 a11 : Value) (b : Value)  (h : a11.category = 1), XW ms d k ((pc, i_ast 12) :: es) (a0 :: a1 :: a2 :: a3 :: a4 :: a5 :: a6 :: a7 :: a8 :: a9 :: a10 :: a11 :: b :: L) (.null :: st) G Q = (XW ms d k es (a0 :: a1 :: a2 :: a3 :: a4 :: a5 :: a6 :: a7 :: a8 :: a9 :: a10 :: a11 :: .null :: L) st G Q)) ∧
  (∀ (ms : Nat → XM) (d : Nat) (k : Nat) (pc : Nat) (es : List (Nat × XI)) (L : List Value) (st : List Value) (G : XG) (Q : (Option Value ⊕ Nat) → XG → Prop) (a0 a1 a2 a3 a4 a5 a6 a7 a8 a9 a10 a11 a12 : Value) (b : Value)  (h : a12.category = 1), XW ms d k ((pc, i_ast 13) :: es) (a0 :: a1 :: a2 :: a3 :: a4 :: a5 :: a6 :: a7 :: a8 :: a9 :: a10 :: a11 :: a12 :: b :: L) (.null :: st) G Q = (XW ms d k es (a0 :: a1 :: a2 :: a3 :: a4 :: a5 :: a6 :: a7 :: a8 :: a9 :: a10 :: a11 :: a12 :: .null :: L) st G Q)) ∧
  (∀ (ms : Nat → XM) (d : Nat) (k : Nat) (pc : Nat) (es : List (Nat × XI)) (L : List Value) (st : List Value) (G : XG) (Q : (Option Value ⊕ Nat) → XG → Prop) (b : Value) (x : Option Nat), XW ms d k ((pc, i_ast 0) :: es) (b :: L) (va_rf x :: st) G Q = (XW ms d k es (va_rf x :: L) st G Q)) ∧
  (∀ (ms : Nat → XM) (d : Nat) (k : Nat) (pc : Nat) (es : List (Nat × XI)) (L : List Value) (st : List Value) (G : XG) (Q : (Option Value ⊕ Nat) → XG → Prop) (a0 : Value) (b : Value) (x : Option Nat) (h : a0.category = 1), XW ms d k ((pc, i_ast 1) :: es) (a0 :: b :: L) (va_rf x :: st) G Q = (XW ms d k es (a0 :: va_rf x :: L) st G Q)) ∧
  (∀ (ms : Nat → XM) (d : Nat) (k : Nat) (pc : Nat) (es : List (Nat × XI)) (L : List Value) (st : List Value) (G : XG) (Q : (Option Value ⊕ Nat) → XG → Prop) (a0 a1 : Value) (b : Value) (x : Option Nat) (h : a1.category = 1), XW ms d k ((pc, i_ast 2) :: es) (a0 :: a1 :: b :: L) (va_rf x :: st) G Q = (XW ms d k es (a0 :: a1 :: va_rf x :: L) st G Q)) ∧
  (∀ (ms : Nat → XM) (d : Nat) (k : Nat) (pc : Nat) (es : List (Nat × XI)) (L : List Value) (st : List Value) (G : XG) (Q : (Option Value ⊕ Nat) → XG → Prop) (a0 a1 a2 : Value) (b : Value) (x : Option Nat) (h : a2.category = 1), XW ms d k ((pc, i_ast 3) :: es) (a0 :: a1 :: a2 :: b :: L) (va_rf x :: st) G Q = (XW ms d k es (a0 :: a1 :: a2 :: va_rf x :: L) st G Q)) ∧
  (∀ (ms : Nat → XM) (d : Nat) (k : Nat) (pc : Nat) (es : List (Nat × XI)) (L : List Value) (st : List Value) (G : XG) (Q : (Option Value ⊕ Nat) → XG → Prop) (a0 a1 a2 a3 : Value) (b : Value) (x : Option Nat) (h : a3.category = 1), XW ms d k ((pc, i_ast 4) :: es) (a0 :: a1 :: a2 :: a3 :: b :: L) (va_rf x :: st) G Q = (XW ms d k es (a0 :: a1 :: a2 :: a3 :: va_rf x :: L) st G Q)) ∧
  (∀ (ms : Nat → XM) (d : Nat) (k : Nat) (pc : Nat) (es : List (Nat × XI)) (L : List Value) (st : List Value) (G : XG) (Q : (Option Value ⊕ Nat) → XG → Prop) (a0 a1 a2 a3 a4 : Value) (b : Value) (x : Option Nat) (h : a4.category = 1), XW ms d k ((pc, i_ast 5) :: es) (a0 :: a1 :: a2 :: a3 :: a4 :: b :: L) (va_rf x :: st) G Q = (XW ms d k es (a0 :: a1 :: a2 :: a3 :: a4 :: va_rf x :: L) st G Q)) ∧
  (∀ (ms : Nat → XM) (d : Nat) (k : Nat) (pc : Nat) (es : List (Nat × XI)) (L : List Value) (st : List Value) (G : XG) (Q : (Option Value ⊕ Nat) → XG → Prop) (a0 a1 a2 a3 a4 a5 : Value) (b : Value) (x : Option Nat) (h : a5.category = 1), XW ms d k ((pc, i_ast 6) :: es) (a0 :: a1 :: a2 :: a3 :: a4 :: a5 :: b :: L) (va_rf x :: st) G Q = (XW ms d k es (a0 :: a1 :: a2 :: a3 :: a4 :: a5 :: va_rf x :: L) st G Q)) ∧
  (∀ (ms : Nat → XM) (d : Nat) (k : Nat) (pc : Nat) (es : List (Nat × XI)) (L : List Value) (st : List Value) (G : XG) (Q : (Option Value ⊕ Nat) → XG → Prop) (a0 a1 a2 a3 a4 a5 a6 : Value) (b : Value) (x : Option Nat) (h : a6.category = 1), XW ms d k ((pc, i_ast 7) :: es) (a0 :: a1 :: a2 :: a3 :: a4 :: a5 :: a6 :: b :: L) (va_rf x :: st) G Q = (XW ms d k es (a0 :: a1 :: a2 :: a3 :: a4 :: a5 :: a6 :: va_rf x :: L) st G Q)) ∧
  (∀ (ms : Nat → XM) (d : Nat) (k : Nat) (pc : Nat) (es : List (Nat × XI)) (L : List Value) (st : List Value) (G : XG) (Q : (Option Value ⊕ Nat) → XG → Prop) (a0 a1 a2 a3 a4 a5 a6 a7 : Value) (b : Value) (x : Option Nat) (h : a7.category = 1), XW ms d k ((pc, i_ast 8) :: es) (a0 :: a1 :: a2 :: a3 :: a4 :: a5 :: a6 :: a7 :: b :: L) (va_rf x :: st) G Q = (XW ms d k es (a0 :: a1 :: a2 :: a3 :: a4 :: a5 :: a6 :: a7 :: va_rf x :: L) st G Q)) ∧
  (∀ (ms : Nat → XM) (d : Nat) (k : Nat) (pc : Nat) (es : List (Nat × XI)) (L : List Value) (st : List Value) (G : XG) (Q : (Option Value ⊕ Nat) → XG → Prop) (a0 a1 a2 a3 a4 a5 a6 a7 a8 : Value) (b : Value) (x : Option Nat) (h : a8.category = 1), XW ms d k ((pc, i_ast 9) :: es) (a0 :: a1 :: a2 :: a3 :: a4 :: a5 :: a6 :: a7 :: a8 :: b :: L) (va_rf x :: st) G Q = (XW ms d k es (a0 :: a1 :: a2 :: a3 :: a4 :: a5 :: a6 :: a7 :: a8 :: va_rf x :: L) st G Q)) ∧
  (∀ (ms : Nat → XM) (d : Nat) (k : Nat) (pc : Nat) (es : List (Nat × XI)) (L : List Value) (st : List Value) (G : XG) (Q : (Option Value ⊕ Nat) → XG → Prop) (a0 a1 a2 a3 a4 a5 a6 a7 a8 a9 : Value) (b : Value) (x : Option Nat) (h : a9.category = 1), XW ms d k ((pc, i_ast 10) :: es) (a0 :: a1 :: a2 :: a3 :: a4 :: a5 :: a6 :: a7 :: a8 :: a9 :: b :: L) (va_rf x :: st) G Q = (XW ms d k es (a0 :: a1 :: a2 :: a3 :: a4 :: a5 :: a6 :: a7 :: a8 :: a9 :: va_rf x :: L) st G Q)) ∧
  (∀ (ms : Nat → XM) (d : Nat) (k : Nat) (pc : Nat) (es : List (Nat × XI)) (L : List Value) (st : List Value) (G : XG) (Q : (Option Value ⊕ Nat) → XG → Prop) (a0 a1 a2 a3 a4 a5 a6 a7 a8 a9 a10 : Value) (b : Value) (x : Option Nat) (h : a10.category = 1), XW ms d k ((pc, i_ast 11) :: es) (a0 :: a1 :: a2 :: a3 :: a4 :: a5 :: a6 :: a7 :: a8 :: a9 :: a10 :: b :: L) (va_rf x :: st) G Q = (XW ms d k es (a0 :: a1 :: a2 :: a3 :: a4 :: a5 :: a6 :: a7 :: a8 :: a9 :: a10 :: va_rf x :: L) st G Q)) ∧
  (∀ (ms : Nat → XM) (d : Nat) (k : Nat) (pc : Nat) (es : List (Nat × XI)) (L : List Value) (st : List Value) (G : XG) (Q : (Option Value ⊕ Nat) → XG → Prop) (a0 a1 a2 a3 a4 a5 a6 a7 a8 a9 a10 a11 : Value) (b : Value) (x : Option Nat) (h : a11.category = 1), XW ms d k ((pc, i_ast 12) :: es) (a0 :: a1 :: a2 :: a3 :: a4 :: a5 :: a6 :: a7 :: a8 :: a9 :: a10 :: a11 :: b :: L) (va_rf x :: st) G Q = (XW ms d k es (a0 :: a1 :: a2 :: a3 :: a4 :: a5 :: a6 :: a7 :: a8 :: a9 :: a10 :: a11 :: va_rf x :: L) st G Q)) ∧
  (∀ (ms : Nat → XM) (d : Nat) (k : Nat) (pc : Nat) (es : List (Nat × XI)) (L : List Value) (st : List Value) (G : XG) (Q : (Option Value ⊕ Nat) → XG → Prop) (a0 a1 a2 a3 a4 a5 a6 a7 a8 a9 a10 a11 a12 : Value) (b : Value) (x : Option Nat) (h : a12.category = 1), XW ms d k ((pc, i_ast 13) :: es) (a0 :: a1 :: a2 :: a3 :: a4 :: a5 :: a6 :: a7 :: a8 :: a9 :: a10 :: a11 :: a12 :: b :: L) (va_rf x :: st) G Q = (XW ms d k es (a0 :: a1 :: a2 :: a3 :: a4 :: a5 :: a6 :: a7 :: a8 :: a9 :: a10 :: a11 :: a12 :: va_rf x :: L) st G Q)) ∧
  (∀ (ms : Nat → XM) (d : Nat) (k : Nat) (pc : Nat) (es : List (Nat × XI)) (L : List Value) (st : List Value) (G : XG) (Q : (Option Value ⊕ Nat) → XG → Prop) (x n : Int32), XW ms d k ((pc, i_inc 0 n) :: es) (.int x :: L) st G Q = (XW ms d k es (.int (x + n) :: L) st G Q)) ∧
  (∀ (ms : Nat → XM) (d : Nat) (k : Nat) (pc : Nat) (es : List (Nat × XI)) (L : List Value) (st : List Value) (G : XG) (Q : (Option Value ⊕ Nat) → XG → Prop) (a0 : Value) (x n : Int32) (h : a0.category = 1), XW ms d k ((pc, i_inc 1 n) :: es) (a0 :: .int x :: L) st G Q = (XW ms d k es (a0 :: .int (x + n) :: L) st G Q)) ∧
  (∀ (ms : Nat → XM) (d : Nat) (k : Nat) (pc : Nat) (es : List (Nat × XI)) (L : List Value) (st : List Value) (G : XG) (Q : (Option Value ⊕ Nat) → XG → Prop) (a0 a1 : Value) (x n : Int32) (h : a1.category = 1), XW ms d k ((pc, i_inc 2 n) :: es) (a0 :: a1 :: .int x :: L) st G Q = (XW ms d k es (a0 :: a1 :: .int (x + n) :: L) st G Q)) ∧
  (∀ (ms : Nat → XM) (d : Nat) (k : Nat) (pc : Nat) (es : List (Nat × XI)) (L : List Value) (st : List Value) (G : XG) (Q : (Option Value ⊕ Nat) → XG → Prop) (a0 a1 a2 : Value) (x n : Int32) (h : a2.category = 1), XW ms d k ((pc, i_inc 3 n) :: es) (a0 :: a1 :: a2 :: .int x :: L) st G Q = (XW ms d k es (a0 :: a1 :: a2 :: .int (x + n) :: L) st G Q)) ∧
  (∀ (ms : Nat → XM) (d : Nat) (k : Nat) (pc : Nat) (es : List (Nat × XI)) (L : List Value) (st : List Value) (G : XG) (Q : (Option Value ⊕ Nat) → XG → Prop) (a0 a1 a2 a3 : Value) (x n : Int32) (h : a3.category = 1), XW ms d k ((pc, i_inc 4 n) :: es) (a0 :: a1 :: a2 :: a3 :: .int x :: L) st G Q = (XW ms d k es (a0 :: a1 :: a2 :: a3 :: .int (x + n) :: L) st G Q)) ∧
  (∀ (ms : Nat → XM) (d : Nat) (k : Nat) (pc : Nat) (es : List (Nat × XI)) (L : List Value) (st : List Value) (G : XG) (Q : (Option Value ⊕ Nat) → XG → Prop) (a0 a1 a2 a3 a4 : Value) (x n : Int32) (h : a4.category = 1), XW ms d k ((pc, i_inc 5 n) :: es) (a0 :: a1 :: a2 :: a3 :: a4 :: .int x :: L) st G Q = (XW ms d k es (a0 :: a1 :: a2 :: a3 :: a4 :: .int (x + n) :: L) st G Q)) ∧
  (∀ (ms : Nat → XM) (d : Nat) (k : Nat) (pc : Nat) (es : List (Nat × XI)) (L : List Value) (st : List Value) (G : XG) (Q : (Option Value ⊕ Nat) → XG → Prop) (a0 a1 a2 a3 a4 a5 : Value) (x n : Int32) (h : a5.category = 1), XW ms d k ((pc, i_inc 6 n) :: es) (a0 :: a1 :: a2 :: a3 :: a4 :: a5 :: .int x :: L) st G Q = (XW ms d k es (a0 :: a1 :: a2 :: a3 :: a4 :: a5 :: .int (x + n) :: L) st G Q)) ∧
  (∀ (ms : Nat → XM) (d : Nat) (k : Nat) (pc : Nat) (es : List (Nat × XI)) (L : List Value) (st : List Value) (G : XG) (Q : (Option Value ⊕ Nat) → XG → Prop) (a0 a1 a2 a3 a4 a5 a6 : Value) (x n : Int32) (h : a6.category = 1), XW ms d k ((pc, i_inc 7 n) :: es) (a0 :: a1 :: a2 :: a3 :: a4 :: a5 :: a6 :: .int x :: L) st G Q = (XW ms d k es (a0 :: a1 :: a2 :: a3 :: a4 :: a5 :: a6 :: .int (x + n) :: L) st G Q)) ∧
  (∀ (ms : Nat → XM) (d : Nat) (k : Nat) (pc : Nat) (es : List (Nat × XI)) (L : List Value) (st : List Value) (G : XG) (Q : (Option Value ⊕ Nat) → XG → Prop) (a0 a1 a2 a3 a4 a5 a6 a7 : Value) (x n : Int32) (h : a7.category = 1), XW ms d k ((pc, i_inc 8 n) :: es) (a0 :: a1 :: a2 :: a3 :: a4 :: a5 :: a6 :: a7 :: .int x :: L) st G Q = (XW ms d k es (a0 :: a1 :: a2 :: a3 :: a4 :: a5 :: a6 :: a7 :: .int (x + n) :: L) st G Q)) ∧
  (∀ (ms : Nat → XM) (d : Nat) (k : Nat) (pc : Nat) (es : List (Nat × XI)) (L : List Value) (st : List Value) (G : XG) (Q : (Option Value ⊕ Nat) → XG → Prop) (a0 a1 a2 a3 a4 a5 a6 a7 a8 : Value) (x n : Int32) (h : a8.category = 1), XW ms d k ((pc, i_inc 9 n) :: es) (a0 :: a1 :: a2 :: a3 :: a4 :: a5 :: a6 :: a7 :: a8 :: .int x :: L) st G Q = (XW ms d k es (a0 :: a1 :: a2 :: a3 :: a4 :: a5 :: a6 :: a7 :: a8 :: .int (x + n) :: L) st G Q)) ∧
  (∀ (ms : Nat → XM) (d : Nat) (k : Nat) (pc : Nat) (es : List (Nat × XI)) (L : List Value) (st : List Value) (G : XG) (Q : (Option Value ⊕ Nat) → XG → Prop) (a0 a1 a2 a3 a4 a5 a6 a7 a8 a9 : Value) (x n : Int32) (h : a9.category = 1), XW ms d k ((pc, i_inc 10 n) :: es) (a0 :: a1 :: a2 :: a3 :: a4 :: a5 :: a6 :: a7 :: a8 :: a9 :: .int x :: L) st G Q = (XW ms d k es (a0 :: a1 :: a2 :: a3 :: a4 :: a5 :: a6 :: a7 :: a8 :: a9 :: .int (x + n) :: L) st G Q)) ∧
  (∀ (ms : Nat → XM) (d : Nat) (k : Nat) (pc : Nat) (es : List (Nat × XI)) (L : List Value) (st : List Value) (G : XG) (Q : (Option Value ⊕ Nat) → XG → Prop) (a0 a1 a2 a3 a4 a5 a6 a7 a8 a9 a10 : Value) (x n : Int32) (h : a10.category = 1), XW ms d k ((pc, i_inc 11 n) :: es) (a0 :: a1 :: a2 :: a3 :: a4 :: a5 :: a6 :: a7 :: a8 :: a9 :: a10 :: .int x :: L) st G Q = (XW ms d k es (a0 :: a1 :: a2 :: a3 :: a4 :: a5 :: a6 :: a7 :: a8 :: a9 :: a10 :: .int (x + n) :: L) st G Q)) ∧
  (∀ (ms : Nat → XM) (d : Nat) (k : Nat) (pc : Nat) (es : List (Nat × XI)) (L : List Value) (st : List Value) (G : XG) (Q : (Option Value ⊕ Nat) → XG → Prop) (a0 a1 a2 a3 a4 a5 a6 a7 a8 a9 a10 a11 : Value) (x n : Int32) (h : a11.category = 1), XW ms d k ((pc, i_inc 12 n) :: es) (a0 :: a1 :: a2 :: a3 :: a4 :: a5 :: a6 :: a7 :: a8 :: a9 :: a10 :: a11 :: .int x :: L) st G Q = (XW ms d k es (a0 :: a1 :: a2 :: a3 :: a4 :: a5 :: a6 :: a7 :: a8 :: a9 :: a10 :: a11 :: .int (x + n) :: L) st G Q)) ∧
  (∀ (ms : Nat → XM) (d : Nat) (k : Nat) (pc : Nat) (es : List (Nat × XI)) (L : List Value) (st : List Value) (G : XG) (Q : (Option Value ⊕ Nat) → XG → Prop) (a0 a1 a2 a3 a4 a5 a6 a7 a8 a9 a10 a11 a12 : Value) (x n : Int32) (h : a12.category = 1), XW ms d k ((pc, i_inc 13 n) :: es) (a0 :: a1 :: a2 :: a3 :: a4 :: a5 :: a6 :: a7 :: a8 :: a9 :: a10 :: a11 :: a12 :: .int x :: L) st G Q = (XW ms d k es (a0 :: a1 :: a2 :: a3 :: a4 :: a5 :: a6 :: a7 :: a8 :: a9 :: a10 :: a11 :: a12 :: .int (x + n) :: L) st G Q)) ∧
  (∀ (ms : Nat → XM) (d : Nat) (k : Nat) (pc : Nat) (es : List (Nat × XI)) (L : List Value) (st : List Value) (G : XG) (Q : (Option Value ⊕ Nat) → XG → Prop) (a0 : Value) (b c : Value) (x : Int64) (h : a0.category = 1), XW ms d k ((pc, i_lst 1) :: es) (a0 :: b :: c :: L) (.long x :: st) G Q = (XW ms d k es (a0 :: .long x :: xjk :: L) st G Q)) ∧
  (∀ (ms : Nat → XM) (d : Nat) (k : Nat) (pc : Nat) (es : List (Nat × XI)) (L : List Value) (st : List Value) (G : XG) (Q : (Option Value ⊕ Nat) → XG → Prop) (a0 a1 : Value) (b c : Value) (x : Int64) (h : a1.category = 1), XW ms d k ((pc, i_lst 2) :: es) (a0 :: a1 :: b :: c :: L) (.long x :: st) G Q = (XW ms d k es (a0 :: a1 :: .long x :: xjk :: L) st G Q)) ∧
  (∀ (ms : Nat → XM) (d : Nat) (k : Nat) (pc : Nat) (es : List (Nat × XI)) (L : List Value) (st : List Value) (G : XG) (Q : (Option Value ⊕ Nat) → XG → Prop) (a0 a1 a2 : Value) (b c : Value) (x : Int64) (h : a2.category = 1), XW ms d k ((pc, i_lst 3) :: es) (a0 :: a1 :: a2 :: b :: c :: L) (.long x :: st) G Q = (XW ms d k es (a0 :: a1 :: a2 :: .long x :: xjk :: L) st G Q)) ∧
  (∀ (ms : Nat → XM) (d : Nat) (k : Nat) (pc : Nat) (es : List (Nat × XI)) (L : List Value) (st : List Value) (G : XG) (Q : (Option Value ⊕ Nat) → XG → Prop) (a0 a1 a2 a3 : Value) (b c : Value) (x : Int64) (h : a3.category = 1), XW ms d k ((pc, i_lst 4) :: es) (a0 :: a1 :: a2 :: a3 :: b :: c :: L) (.long x :: st) G Q = (XW ms d k es (a0 :: a1 :: a2 :: a3 :: .long x :: xjk :: L) st G Q)) ∧
  (∀ (ms : Nat → XM) (d : Nat) (k : Nat) (pc : Nat) (es : List (Nat × XI)) (L : List Value) (st : List Value) (G : XG) (Q : (Option Value ⊕ Nat) → XG → Prop) (a0 a1 a2 a3 a4 : Value) (b c : Value) (x : Int64) (h : a4.category = 1), XW ms d k ((pc, i_lst 5) :: es) (a0 :: a1 :: a2 :: a3 :: a4 :: b :: c :: L) (.long x :: st) G Q = (XW ms d k es (a0 :: a1 :: a2 :: a3 :: a4 :: .long x :: xjk :: L) st G Q)) ∧
  (∀ (ms : Nat → XM) (d : Nat) (k : Nat) (pc : Nat) (es : List (Nat × XI)) (L : List Value) (st : List Value) (G : XG) (Q : (Option Value ⊕ Nat) → XG → Prop) (x y : Int32), XW ms d k ((pc, i_add) :: es) L (.int y :: .int x :: st) G Q = (XW ms d k es L (.int (x + y) :: st) G Q)) ∧
  (∀ (ms : Nat → XM) (d : Nat) (k : Nat) (pc : Nat) (es : List (Nat × XI)) (L : List Value) (st : List Value) (G : XG) (Q : (Option Value ⊕ Nat) → XG → Prop) (x y : Int32), XW ms d k ((pc, i_sub) :: es) L (.int y :: .int x :: st) G Q = (XW ms d k es L (.int (x - y) :: st) G Q)) ∧
  (∀ (ms : Nat → XM) (d : Nat) (k : Nat) (pc : Nat) (es : List (Nat × XI)) (L : List Value) (st : List Value) (G : XG) (Q : (Option Value ⊕ Nat) → XG → Prop) (x y : Int32), XW ms d k ((pc, i_mul) :: es) L (.int y :: .int x :: st) G Q = (XW ms d k es L (.int (x * y) :: st) G Q)) ∧
  (∀ (ms : Nat → XM) (d : Nat) (k : Nat) (pc : Nat) (es : List (Nat × XI)) (L : List Value) (st : List Value) (G : XG) (Q : (Option Value ⊕ Nat) → XG → Prop) (x y : Int32), XW ms d k ((pc, i_and) :: es) L (.int y :: .int x :: st) G Q = (XW ms d k es L (.int (x &&& y) :: st) G Q)) ∧
  (∀ (ms : Nat → XM) (d : Nat) (k : Nat) (pc : Nat) (es : List (Nat × XI)) (L : List Value) (st : List Value) (G : XG) (Q : (Option Value ⊕ Nat) → XG → Prop) (x y : Int32), XW ms d k ((pc, i_or) :: es) L (.int y :: .int x :: st) G Q = (XW ms d k es L (.int (x ||| y) :: st) G Q)) ∧
  (∀ (ms : Nat → XM) (d : Nat) (k : Nat) (pc : Nat) (es : List (Nat × XI)) (L : List Value) (st : List Value) (G : XG) (Q : (Option Value ⊕ Nat) → XG → Prop) (x y : Int64), XW ms d k ((pc, i_ladd) :: es) L (.long y :: .long x :: st) G Q = (XW ms d k es L (.long (x + y) :: st) G Q)) ∧
  (∀ (ms : Nat → XM) (d : Nat) (k : Nat) (pc : Nat) (es : List (Nat × XI)) (L : List Value) (st : List Value) (G : XG) (Q : (Option Value ⊕ Nat) → XG → Prop) (x y : Int64), XW ms d k ((pc, i_lsub) :: es) L (.long y :: .long x :: st) G Q = (XW ms d k es L (.long (x - y) :: st) G Q)) ∧
  (∀ (ms : Nat → XM) (d : Nat) (k : Nat) (pc : Nat) (es : List (Nat × XI)) (L : List Value) (st : List Value) (G : XG) (Q : (Option Value ⊕ Nat) → XG → Prop) (x y : Int64), XW ms d k ((pc, i_lmul) :: es) L (.long y :: .long x :: st) G Q = (XW ms d k es L (.long (x * y) :: st) G Q)) ∧
  (∀ (ms : Nat → XM) (d : Nat) (k : Nat) (pc : Nat) (es : List (Nat × XI)) (L : List Value) (st : List Value) (G : XG) (Q : (Option Value ⊕ Nat) → XG → Prop) (x y : Int64), XW ms d k ((pc, i_land) :: es) L (.long y :: .long x :: st) G Q = (XW ms d k es L (.long (x &&& y) :: st) G Q)) ∧
  (∀ (ms : Nat → XM) (d : Nat) (k : Nat) (pc : Nat) (es : List (Nat × XI)) (L : List Value) (st : List Value) (G : XG) (Q : (Option Value ⊕ Nat) → XG → Prop) (x y : Int64), XW ms d k ((pc, i_lor) :: es) L (.long y :: .long x :: st) G Q = (XW ms d k es L (.long (x ||| y) :: st) G Q)) ∧
  (∀ (ms : Nat → XM) (d : Nat) (k : Nat) (pc : Nat) (es : List (Nat × XI)) (L : List Value) (st : List Value) (G : XG) (Q : (Option Value ⊕ Nat) → XG → Prop) (v : Value), XW ms d k ((pc, i_psh v) :: es) L st G Q = (XW ms d k es L (v :: st) G Q)) ∧
  (∀ (ms : Nat → XM) (d : Nat) (k : Nat) (pc : Nat) (es : List (Nat × XI)) (L : List Value) (st : List Value) (G : XG) (Q : (Option Value ⊕ Nat) → XG → Prop) (i : Nat), XW ms d k ((pc, i_sv i) :: es) L st G Q = (XW ms d k es L (Gsv G i :: st) G Q)) ∧
  (∀ (ms : Nat → XM) (d : Nat) (k : Nat) (pc : Nat) (es : List (Nat × XI)) (L : List Value) (st : List Value) (G : XG) (Q : (Option Value ⊕ Nat) → XG → Prop) (x y : Int32), XW ms d k ((pc, i_div) :: es) L (.int y :: .int x :: st) G Q = (¬ y = 0 ∧ XW ms d k es L (.int (x / y) :: st) G Q)) ∧
  (∀ (ms : Nat → XM) (d : Nat) (k : Nat) (pc : Nat) (es : List (Nat × XI)) (L : List Value) (st : List Value) (G : XG) (Q : (Option Value ⊕ Nat) → XG → Prop) (x y : Int32), XW ms d k ((pc, i_rem) :: es) L (.int y :: .int x :: st) G Q = (¬ y = 0 ∧ XW ms d k es L (.int (x - x / y * y) :: st) G Q)) ∧
  (∀ (ms : Nat → XM) (d : Nat) (k : Nat) (pc : Nat) (es : List (Nat × XI)) (L : List Value) (st : List Value) (G : XG) (Q : (Option Value ⊕ Nat) → XG → Prop) (x : Int32), XW ms d k ((pc, i_neg) :: es) L (.int x :: st) G Q = (XW ms d k es L (.int (-x) :: st) G Q)) ∧
  (∀ (ms : Nat → XM) (d : Nat) (k : Nat) (pc : Nat) (es : List (Nat × XI)) (L : List Value) (st : List Value) (G : XG) (Q : (Option Value ⊕ Nat) → XG → Prop) (x : Int32), XW ms d k ((pc, i_i2b) :: es) L (.int x :: st) G Q = (XW ms d k es L (.int x.toInt8.toInt32 :: st) G Q)) ∧
  (∀ (ms : Nat → XM) (d : Nat) (k : Nat) (pc : Nat) (es : List (Nat × XI)) (L : List Value) (st : List Value) (G : XG) (Q : (Option Value ⊕ Nat) → XG → Prop) (x : Int32), XW ms d k ((pc, i_i2l) :: es) L (.int x :: st) G Q = (XW ms d k es L (.long x.toInt64 :: st) G Q)) ∧
  (∀ (ms : Nat → XM) (d : Nat) (k : Nat) (pc : Nat) (es : List (Nat × XI)) (L : List Value) (st : List Value) (G : XG) (Q : (Option Value ⊕ Nat) → XG → Prop) (x : Int64), XW ms d k ((pc, i_l2i) :: es) L (.long x :: st) G Q = (XW ms d k es L (.int x.toInt32 :: st) G Q)) ∧
  (∀ (ms : Nat → XM) (d : Nat) (k : Nat) (pc : Nat) (es : List (Nat × XI)) (L : List Value) (st : List Value) (G : XG) (Q : (Option Value ⊕ Nat) → XG → Prop) (x : Int64) (y : Int32), XW ms d k ((pc, i_lshl) :: es) L (.int y :: .long x :: st) G Q = (XW ms d k es L (.long (x <<< (y.toInt64 &&& 63)) :: st) G Q)) ∧
  (∀ (ms : Nat → XM) (d : Nat) (k : Nat) (pc : Nat) (es : List (Nat × XI)) (L : List Value) (st : List Value) (G : XG) (Q : (Option Value ⊕ Nat) → XG → Prop) (x : Int64) (y : Int32), XW ms d k ((pc, i_lshr) :: es) L (.int y :: .long x :: st) G Q = (XW ms d k es L (.long (x >>> (y.toInt64 &&& 63)) :: st) G Q)) ∧
  (∀ (ms : Nat → XM) (d : Nat) (k : Nat) (pc : Nat) (es : List (Nat × XI)) (L : List Value) (st : List Value) (G : XG) (Q : (Option Value ⊕ Nat) → XG → Prop) (x y : Int64), XW ms d k ((pc, i_lcm) :: es) L (.long y :: .long x :: st) G Q = (XW ms d k es L (.int (if x > y then 1 else if x = y then 0 else -1) :: st) G Q)) ∧
  (∀ (ms : Nat → XM) (d : Nat) (k : Nat) (pc : Nat) (es : List (Nat × XI)) (L : List Value) (st : List Value) (G : XG) (Q : (Option Value ⊕ Nat) → XG → Prop) (v : Value) (h : v.category = 1), XW ms d k ((pc, i_dup) :: es) L (v :: st) G Q = (XW ms d k es L (v :: v :: st) G Q)) ∧
  (∀ (ms : Nat → XM) (d : Nat) (k : Nat) (pc : Nat) (es : List (Nat × XI)) (L : List Value) (st : List Value) (G : XG) (Q : (Option Value ⊕ Nat) → XG → Prop) (v w : Value) (h : v.category = 1) (h2 : w.category = 1), XW ms d k ((pc, i_du2) :: es) L (v :: w :: st) G Q = (XW ms d k es L (v :: w :: v :: w :: st) G Q)) ∧
  (∀ (ms : Nat → XM) (d : Nat) (k : Nat) (pc : Nat) (es : List (Nat × XI)) (L : List Value) (st : List Value) (G : XG) (Q : (Option Value ⊕ Nat) → XG → Prop) (v w : Value) (h : v.category = 1) (h2 : w.category = 1), XW ms d k ((pc, i_dx1) :: es) L (v :: w :: st) G Q = (XW ms d k es L (v :: w :: v :: st) G Q)) ∧
  (∀ (ms : Nat → XM) (d : Nat) (k : Nat) (pc : Nat) (es : List (Nat × XI)) (L : List Value) (st : List Value) (G : XG) (Q : (Option Value ⊕ Nat) → XG → Prop) (v : Value) (h : v.category = 1), XW ms d k ((pc, i_pop) :: es) L (v :: st) G Q = (XW ms d k es L st G Q)) ∧
  (∀ (ms : Nat → XM) (d : Nat) (k : Nat) (pc : Nat) (es : List (Nat × XI)) (L : List Value) (st : List Value) (G : XG) (Q : (Option Value ⊕ Nat) → XG → Prop) (x : Int32) (t : Nat), XW ms d k ((pc, i_ifeq t) :: es) L (.int x :: st) G Q = (if x = 0 then XL ms d k t L st G Q else XW ms d k es L st G Q)) ∧
  (∀ (ms : Nat → XM) (d : Nat) (k : Nat) (pc : Nat) (es : List (Nat × XI)) (L : List Value) (st : List Value) (G : XG) (Q : (Option Value ⊕ Nat) → XG → Prop) (x : Int32) (t : Nat), XW ms d k ((pc, i_ifne t) :: es) L (.int x :: st) G Q = (if ¬ x = 0 then XL ms d k t L st G Q else XW ms d k es L st G Q)) ∧
  (∀ (ms : Nat → XM) (d : Nat) (k : Nat) (pc : Nat) (es : List (Nat × XI)) (L : List Value) (st : List Value) (G : XG) (Q : (Option Value ⊕ Nat) → XG → Prop) (x : Int32) (t : Nat), XW ms d k ((pc, i_iflt t) :: es) L (.int x :: st) G Q = (if x < 0 then XL ms d k t L st G Q else XW ms d k es L st G Q)) ∧
  (∀ (ms : Nat → XM) (d : Nat) (k : Nat) (pc : Nat) (es : List (Nat × XI)) (L : List Value) (st : List Value) (G : XG) (Q : (Option Value ⊕ Nat) → XG → Prop) (x : Int32) (t : Nat), XW ms d k ((pc, i_ifge t) :: es) L (.int x :: st) G Q = (if 0 ≤ x then XL ms d k t L st G Q else XW ms d k es L st G Q)) ∧
  (∀ (ms : Nat → XM) (d : Nat) (k : Nat) (pc : Nat) (es : List (Nat × XI)) (L : List Value) (st : List Value) (G : XG) (Q : (Option Value ⊕ Nat) → XG → Prop) (x : Int32) (t : Nat), XW ms d k ((pc, i_ifgt t) :: es) L (.int x :: st) G Q = (if 0 < x then XL ms d k t L st G Q else XW ms d k es L st G Q)) ∧
  (∀ (ms : Nat → XM) (d : Nat) (k : Nat) (pc : Nat) (es : List (Nat × XI)) (L : List Value) (st : List Value) (G : XG) (Q : (Option Value ⊕ Nat) → XG → Prop) (x : Int32) (t : Nat), XW ms d k ((pc, i_ifle t) :: es) L (.int x :: st) G Q = (if x ≤ 0 then XL ms d k t L st G Q else XW ms d k es L st G Q)) ∧
  (∀ (ms : Nat → XM) (d : Nat) (k : Nat) (pc : Nat) (es : List (Nat × XI)) (L : List Value) (st : List Value) (G : XG) (Q : (Option Value ⊕ Nat) → XG → Prop) (x y : Int32) (t : Nat), XW ms d k ((pc, i_iceq t) :: es) L (.int y :: .int x :: st) G Q = (if x = y then XL ms d k t L st G Q else XW ms d k es L st G Q)) ∧
  (∀ (ms : Nat → XM) (d : Nat) (k : Nat) (pc : Nat) (es : List (Nat × XI)) (L : List Value) (st : List Value) (G : XG) (Q : (Option Value ⊕ Nat) → XG → Prop) (x y : Int32) (t : Nat), XW ms d k ((pc, i_icne t) :: es) L (.int y :: .int x :: st) G Q = (if ¬ x = y then XL ms d k t L st G Q else XW ms d k es L st G Q)) ∧
  (∀ (ms : Nat → XM) (d : Nat) (k : Nat) (pc : Nat) (es : List (Nat × XI)) (L : List Value) (st : List Value) (G : XG) (Q : (Option Value ⊕ Nat) → XG → Prop) (x y : Int32) (t : Nat), XW ms d k ((pc, i_iclt t) :: es) L (.int y :: .int x :: st) G Q = (if x < y then XL ms d k t L st G Q else XW ms d k es L st G Q)) ∧
  (∀ (ms : Nat → XM) (d : Nat) (k : Nat) (pc : Nat) (es : List (Nat × XI)) (L : List Value) (st : List Value) (G : XG) (Q : (Option Value ⊕ Nat) → XG → Prop) (x y : Int32) (t : Nat), XW ms d k ((pc, i_icge t) :: es) L (.int y :: .int x :: st) G Q = (if y ≤ x then XL ms d k t L st G Q else XW ms d k es L st G Q)) ∧
  (∀ (ms : Nat → XM) (d : Nat) (k : Nat) (pc : Nat) (es : List (Nat × XI)) (L : List Value) (st : List Value) (G : XG) (Q : (Option Value ⊕ Nat) → XG → Prop) (x y : Int32) (t : Nat), XW ms d k ((pc, i_icgt t) :: es) L (.int y :: .int x :: st) G Q = (if y < x then XL ms d k t L st G Q else XW ms d k es L st G Q)) ∧
  (∀ (ms : Nat → XM) (d : Nat) (k : Nat) (pc : Nat) (es : List (Nat × XI)) (L : List Value) (st : List Value) (G : XG) (Q : (Option Value ⊕ Nat) → XG → Prop) (x y : Int32) (t : Nat), XW ms d k ((pc, i_icle t) :: es) L (.int y :: .int x :: st) G Q = (if x ≤ y then XL ms d k t L st G Q else XW ms d k es L st G Q)) ∧
  (∀ (ms : Nat → XM) (d : Nat) (k : Nat) (pc : Nat) (es : List (Nat × XI)) (L : List Value) (st : List Value) (G : XG) (Q : (Option Value ⊕ Nat) → XG → Prop) (t : Nat), XW ms d k ((pc, i_got t) :: es) L st G Q = (XL ms d k t L st G Q)) ∧
  (∀ (ms : Nat → XM) (d : Nat) (k : Nat) (pc : Nat) (es : List (Nat × XI)) (L : List Value) (st : List Value) (G : XG) (Q : (Option Value ⊕ Nat) → XG → Prop) (t : Nat), XW ms d k ((pc, i_fal t) :: es) L st G Q = (XL ms d k t L st G Q)) ∧
  (∀ (ms : Nat → XM) (d : Nat) (k : Nat) (pc : Nat) (es : List (Nat × XI)) (L : List Value) (st : List Value) (G : XG) (Q : (Option Value ⊕ Nat) → XG → Prop) (t : Nat), XW ms d k ((pc, i_ifn t) :: es) L (.null :: st) G Q = (XL ms d k t L st G Q)) ∧
  (∀ (ms : Nat → XM) (d : Nat) (k : Nat) (pc : Nat) (es : List (Nat × XI)) (L : List Value) (st : List Value) (G : XG) (Q : (Option Value ⊕ Nat) → XG → Prop) (t a : Nat), XW ms d k ((pc, i_ifn t) :: es) L (.ref a :: st) G Q = (XW ms d k es L st G Q)) ∧
  (∀ (ms : Nat → XM) (d : Nat) (k : Nat) (pc : Nat) (es : List (Nat × XI)) (L : List Value) (st : List Value) (G : XG) (Q : (Option Value ⊕ Nat) → XG → Prop) (t : Nat), XW ms d k ((pc, i_inn t) :: es) L (.null :: st) G Q = (XW ms d k es L st G Q)) ∧
  (∀ (ms : Nat → XM) (d : Nat) (k : Nat) (pc : Nat) (es : List (Nat × XI)) (L : List Value) (st : List Value) (G : XG) (Q : (Option Value ⊕ Nat) → XG → Prop) (t a : Nat), XW ms d k ((pc, i_inn t) :: es) L (.ref a :: st) G Q = (XL ms d k t L st G Q)) ∧
  (∀ (ms : Nat → XM) (d : Nat) (k : Nat) (pc : Nat) (es : List (Nat × XI)) (L : List Value) (st : List Value) (G : XG) (Q : (Option Value ⊕ Nat) → XG → Prop) (t : Nat) (o : Option Nat), XW ms d k ((pc, i_ifn t) :: es) L (va_rf o :: st) G Q = (if o = none then XL ms d k t L st G Q else XW ms d k es L st G Q)) ∧
  (∀ (ms : Nat → XM) (d : Nat) (k : Nat) (pc : Nat) (es : List (Nat × XI)) (L : List Value) (st : List Value) (G : XG) (Q : (Option Value ⊕ Nat) → XG → Prop) (t : Nat) (o : Option Nat), XW ms d k ((pc, i_inn t) :: es) L (va_rf o :: st) G Q = (if o = none then XW ms d k es L st G Q else XL ms d k t L st G Q)) ∧
  (∀ (ms : Nat → XM) (d : Nat) (k : Nat) (L : List Value) (st : List Value) (G : XG) (Q : (Option Value ⊕ Nat) → XG → Prop) (t : Nat), XT ms d k (some t) L st G Q = XL ms d k t L st G Q) ∧
  (∀ (ms : Nat → XM) (d : Nat) (k : Nat) (pc : Nat) (es : List (Nat × XI)) (L : List Value) (st : List Value) (G : XG) (Q : (Option Value ⊕ Nat) → XG → Prop) (x : Int32) (lo : Int) (n t : Nat) (ts : List Nat), XW ms d k ((pc, i_tsw lo n t ts) :: es) L (.int x :: st) G Q = (if x.toInt < lo ∨ lo + n ≤ x.toInt then XL ms d k t L st G Q else XT ms d k ts[(x.toInt - lo).toNat]? L st G Q)) ∧
  (∀ (ms : Nat → XM) (d : Nat) (k : Nat) (pc : Nat) (es : List (Nat × XI)) (L : List Value) (st : List Value) (G : XG) (Q : (Option Value ⊕ Nat) → XG → Prop) (x : Int32) (t : Nat) (ks : List (Int × Nat)), XW ms d k ((pc, i_lsw t ks) :: es) L (.int x :: st) G Q = (XL ms d k (xlsw t ks x.toInt) L st G Q)) ∧
  (∀ (ms : Nat → XM) (d : Nat) (k : Nat) (pc : Nat) (es : List (Nat × XI)) (L : List Value) (st : List Value) (G : XG) (Q : (Option Value ⊕ Nat) → XG → Prop) (g a : Nat) (cs : List Nat), XW ms d k ((pc, i_gei g cs) :: es) L (.ref a :: st) G Q = (Gkd G a ∈ cs ∧ XW ms d k es L (.int (Gfi G g a) :: st) G Q)) ∧
  (∀ (ms : Nat → XM) (d : Nat) (k : Nat) (pc : Nat) (es : List (Nat × XI)) (L : List Value) (st : List Value) (G : XG) (Q : (Option Value ⊕ Nat) → XG → Prop) (g a : Nat) (cs : List Nat), XW ms d k ((pc, i_ger g cs) :: es) L (.ref a :: st) G Q = (Gkd G a ∈ cs ∧ XW ms d k es L (va_rf (Gfr G g a) :: st) G Q)) ∧
  (∀ (ms : Nat → XM) (d : Nat) (k : Nat) (pc : Nat) (es : List (Nat × XI)) (L : List Value) (st : List Value) (G : XG) (Q : (Option Value ⊕ Nat) → XG → Prop) (g a : Nat) (cs : List Nat) (b : Nat), XW ms d k ((pc, i_pur g cs) :: es) L (.ref b :: .ref a :: st) G Q = (Gkd G a ∈ cs ∧ XW ms d k es L st (Sfr G g a (some b)) Q)) ∧
  (∀ (ms : Nat → XM) (d : Nat) (k : Nat) (pc : Nat) (es : List (Nat × XI)) (L : List Value) (st : List Value) (G : XG) (Q : (Option Value ⊕ Nat) → XG → Prop) (g a : Nat) (cs : List Nat), XW ms d k ((pc, i_pur g cs) :: es) L (.null :: .ref a :: st) G Q = (Gkd G a ∈ cs ∧ XW ms d k es L st (Sfr G g a none) Q)) ∧
  (∀ (ms : Nat → XM) (d : Nat) (k : Nat) (pc : Nat) (es : List (Nat × XI)) (L : List Value) (st : List Value) (G : XG) (Q : (Option Value ⊕ Nat) → XG → Prop) (g a : Nat) (cs : List Nat) (o : Option Nat), XW ms d k ((pc, i_pur g cs) :: es) L (va_rf o :: .ref a :: st) G Q = (Gkd G a ∈ cs ∧ XW ms d k es L st (Sfr G g a o) Q)) ∧
  (∀ (ms : Nat → XM) (d : Nat) (k : Nat) (pc : Nat) (es : List (Nat × XI)) (L : List Value) (st : List Value) (G : XG) (Q : (Option Value ⊕ Nat) → XG → Prop) (g a : Nat) (v : Int32) (cs : List Nat), XW ms d k ((pc, i_pui g cs) :: es) L (.int v :: .ref a :: st) G Q = (Gkd G a ∈ cs ∧ XW ms d k es L st (Sfi G g a v) Q)) ∧
  (∀ (ms : Nat → XM) (d : Nat) (k : Nat) (pc : Nat) (es : List (Nat × XI)) (L : List Value) (st : List Value) (G : XG) (Q : (Option Value ⊕ Nat) → XG → Prop) (g a : Nat) (v : Int32) (cs : List Nat), XW ms d k ((pc, i_puz g cs) :: es) L (.int v :: .ref a :: st) G Q = ((Gkd G a ∈ cs ∧ (v = 0 ∨ v = 1)) ∧ XW ms d k es L st (Sfi G g a v) Q)) ∧
  (∀ (ms : Nat → XM) (d : Nat) (k : Nat) (pc : Nat) (es : List (Nat × XI)) (L : List Value) (st : List Value) (G : XG) (Q : (Option Value ⊕ Nat) → XG → Prop) (i : Int32) (a : Nat), XW ms d k ((pc, i_lda 0) :: es) L (.int i :: .ref a :: st) G Q = (((Gkd G a = 100 ∨ Gkd G a = 200) ∧ xin i (Gln G a)) ∧ XW ms d k es L (.int (Gai G a i.toNatClampNeg) :: st) G Q)) ∧
  (∀ (ms : Nat → XM) (d : Nat) (k : Nat) (pc : Nat) (es : List (Nat × XI)) (L : List Value) (st : List Value) (G : XG) (Q : (Option Value ⊕ Nat) → XG → Prop) (i : Int32) (a : Nat), XW ms d k ((pc, i_lda 1) :: es) L (.int i :: .ref a :: st) G Q = (((Gkd G a = 101 ∨ Gkd G a = 201) ∧ xin i (Gln G a)) ∧ XW ms d k es L (.int (Gai G a i.toNatClampNeg) :: st) G Q)) ∧
  (∀ (ms : Nat → XM) (d : Nat) (k : Nat) (pc : Nat) (es : List (Nat × XI)) (L : List Value) (st : List Value) (G : XG) (Q : (Option Value ⊕ Nat) → XG → Prop) (i : Int32) (a : Nat), XW ms d k ((pc, i_lda 2) :: es) L (.int i :: .ref a :: st) G Q = (((Gkd G a = 102 ∨ Gkd G a = 202) ∧ xin i (Gln G a)) ∧ XW ms d k es L (.int (Gai G a i.toNatClampNeg) :: st) G Q)) ∧
  (∀ (ms : Nat → XM) (d : Nat) (k : Nat) (pc : Nat) (es : List (Nat × XI)) (L : List Value) (st : List Value) (G : XG) (Q : (Option Value ⊕ Nat) → XG → Prop) (i : Int32) (a : Nat), XW ms d k ((pc, i_lda 3) :: es) L (.int i :: .ref a :: st) G Q = (((Gkd G a = 103 ∨ Gkd G a = 203) ∧ xin i (Gln G a)) ∧ XW ms d k es L (.long (Gal G a i.toNatClampNeg) :: st) G Q)) ∧
  (∀ (ms : Nat → XM) (d : Nat) (k : Nat) (pc : Nat) (es : List (Nat × XI)) (L : List Value) (st : List Value) (G : XG) (Q : (Option Value ⊕ Nat) → XG → Prop) (i : Int32) (a : Nat), XW ms d k ((pc, i_lda 4) :: es) L (.int i :: .ref a :: st) G Q = (((Gkd G a = 104 ∨ Gkd G a = 204) ∧ xin i (Gln G a)) ∧ XW ms d k es L (va_rf (Gar G a i.toNatClampNeg) :: st) G Q)) ∧
  (∀ (ms : Nat → XM) (d : Nat) (k : Nat) (pc : Nat) (es : List (Nat × XI)) (L : List Value) (st : List Value) (G : XG) (Q : (Option Value ⊕ Nat) → XG → Prop) (i : Int32) (a : Nat), XW ms d k ((pc, i_lda 5) :: es) L (.int i :: .ref a :: st) G Q = (((Gkd G a = 105 ∨ Gkd G a = 205) ∧ xin i (Gln G a)) ∧ XW ms d k es L (va_rf (Gar G a i.toNatClampNeg) :: st) G Q)) ∧
  (∀ (ms : Nat → XM) (d : Nat) (k : Nat) (pc : Nat) (es : List (Nat × XI)) (L : List Value) (st : List Value) (G : XG) (Q : (Option Value ⊕ Nat) → XG → Prop) (i : Int32) (a : Nat), XW ms d k ((pc, i_lda 6) :: es) L (.int i :: .ref a :: st) G Q = (((Gkd G a = 106 ∨ Gkd G a = 206) ∧ xin i (Gln G a)) ∧ XW ms d k es L (va_rf (Gar G a i.toNatClampNeg) :: st) G Q)) ∧
  (∀ (ms : Nat → XM) (d : Nat) (k : Nat) (pc : Nat) (es : List (Nat × XI)) (L : List Value) (st : List Value) (G : XG) (Q : (Option Value ⊕ Nat) → XG → Prop) (i : Int32) (a : Nat), XW ms d k ((pc, i_lda 7) :: es) L (.int i :: .ref a :: st) G Q = (((Gkd G a = 107 ∨ Gkd G a = 207) ∧ xin i (Gln G a)) ∧ XW ms d k es L (va_rf (Gar G a i.toNatClampNeg) :: st) G Q)) ∧
  (∀ (ms : Nat → XM) (d : Nat) (k : Nat) (pc : Nat) (es : List (Nat × XI)) (L : List Value) (st : List Value) (G : XG) (Q : (Option Value ⊕ Nat) → XG → Prop) (i : Int32) (a : Nat), XW ms d k ((pc, i_lda 8) :: es) L (.int i :: .ref a :: st) G Q = (((Gkd G a = 108 ∨ Gkd G a = 208) ∧ xin i (Gln G a)) ∧ XW ms d k es L (va_rf (Gar G a i.toNatClampNeg) :: st) G Q)) ∧
  (∀ (ms : Nat → XM) (d : Nat) (k : Nat) (pc : Nat) (es : List (Nat × XI)) (L : List Value) (st : List Value) (G : XG) (Q : (Option Value ⊕ Nat) → XG → Prop) (i : Int32) (a : Nat), XW ms d k ((pc, i_lda 9) :: es) L (.int i :: .ref a :: st) G Q = (((Gkd G a = 109 ∨ Gkd G a = 209) ∧ xin i (Gln G a)) ∧ XW ms d k es L (va_rf (Gar G a i.toNatClampNeg) :: st) G Q)) ∧
  (∀ (ms : Nat → XM) (d : Nat) (k : Nat) (pc : Nat) (es : List (Nat × XI)) (L : List Value) (st : List Value) (G : XG) (Q : (Option Value ⊕ Nat) → XG → Prop) (t a : Nat) (i : Int32) (cs : List Nat) (b : Nat), XW ms d k ((pc, i_aas t cs) :: es) L (.ref b :: .int i :: .ref a :: st) G Q = ((Gkd G a = 100 + t ∧ xin i (Gln G a) ∧ xrfk G cs (some b) = true) ∧ XW ms d k es L st (Sar G a i.toNatClampNeg (some b)) Q)) ∧
  (∀ (ms : Nat → XM) (d : Nat) (k : Nat) (pc : Nat) (es : List (Nat × XI)) (L : List Value) (st : List Value) (G : XG) (Q : (Option Value ⊕ Nat) → XG → Prop) (a : Nat) (i : Int32) (b : Nat), XW ms d k ((pc, i_aaA) :: es) L (.ref b :: .int i :: .ref a :: st) G Q = ((Gkd G a = 105 ∧ xin i (Gln G a) ∧ xrfk G [104] (some b) = true) ∧ XW ms d k es L st (Sar G a i.toNatClampNeg (some b)) Q)) ∧
  (∀ (ms : Nat → XM) (d : Nat) (k : Nat) (pc : Nat) (es : List (Nat × XI)) (L : List Value) (st : List Value) (G : XG) (Q : (Option Value ⊕ Nat) → XG → Prop) (cs : List Nat) (b : Nat), XW ms d k ((pc, i_cst cs) :: es) L (.ref b :: st) G Q = (xrfk G cs (some b) = true ∧ XW ms d k es L (va_rf (some b) :: st) G Q)) ∧
  (∀ (ms : Nat → XM) (d : Nat) (k : Nat) (pc : Nat) (es : List (Nat × XI)) (L : List Value) (st : List Value) (G : XG) (Q : (Option Value ⊕ Nat) → XG → Prop) (t a : Nat) (i : Int32) (cs : List Nat), XW ms d k ((pc, i_aas t cs) :: es) L (.null :: .int i :: .ref a :: st) G Q = ((Gkd G a = 100 + t ∧ xin i (Gln G a) ∧ xrfk G cs none = true) ∧ XW ms d k es L st (Sar G a i.toNatClampNeg none) Q)) ∧
  (∀ (ms : Nat → XM) (d : Nat) (k : Nat) (pc : Nat) (es : List (Nat × XI)) (L : List Value) (st : List Value) (G : XG) (Q : (Option Value ⊕ Nat) → XG → Prop) (a : Nat) (i : Int32), XW ms d k ((pc, i_aaA) :: es) L (.null :: .int i :: .ref a :: st) G Q = ((Gkd G a = 105 ∧ xin i (Gln G a) ∧ xrfk G [104] none = true) ∧ XW ms d k es L st (Sar G a i.toNatClampNeg none) Q)) ∧
  (∀ (ms : Nat → XM) (d : Nat) (k : Nat) (pc : Nat) (es : List (Nat × XI)) (L : List Value) (st : List Value) (G : XG) (Q : (Option Value ⊕ Nat) → XG → Prop) (cs : List Nat), XW ms d k ((pc, i_cst cs) :: es) L (.null :: st) G Q = (xrfk G cs none = true ∧ XW ms d k es L (va_rf none :: st) G Q)) ∧
  (∀ (ms : Nat → XM) (d : Nat) (k : Nat) (pc : Nat) (es : List (Nat × XI)) (L : List Value) (st : List Value) (G : XG) (Q : (Option Value ⊕ Nat) → XG → Prop) (t a : Nat) (i : Int32) (cs : List Nat) (o : Option Nat), XW ms d k ((pc, i_aas t cs) :: es) L (va_rf o :: .int i :: .ref a :: st) G Q = ((Gkd G a = 100 + t ∧ xin i (Gln G a) ∧ xrfk G cs o = true) ∧ XW ms d k es L st (Sar G a i.toNatClampNeg o) Q)) ∧
  (∀ (ms : Nat → XM) (d : Nat) (k : Nat) (pc : Nat) (es : List (Nat × XI)) (L : List Value) (st : List Value) (G : XG) (Q : (Option Value ⊕ Nat) → XG → Prop) (a : Nat) (i : Int32) (o : Option Nat), XW ms d k ((pc, i_aaA) :: es) L (va_rf o :: .int i :: .ref a :: st) G Q = ((Gkd G a = 105 ∧ xin i (Gln G a) ∧ xrfk G [104] o = true) ∧ XW ms d k es L st (Sar G a i.toNatClampNeg o) Q)) ∧
  (∀ (ms : Nat → XM) (d : Nat) (k : Nat) (pc : Nat) (es : List (Nat × XI)) (L : List Value) (st : List Value) (G : XG) (Q : (Option Value ⊕ Nat) → XG → Prop) (cs : List Nat) (o : Option Nat), XW ms d k ((pc, i_cst cs) :: es) L (va_rf o :: st) G Q = (xrfk G cs o = true ∧ XW ms d k es L (va_rf o :: st) G Q)) ∧
  (∀ (ms : Nat → XM) (d : Nat) (k : Nat) (pc : Nat) (es : List (Nat × XI)) (L : List Value) (st : List Value) (G : XG) (Q : (Option Value ⊕ Nat) → XG → Prop) (x i : Int32) (a : Nat), XW ms d k ((pc, i_ias) :: es) L (.int x :: .int i :: .ref a :: st) G Q = ((Gkd G a = 100 ∧ xin i (Gln G a)) ∧ XW ms d k es L st (Sai G a i.toNatClampNeg x) Q)) ∧
  (∀ (ms : Nat → XM) (d : Nat) (k : Nat) (pc : Nat) (es : List (Nat × XI)) (L : List Value) (st : List Value) (G : XG) (Q : (Option Value ⊕ Nat) → XG → Prop) (x i : Int32) (a : Nat), XW ms d k ((pc, i_bas) :: es) L (.int x :: .int i :: .ref a :: st) G Q = ((Gkd G a = 101 ∧ xin i (Gln G a)) ∧ XW ms d k es L st (Sai G a i.toNatClampNeg x.toInt8.toInt32) Q)) ∧
  (∀ (ms : Nat → XM) (d : Nat) (k : Nat) (pc : Nat) (es : List (Nat × XI)) (L : List Value) (st : List Value) (G : XG) (Q : (Option Value ⊕ Nat) → XG → Prop) (x i : Int32) (a : Nat), XW ms d k ((pc, i_zas) :: es) L (.int x :: .int i :: .ref a :: st) G Q = ((Gkd G a = 102 ∧ xin i (Gln G a) ∧ (x = 0 ∨ x = 1)) ∧ XW ms d k es L st (Sai G a i.toNatClampNeg x) Q)) ∧
  (∀ (ms : Nat → XM) (d : Nat) (k : Nat) (pc : Nat) (es : List (Nat × XI)) (L : List Value) (st : List Value) (G : XG) (Q : (Option Value ⊕ Nat) → XG → Prop) (i : Int32) (x : Int64) (a : Nat), XW ms d k ((pc, i_las) :: es) L (.long x :: .int i :: .ref a :: st) G Q = ((Gkd G a = 103 ∧ xin i (Gln G a)) ∧ XW ms d k es L st (Sal G a i.toNatClampNeg x) Q)) ∧
  (∀ (ms : Nat → XM) (d : Nat) (k : Nat) (pc : Nat) (es : List (Nat × XI)) (L : List Value) (st : List Value) (G : XG) (Q : (Option Value ⊕ Nat) → XG → Prop) (a : Nat), XW ms d k ((pc, i_len) :: es) L (.ref a :: st) G Q = ((100 ≤ Gkd G a ∧ Gkd G a < 300) ∧ XW ms d k es L (.int (nI (Gln G a)) :: st) G Q)) ∧
  (∀ (ms : Nat → XM) (d : Nat) (k : Nat) (pc : Nat) (es : List (Nat × XI)) (L : List Value) (st : List Value) (G : XG) (Q : (Option Value ⊕ Nat) → XG → Prop) (t : Nat) (n : Int32), XW ms d k ((pc, i_nwa t) :: es) L (.int n :: st) G Q = ((¬ n < 0 ∧ n.toNatClampNeg ≤ 60000000) ∧ XW ms d k es L (.ref (Gtp G) :: st) (Sna G t n.toNatClampNeg) Q)) ∧
  (∀ (ms : Nat → XM) (d : Nat) (k : Nat) (pc : Nat) (es : List (Nat × XI)) (L : List Value) (st : List Value) (G : XG) (Q : (Option Value ⊕ Nat) → XG → Prop) (c n : Nat), XW ms d k ((pc, i_new c n) :: es) L st G Q = (XW ms d k es L (.ref (Gtp G) :: st) (Sno G c n) Q)) ∧
  (∀ (ms : Nat → XM) (d : Nat) (k : Nat) (pc : Nat) (es : List (Nat × XI)) (L : List Value) (st : List Value) (G : XG) (Q : (Option Value ⊕ Nat) → XG → Prop) (a : Nat), XW ms d k ((pc, i_obj) :: es) L (.ref a :: st) G Q = (xwt st ≤ 8 ∧ XW ms d k es L st G Q)) ∧
  (∀ (ms : Nat → XM) (d : Nat) (k : Nat) (pc : Nat) (es : List (Nat × XI)) (L : List Value) (st : List Value) (G : XG) (Q : (Option Value ⊕ Nat) → XG → Prop) (n dp sp : Int32) (a b : Nat), XW ms d k ((pc, i_cpi) :: es) L (.int n :: .int dp :: .ref b :: .int sp :: .ref a :: st) G Q = ((xwt st ≤ 8 ∧ ¬ sp < 0 ∧ ¬ dp < 0 ∧ ¬ n < 0 ∧ sp.toNatClampNeg + n.toNatClampNeg ≤ Gln G a ∧ dp.toNatClampNeg + n.toNatClampNeg ≤ Gln G b ∧ Gkd G a = 100 ∧ Gkd G b = 100) ∧ XW ms d k es L st (Rai G b (va_cpy (Gai G a) (Gai G b) sp.toNatClampNeg dp.toNatClampNeg n.toNatClampNeg)) Q)) ∧
  (∀ (ms : Nat → XM) (d : Nat) (k : Nat) (pc : Nat) (es : List (Nat × XI)) (L : List Value) (st : List Value) (G : XG) (Q : (Option Value ⊕ Nat) → XG → Prop) (n dp sp : Int32) (a b t : Nat) (ks : List Nat), XW ms d k ((pc, i_cpq t ks) :: es) L (.int n :: .int dp :: .ref b :: .int sp :: .ref a :: st) G Q = ((xwt st ≤ 8 ∧ ¬ sp < 0 ∧ ¬ dp < 0 ∧ ¬ n < 0 ∧ sp.toNatClampNeg + n.toNatClampNeg ≤ Gln G a ∧ dp.toNatClampNeg + n.toNatClampNeg ≤ Gln G b ∧ Gkd G a = 100 + t ∧ Gkd G b = 100 + t ∧ ∀ i, i < n.toNatClampNeg → xrfk G ks (Gar G a (sp.toNatClampNeg + i)) = true) ∧ XW ms d k es L st (Rar G b (va_cpy (Gar G a) (Gar G b) sp.toNatClampNeg dp.toNatClampNeg n.toNatClampNeg)) Q)) ∧
  (∀ (ms : Nat → XM) (d : Nat) (k : Nat) (pc : Nat) (es : List (Nat × XI)) (L : List Value) (st : List Value) (G : XG) (Q : (Option Value ⊕ Nat) → XG → Prop) (a : Nat), XW ms d k ((pc, i_sln) :: es) L (.ref a :: st) G Q = ((300 ≤ Gkd G a ∧ xwt st ≤ 8) ∧ XW ms d k es L (.int (nI (xsln (Gkd G a - 300))) :: st) G Q)) ∧
  (∀ (ms : Nat → XM) (d : Nat) (k : Nat) (pc : Nat) (es : List (Nat × XI)) (L : List Value) (st : List Value) (G : XG) (Q : (Option Value ⊕ Nat) → XG → Prop) (a : Nat) (i : Int32), XW ms d k ((pc, i_sch) :: es) L (.int i :: .ref a :: st) G Q = ((300 ≤ Gkd G a ∧ xin i (xsln (Gkd G a - 300)) ∧ xwt st ≤ 8) ∧ XW ms d k es L (.int ((xsby (Gkd G a - 300)).getD i.toNatClampNeg 0) :: st) G Q)) ∧
  (∀ (ms : Nat → XM) (d : Nat) (k : Nat) (pc : Nat) (es : List (Nat × XI)) (L : List Value) (st : List Value) (G : XG) (Q : (Option Value ⊕ Nat) → XG → Prop), XK ms d k pc es L st Q (.inl none) G = XW ms d k es L st G Q) ∧
  (∀ (ms : Nat → XM) (d : Nat) (k : Nat) (pc : Nat) (es : List (Nat × XI)) (L : List Value) (st : List Value) (G : XG) (Q : (Option Value ⊕ Nat) → XG → Prop) (v : Value), XK ms d k pc es L st Q (.inl (some v)) G = XW ms d k es L (v :: st) G Q) ∧
  (∀ (ms : Nat → XM) (d : Nat) (k : Nat) (pc : Nat) (es : List (Nat × XI)) (L : List Value) (st : List Value) (G : XG) (Q : (Option Value ⊕ Nat) → XG → Prop) (z : Nat), XK ms d k pc es L st Q (.inr z) G = XH ms d k pc z L G Q) ∧
  (∀ (ms : Nat → XM) (d : Nat) (k : Nat) (pc : Nat) (es : List (Nat × XI)) (L : List Value) (st : List Value) (G : XG) (Q : (Option Value ⊕ Nat) → XG → Prop) (j : Nat) (as : List Value), XV ms d k pc es L st as G Q (some j) = (xwt st ≤ 8 ∧ XC ms d j as G (XK ms d k pc es L st Q))) ∧
  (∀ (ms : Nat → XM) (d : Nat) (k : Nat) (pc : Nat) (es : List (Nat × XI)) (L : List Value) (st : List Value) (G : XG) (Q : (Option Value ⊕ Nat) → XG → Prop) (j : Nat), XW ms d k ((pc, i_cls j 0) :: es) L (st) G Q = (xwt st ≤ 8 ∧ XC ms d j [] G (XK ms d k pc es L st Q))) ∧
  (∀ (ms : Nat → XM) (d : Nat) (k : Nat) (pc : Nat) (es : List (Nat × XI)) (L : List Value) (st : List Value) (G : XG) (Q : (Option Value ⊕ Nat) → XG → Prop) (j c : Nat), XW ms d k ((pc, i_cli j 0) :: es) L (.ref c :: st) G Q = (xwt st ≤ 8 ∧ XC ms d j [.ref c] G (XK ms d k pc es L st Q))) ∧
  (∀ (ms : Nat → XM) (d : Nat) (k : Nat) (pc : Nat) (es : List (Nat × XI)) (L : List Value) (st : List Value) (G : XG) (Q : (Option Value ⊕ Nat) → XG → Prop) (c : Nat) (l : List (Nat × Nat)), XW ms d k ((pc, i_clv 0 l) :: es) L (.ref c :: st) G Q = (XV ms d k pc es L st [.ref c] G Q (xlo l (Gkd G c)))) ∧
  (∀ (ms : Nat → XM) (d : Nat) (k : Nat) (pc : Nat) (es : List (Nat × XI)) (L : List Value) (st : List Value) (G : XG) (Q : (Option Value ⊕ Nat) → XG → Prop) (j : Nat) (b0 : Value), XW ms d k ((pc, i_cls j 1) :: es) L (b0 :: st) G Q = (xwt st ≤ 8 ∧ XC ms d j [b0] G (XK ms d k pc es L st Q))) ∧
  (∀ (ms : Nat → XM) (d : Nat) (k : Nat) (pc : Nat) (es : List (Nat × XI)) (L : List Value) (st : List Value) (G : XG) (Q : (Option Value ⊕ Nat) → XG → Prop) (j c : Nat) (b0 : Value), XW ms d k ((pc, i_cli j 1) :: es) L (b0 :: .ref c :: st) G Q = (xwt st ≤ 8 ∧ XC ms d j [.ref c, b0] G (XK ms d k pc es L st Q))) ∧
  (∀ (ms : Nat → XM) (d : Nat) (k : Nat) (pc : Nat) (es : List (Nat × XI)) (L : List Value) (st : List Value) (G : XG) (Q : (Option Value ⊕ Nat) → XG → Prop) (c : Nat) (l : List (Nat × Nat)) (b0 : Value), XW ms d k ((pc, i_clv 1 l) :: es) L (b0 :: .ref c :: st) G Q = (XV ms d k pc es L st [.ref c, b0] G Q (xlo l (Gkd G c)))) ∧
  (∀ (ms : Nat → XM) (d : Nat) (k : Nat) (pc : Nat) (es : List (Nat × XI)) (L : List Value) (st : List Value) (G : XG) (Q : (Option Value ⊕ Nat) → XG → Prop) (j : Nat) (b0 b1 : Value), XW ms d k ((pc, i_cls j 2) :: es) L (b1 :: b0 :: st) G Q = (xwt st ≤ 8 ∧ XC ms d j [b0, b1] G (XK ms d k pc es L st Q))) ∧
  (∀ (ms : Nat → XM) (d : Nat) (k : Nat) (pc : Nat) (es : List (Nat × XI)) (L : List Value) (st : List Value) (G : XG) (Q : (Option Value ⊕ Nat) → XG → Prop) (j c : Nat) (b0 b1 : Value), XW ms d k ((pc, i_cli j 2) :: es) L (b1 :: b0 :: .ref c :: st) G Q = (xwt st ≤ 8 ∧ XC ms d j [.ref c, b0, b1] G (XK ms d k pc es L st Q))) ∧
  (∀ (ms : Nat → XM) (d : Nat) (k : Nat) (pc : Nat) (es : List (Nat × XI)) (L : List Value) (st : List Value) (G : XG) (Q : (Option Value ⊕ Nat) → XG → Prop) (c : Nat) (l : List (Nat × Nat)) (b0 b1 : Value), XW ms d k ((pc, i_clv 2 l) :: es) L (b1 :: b0 :: .ref c :: st) G Q = (XV ms d k pc es L st [.ref c, b0, b1] G Q (xlo l (Gkd G c)))) ∧
  (∀ (ms : Nat → XM) (d : Nat) (k : Nat) (pc : Nat) (es : List (Nat × XI)) (L : List Value) (st : List Value) (G : XG) (Q : (Option Value ⊕ Nat) → XG → Prop) (j : Nat) (b0 b1 b2 : Value), XW ms d k ((pc, i_cls j 3) :: es) L (b2 :: b1 :: b0 :: st) G Q = (xwt st ≤ 8 ∧ XC ms d j [b0, b1, b2] G (XK ms d k pc es L st Q))) ∧
  (∀ (ms : Nat → XM) (d : Nat) (k : Nat) (pc : Nat) (es : List (Nat × XI)) (L : List Value) (st : List Value) (G : XG) (Q : (Option Value ⊕ Nat) → XG → Prop) (j c : Nat) (b0 b1 b2 : Value), XW ms d k ((pc, i_cli j 3) :: es) L (b2 :: b1 :: b0 :: .ref c :: st) G Q = (xwt st ≤ 8 ∧ XC ms d j [.ref c, b0, b1, b2] G (XK ms d k pc es L st Q))) ∧
  (∀ (ms : Nat → XM) (d : Nat) (k : Nat) (pc : Nat) (es : List (Nat × XI)) (L : List Value) (st : List Value) (G : XG) (Q : (Option Value ⊕ Nat) → XG → Prop) (c : Nat) (l : List (Nat × Nat)) (b0 b1 b2 : Value), XW ms d k ((pc, i_clv 3 l) :: es) L (b2 :: b1 :: b0 :: .ref c :: st) G Q = (XV ms d k pc es L st [.ref c, b0, b1, b2] G Q (xlo l (Gkd G c)))) ∧
  (∀ (ms : Nat → XM) (d : Nat) (k : Nat) (pc : Nat) (es : List (Nat × XI)) (L : List Value) (st : List Value) (G : XG) (Q : (Option Value ⊕ Nat) → XG → Prop) (j : Nat) (b0 b1 b2 b3 : Value), XW ms d k ((pc, i_cls j 4) :: es) L (b3 :: b2 :: b1 :: b0 :: st) G Q = (xwt st ≤ 8 ∧ XC ms d j [b0, b1, b2, b3] G (XK ms d k pc es L st Q))) ∧
  (∀ (ms : Nat → XM) (d : Nat) (k : Nat) (pc : Nat) (es : List (Nat × XI)) (L : List Value) (st : List Value) (G : XG) (Q : (Option Value ⊕ Nat) → XG → Prop) (j c : Nat) (b0 b1 b2 b3 : Value), XW ms d k ((pc, i_cli j 4) :: es) L (b3 :: b2 :: b1 :: b0 :: .ref c :: st) G Q = (xwt st ≤ 8 ∧ XC ms d j [.ref c, b0, b1, b2, b3] G (XK ms d k pc es L st Q))) ∧
  (∀ (ms : Nat → XM) (d : Nat) (k : Nat) (pc : Nat) (es : List (Nat × XI)) (L : List Value) (st : List Value) (G : XG) (Q : (Option Value ⊕ Nat) → XG → Prop) (c : Nat) (l : List (Nat × Nat)) (b0 b1 b2 b3 : Value), XW ms d k ((pc, i_clv 4 l) :: es) L (b3 :: b2 :: b1 :: b0 :: .ref c :: st) G Q = (XV ms d k pc es L st [.ref c, b0, b1, b2, b3] G Q (xlo l (Gkd G c)))) ∧
  (∀ (ms : Nat → XM) (d : Nat) (k : Nat) (pc : Nat) (es : List (Nat × XI)) (L : List Value) (st : List Value) (G : XG) (Q : (Option Value ⊕ Nat) → XG → Prop) (j : Nat) (b0 b1 b2 b3 b4 : Value), XW ms d k ((pc, i_cls j 5) :: es) L (b4 :: b3 :: b2 :: b1 :: b0 :: st) G Q = (xwt st ≤ 8 ∧ XC ms d j [b0, b1, b2, b3, b4] G (XK ms d k pc es L st Q))) ∧
  (∀ (ms : Nat → XM) (d : Nat) (k : Nat) (pc : Nat) (es : List (Nat × XI)) (L : List Value) (st : List Value) (G : XG) (Q : (Option Value ⊕ Nat) → XG → Prop) (j c : Nat) (b0 b1 b2 b3 b4 : Value), XW ms d k ((pc, i_cli j 5) :: es) L (b4 :: b3 :: b2 :: b1 :: b0 :: .ref c :: st) G Q = (xwt st ≤ 8 ∧ XC ms d j [.ref c, b0, b1, b2, b3, b4] G (XK ms d k pc es L st Q))) ∧
  (∀ (ms : Nat → XM) (d : Nat) (k : Nat) (pc : Nat) (es : List (Nat × XI)) (L : List Value) (st : List Value) (G : XG) (Q : (Option Value ⊕ Nat) → XG → Prop) (c : Nat) (l : List (Nat × Nat)) (b0 b1 b2 b3 b4 : Value), XW ms d k ((pc, i_clv 5 l) :: es) L (b4 :: b3 :: b2 :: b1 :: b0 :: .ref c :: st) G Q = (XV ms d k pc es L st [.ref c, b0, b1, b2, b3, b4] G Q (xlo l (Gkd G c)))) ∧
  (∀ (ms : Nat → XM) (d : Nat) (k : Nat) (pc : Nat) (es : List (Nat × XI)) (L : List Value) (st : List Value) (G : XG) (Q : (Option Value ⊕ Nat) → XG → Prop) (j : Nat) (b0 b1 b2 b3 b4 b5 : Value), XW ms d k ((pc, i_cls j 6) :: es) L (b5 :: b4 :: b3 :: b2 :: b1 :: b0 :: st) G Q = (xwt st ≤ 8 ∧ XC ms d j [b0, b1, b2, b3, b4, b5] G (XK ms d k pc es L st Q))) ∧
  (∀ (ms : Nat → XM) (d : Nat) (k : Nat) (pc : Nat) (es : List (Nat × XI)) (L : List Value) (st : List Value) (G : XG) (Q : (Option Value ⊕ Nat) → XG → Prop) (j c : Nat) (b0 b1 b2 b3 b4 b5 : Value), XW ms d k ((pc, i_cli j 6) :: es) L (b5 :: b4 :: b3 :: b2 :: b1 :: b0 :: .ref c :: st) G Q = (xwt st ≤ 8 ∧ XC ms d j [.ref c, b0, b1, b2, b3, b4, b5] G (XK ms d k pc es L st Q))) ∧
  (∀ (ms : Nat → XM) (d : Nat) (k : Nat) (pc : Nat) (es : List (Nat × XI)) (L : List Value) (st : List Value) (G : XG) (Q : (Option Value ⊕ Nat) → XG → Prop) (c : Nat) (l : List (Nat × Nat)) (b0 b1 b2 b3 b4 b5 : Value), XW ms d k ((pc, i_clv 6 l) :: es) L (b5 :: b4 :: b3 :: b2 :: b1 :: b0 :: .ref c :: st) G Q = (XV ms d k pc es L st [.ref c, b0, b1, b2, b3, b4, b5] G Q (xlo l (Gkd G c)))) ∧
  (∀ (ms : Nat → XM) (d : Nat) (k : Nat) (pc : Nat) (es : List (Nat × XI)) (L : List Value) (st : List Value) (G : XG) (Q : (Option Value ⊕ Nat) → XG → Prop) (j : Nat) (b0 b1 b2 b3 b4 b5 b6 : Value), XW ms d k ((pc, i_cls j 7) :: es) L (b6 :: b5 :: b4 :: b3 :: b2 :: b1 :: b0 :: st) G Q = (xwt st ≤ 8 ∧ XC ms d j [b0, b1, b2, b3, b4, b5, b6] G (XK ms d k pc es L st Q))) ∧
  (∀ (ms : Nat → XM) (d : Nat) (k : Nat) (pc : Nat) (es : List (Nat × XI)) (L : List Value) (st : List Value) (G : XG) (Q : (Option Value ⊕ Nat) → XG → Prop) (j c : Nat) (b0 b1 b2 b3 b4 b5 b6 : Value), XW ms d k ((pc, i_cli j 7) :: es) L (b6 :: b5 :: b4 :: b3 :: b2 :: b1 :: b0 :: .ref c :: st) G Q = (xwt st ≤ 8 ∧ XC ms d j [.ref c, b0, b1, b2, b3, b4, b5, b6] G (XK ms d k pc es L st Q))) ∧
  (∀ (ms : Nat → XM) (d : Nat) (k : Nat) (pc : Nat) (es : List (Nat × XI)) (L : List Value) (st : List Value) (G : XG) (Q : (Option Value ⊕ Nat) → XG → Prop) (c : Nat) (l : List (Nat × Nat)) (b0 b1 b2 b3 b4 b5 b6 : Value), XW ms d k ((pc, i_clv 7 l) :: es) L (b6 :: b5 :: b4 :: b3 :: b2 :: b1 :: b0 :: .ref c :: st) G Q = (XV ms d k pc es L st [.ref c, b0, b1, b2, b3, b4, b5, b6] G Q (xlo l (Gkd G c)))) ∧
  (∀ (ms : Nat → XM) (d : Nat) (k : Nat) (pc : Nat) (es : List (Nat × XI)) (L : List Value) (G : XG) (Q : (Option Value ⊕ Nat) → XG → Prop), XW ms d k ((pc, i_ret 0) :: es) L [] G Q = (Q (.inl none) G)) ∧
  (∀ (ms : Nat → XM) (d : Nat) (k : Nat) (pc : Nat) (es : List (Nat × XI)) (L : List Value) (G : XG) (Q : (Option Value ⊕ Nat) → XG → Prop) (x : Int32), XW ms d k ((pc, i_ret 1) :: es) L [.int x] G Q = (Q (.inl (some (.int x))) G)) ∧
  (∀ (ms : Nat → XM) (d : Nat) (k : Nat) (pc : Nat) (es : List (Nat × XI)) (L : List Value) (G : XG) (Q : (Option Value ⊕ Nat) → XG → Prop) (x : Int64), XW ms d k ((pc, i_ret 2) :: es) L [.long x] G Q = (Q (.inl (some (.long x))) G)) ∧
  (∀ (ms : Nat → XM) (d : Nat) (k : Nat) (pc : Nat) (es : List (Nat × XI)) (L : List Value) (G : XG) (Q : (Option Value ⊕ Nat) → XG → Prop) (x : Nat), XW ms d k ((pc, i_ret 3) :: es) L [.ref x] G Q = (Q (.inl (some (.ref x))) G)) ∧
  (∀ (ms : Nat → XM) (d : Nat) (k : Nat) (pc : Nat) (es : List (Nat × XI)) (L : List Value) (G : XG) (Q : (Option Value ⊕ Nat) → XG → Prop), XW ms d k ((pc, i_ret 3) :: es) L [.null] G Q = (Q (.inl (some .null)) G)) ∧
  (∀ (ms : Nat → XM) (d : Nat) (k : Nat) (pc : Nat) (es : List (Nat × XI)) (L : List Value) (G : XG) (Q : (Option Value ⊕ Nat) → XG → Prop) (o : Option Nat), XW ms d k ((pc, i_ret 3) :: es) L [va_rf o] G Q = (Q (.inl (some (va_rf o))) G)) ∧
  (∀ (ms : Nat → XM) (d : Nat) (k : Nat) (pc : Nat) (es : List (Nat × XI)) (L : List Value) (G : XG) (Q : (Option Value ⊕ Nat) → XG → Prop) (x : Int32), XW ms d k ((pc, i_ret 4) :: es) L [.int x] G Q = ((x = 0 ∨ x = 1) ∧ Q (.inl (some (.int x))) G)) ∧
  (∀ (ms : Nat → XM) (d : Nat) (k : Nat) (pc : Nat) (es : List (Nat × XI)) (L : List Value) (st : List Value) (G : XG) (Q : (Option Value ⊕ Nat) → XG → Prop) (z : Nat), XW ms d k ((pc, i_thr) :: es) L (.ref z :: st) G Q = (xthk (Gkd G z) = true ∧ XH ms d k pc z L G Q)) ∧
  (∀ (x : Int32), (Value.int x).category = 1) ∧
  (∀ (x : Int64), (Value.long x).category = 2) ∧
  (Value.null.category = 1) ∧
  (∀ (a : Nat), (Value.ref a).category = 1) ∧
  (xjk.category = 1) ∧
  (xwt [] = 0) ∧
  (∀ (v : Value) (r : List Value), xwt (v :: r) = v.category + xwt r) ∧
  (va_rf none = .null) ∧
  (∀ (a : Nat), va_rf (some a) = .ref a) ∧
  (xex [] = []) ∧
  (∀ (v : Value) (r : List Value) (h : v.category = 1), xex (v :: r) = v :: xex r) ∧
  (∀ (v : Value) (r : List Value) (h : v.category = 2), xex (v :: r) = v :: xjk :: xex r) ∧
  (∀ (k : Nat) (k : Nat), xlo [] k = none) ∧
  (∀ (k : Nat) (a b k : Nat) (r : List (Nat × Nat)), xlo ((a, b) :: r) k = if k = a then some b else xlo r k) ∧
  (∀ (G : XG) (G : XG) (cs : List Nat), (xrfk G cs none = true) = True) ∧
  (∀ (G : XG) (G : XG) (cs : List Nat) (b : Nat), (xrfk G cs (some b) = true) = (Gkd G b ∈ cs)) :=
  ⟨by intros; first | rfl | exact w_ild_0 | apply w_ild_0, by intros; first | rfl | exact w_ild_1 | apply w_ild_1, by intros; first | rfl | exact w_ild_2 | apply w_ild_2, by intros; first | rfl | exact w_ild_3 | apply w_ild_3, by intros; first | rfl | exact w_ild_4 | apply w_ild_4, by intros; first | rfl | exact w_ild_5 | apply w_ild_5, by intros; first | rfl | exact w_ild_6 | apply w_ild_6, by intros; first | rfl | exact w_ild_7 | apply w_ild_7, by intros; first | rfl | exact w_ild_8 | apply w_ild_8, by intros; first | rfl | exact w_ild_9 | apply w_ild_9, by intros; first | rfl | exact w_ild_10 | apply w_ild_10, by intros; first | rfl | exact w_ild_11 | apply w_ild_11, by intros; first | rfl | exact w_ild_12 | apply w_ild_12, by intros; first | rfl | exact w_lld_0 | apply w_lld_0, by intros; first | rfl | exact w_lld_1 | apply w_lld_1, by intros; first | rfl | exact w_lld_2 | apply w_lld_2, by intros; first | rfl | exact w_lld_3 | apply w_lld_3, by intros; first | rfl | exact w_lld_4 | apply w_lld_4, by intros; first | rfl | exact w_lld_5 | apply w_lld_5, by intros; first | rfl | exact w_lld_6 | apply w_lld_6, by intros; first | rfl | exact w_lld_7 | apply w_lld_7, by intros; first | rfl | exact w_lld_8 | apply w_lld_8, by intros; first | rfl | exact w_lld_9 | apply w_lld_9, by intros; first | rfl | exact w_lld_10 | apply w_lld_10, by intros; first | rfl | exact w_lld_11 | apply w_lld_11, by intros; first | rfl | exact w_lld_12 | apply w_lld_12, by intros; first | rfl | exact w_ald_0 | apply w_ald_0, by intros; first | rfl | exact w_ald_1 | apply w_ald_1, by intros; first | rfl | exact w_ald_2 | apply w_ald_2, by intros; first | rfl | exact w_ald_3 | apply w_ald_3, by intros; first | rfl | exact w_ald_4 | apply w_ald_4, by intros; first | rfl | exact w_ald_5 | apply w_ald_5, by intros; first | rfl | exact w_ald_6 | apply w_ald_6, by intros; first | rfl | exact w_ald_7 | apply w_ald_7, by intros; first | rfl | exact w_ald_8 | apply w_ald_8, by intros; first | rfl | exact w_ald_9 | apply w_ald_9, by intros; first | rfl | exact w_ald_10 | apply w_ald_10, by intros; first | rfl | exact w_ald_11 | apply w_ald_11, by intros; first | rfl | exact w_ald_12 | apply w_ald_12, by intros; first | rfl | exact w_aldN_0 | apply w_aldN_0, by intros; first | rfl | exact w_aldN_1 | apply w_aldN_1, by intros; first | rfl | exact w_aldN_2 | apply w_aldN_2, by intros; first | rfl | exact w_aldN_3 | apply w_aldN_3, by intros; first | rfl | exact w_aldN_4 | apply w_aldN_4, by intros; first | rfl | exact w_aldN_5 | apply w_aldN_5, by intros; first | rfl | exact w_aldN_6 | apply w_aldN_6, by intros; first | rfl | exact w_aldN_7 | apply w_aldN_7, by intros; first | rfl | exact w_aldN_8 | apply w_aldN_8, by intros; first | rfl | exact w_aldN_9 | apply w_aldN_9, by intros; first | rfl | exact w_aldN_10 | apply w_aldN_10, by intros; first | rfl | exact w_aldN_11 | apply w_aldN_11, by intros; first | rfl | exact w_aldN_12 | apply w_aldN_12, by intros; first | rfl | exact w_aldO_0 | apply w_aldO_0, by intros; first | rfl | exact w_aldO_1 | apply w_aldO_1, by intros; first | rfl | exact w_aldO_2 | apply w_aldO_2, by intros; first | rfl | exact w_aldO_3 | apply w_aldO_3, by intros; first | rfl | exact w_aldO_4 | apply w_aldO_4, by intros; first | rfl | exact w_aldO_5 | apply w_aldO_5, by intros; first | rfl | exact w_aldO_6 | apply w_aldO_6, by intros; first | rfl | exact w_aldO_7 | apply w_aldO_7, by intros; first | rfl | exact w_aldO_8 | apply w_aldO_8, by intros; first | rfl | exact w_aldO_9 | apply w_aldO_9, by intros; first | rfl | exact w_aldO_10 | apply w_aldO_10, by intros; first | rfl | exact w_aldO_11 | apply w_aldO_11, by intros; first | rfl | exact w_aldO_12 | apply w_aldO_12, by intros; first | rfl | exact w_ist_0 | apply w_ist_0, by intros; apply w_ist_1 <;> assumption, by intros; apply w_ist_2 <;> assumption, by intros; apply w_ist_3 <;> assumption, by intros; apply w_ist_4 <;> assumption, by intros; apply w_ist_5 <;> assumption, by intros; apply w_ist_6 <;> assumption, by intros; apply w_ist_7 <;> assumption, by intros; apply w_ist_8 <;> assumption, by intros; apply w_ist_9 <;> assumption, by intros; apply w_ist_10 <;> assumption, by intros; apply w_ist_11 <;> assumption, by intros; apply w_ist_12 <;> assumption, by intros; apply w_ist_13 <;> assumption, by intros; first | rfl | exact w_ast_0 | apply w_ast_0, by intros; apply w_ast_1 <;> assumption, by intros; apply w_ast_2 <;> assumption, by intros; apply w_ast_3 <;> assumption, by intros; apply w_ast_4 <;> assumption, by intros; apply w_ast_5 <;> assumption, by intros; apply w_ast_6 <;> assumption, by intros; apply w_ast_7 <;> assumption, by intros; apply w_ast_8 <;> assumption, by intros; apply w_ast_9 <;> assumption, by intros; apply w_ast_10 <;> assumption, by intros; apply w_ast_11 <;> assumption, by intros; apply w_ast_12 <;> assumption, by intros; apply w_ast_13 <;> assumption, by intros; first | rfl | exact w_astN_0 | apply w_astN_0, by intros; apply w_astN_1 <;> assumption, by intros; apply w_astN_2 <;> assumption, by intros; apply w_astN_3 <;> assumption, by intros; apply w_astN_4 <;> assumption, by intros; apply w_astN_5 <;> assumption, by intros; apply w_astN_6 <;> assumption, by intros; apply w_astN_7 <;> assumption, by intros; apply w_astN_8 <;> assumption, by intros; apply w_astN_9 <;> assumption, by intros; apply w_astN_10 <;> assumption, by intros; apply w_astN_11 <;> assumption, by intros; apply w_astN_12 <;> assumption, by intros; apply w_astN_13 <;> assumption, by intros; first | rfl | exact w_astO_0 | apply w_astO_0, by intros; apply w_astO_1 <;> assumption, by intros; apply w_astO_2 <;> assumption, by intros; apply w_astO_3 <;> assumption, by intros; apply w_astO_4 <;> assumption, by intros; apply w_astO_5 <;> assumption, by intros; apply w_astO_6 <;> assumption, by intros; apply w_astO_7 <;> assumption, by intros; apply w_astO_8 <;> assumption, by intros; apply w_astO_9 <;> assumption, by intros; apply w_astO_10 <;> assumption, by intros; apply w_astO_11 <;> assumption, by intros; apply w_astO_12 <;> assumption, by intros; apply w_astO_13 <;> assumption, by intros; first | rfl | exact w_inc_0 | apply w_inc_0, by intros; apply w_inc_1 <;> assumption, by intros; apply w_inc_2 <;> assumption, by intros; apply w_inc_3 <;> assumption, by intros; apply w_inc_4 <;> assumption, by intros; apply w_inc_5 <;> assumption, by intros; apply w_inc_6 <;> assumption, by intros; apply w_inc_7 <;> assumption, by intros; apply w_inc_8 <;> assumption, by intros; apply w_inc_9 <;> assumption, by intros; apply w_inc_10 <;> assumption, by intros; apply w_inc_11 <;> assumption, by intros; apply w_inc_12 <;> assumption, by intros; apply w_inc_13 <;> assumption, by intros; apply w_lst_1 <;> assumption, by intros; apply w_lst_2 <;> assumption, by intros; apply w_lst_3 <;> assumption, by intros; apply w_lst_4 <;> assumption, by intros; apply w_lst_5 <;> assumption, by intros; first | rfl | exact w_add | apply w_add, by intros; first | rfl | exact w_sub | apply w_sub, by intros; first | rfl | exact w_mul | apply w_mul, by intros; first | rfl | exact w_and | apply w_and, by intros; first | rfl | exact w_or | apply w_or, by intros; first | rfl | exact w_ladd | apply w_ladd, by intros; first | rfl | exact w_lsub | apply w_lsub, by intros; first | rfl | exact w_lmul | apply w_lmul, by intros; first | rfl | exact w_land | apply w_land, by intros; first | rfl | exact w_lor | apply w_lor, by intros; first | rfl | exact w_psh | apply w_psh, by intros; first | rfl | exact w_sv | apply w_sv, by intros; first | rfl | exact w_div | apply w_div, by intros; first | rfl | exact w_rem | apply w_rem, by intros; first | rfl | exact w_neg | apply w_neg, by intros; first | rfl | exact w_i2b | apply w_i2b, by intros; first | rfl | exact w_i2l | apply w_i2l, by intros; first | rfl | exact w_l2i | apply w_l2i, by intros; first | rfl | exact w_lshl | apply w_lshl, by intros; first | rfl | exact w_lshr | apply w_lshr, by intros; first | rfl | exact w_lcm | apply w_lcm, by intros; apply w_dup <;> assumption, by intros; apply w_du2 <;> assumption, by intros; apply w_dx1 <;> assumption, by intros; apply w_pop <;> assumption, by intros; first | rfl | exact w_ifeq | apply w_ifeq, by intros; first | rfl | exact w_ifne | apply w_ifne, by intros; first | rfl | exact w_iflt | apply w_iflt, by intros; first | rfl | exact w_ifge | apply w_ifge, by intros; first | rfl | exact w_ifgt | apply w_ifgt, by intros; first | rfl | exact w_ifle | apply w_ifle, by intros; first | rfl | exact w_iceq | apply w_iceq, by intros; first | rfl | exact w_icne | apply w_icne, by intros; first | rfl | exact w_iclt | apply w_iclt, by intros; first | rfl | exact w_icge | apply w_icge, by intros; first | rfl | exact w_icgt | apply w_icgt, by intros; first | rfl | exact w_icle | apply w_icle, by intros; first | rfl | exact w_got | apply w_got, by intros; first | rfl | exact w_fal | apply w_fal, by intros; first | rfl | exact w_ifnN | apply w_ifnN, by intros; first | rfl | exact w_ifnR | apply w_ifnR, by intros; first | rfl | exact w_innN | apply w_innN, by intros; first | rfl | exact w_innR | apply w_innR, by intros; first | rfl | exact w_ifnO | apply w_ifnO, by intros; first | rfl | exact w_innO | apply w_innO, by intros; first | rfl | exact w_XTs | apply w_XTs, by intros; first | rfl | exact w_tsw | apply w_tsw, by intros; first | rfl | exact w_lsw | apply w_lsw, by intros; first | rfl | exact w_gei | apply w_gei, by intros; first | rfl | exact w_ger | apply w_ger, by intros; first | rfl | exact w_purR | apply w_purR, by intros; first | rfl | exact w_purN | apply w_purN, by intros; first | rfl | exact w_purO | apply w_purO, by intros; first | rfl | exact w_pui | apply w_pui, by intros; first | rfl | exact w_puz | apply w_puz, by intros; first | rfl | exact w_lda0 | apply w_lda0, by intros; first | rfl | exact w_lda1 | apply w_lda1, by intros; first | rfl | exact w_lda2 | apply w_lda2, by intros; first | rfl | exact w_lda3 | apply w_lda3, by intros; first | rfl | exact w_lda4 | apply w_lda4, by intros; first | rfl | exact w_lda5 | apply w_lda5, by intros; first | rfl | exact w_lda6 | apply w_lda6, by intros; first | rfl | exact w_lda7 | apply w_lda7, by intros; first | rfl | exact w_lda8 | apply w_lda8, by intros; first | rfl | exact w_lda9 | apply w_lda9, by intros; first | rfl | exact w_aasR | apply w_aasR, by intros; first | rfl | exact w_aaAR | apply w_aaAR, by intros; first | rfl | exact w_cstR | apply w_cstR, by intros; first | rfl | exact w_aasN | apply w_aasN, by intros; first | rfl | exact w_aaAN | apply w_aaAN, by intros; first | rfl | exact w_cstN | apply w_cstN, by intros; first | rfl | exact w_aasO | apply w_aasO, by intros; first | rfl | exact w_aaAO | apply w_aaAO, by intros; first | rfl | exact w_cstO | apply w_cstO, by intros; first | rfl | exact w_ias | apply w_ias, by intros; first | rfl | exact w_bas | apply w_bas, by intros; first | rfl | exact w_zas | apply w_zas, by intros; first | rfl | exact w_las | apply w_las, by intros; first | rfl | exact w_len | apply w_len, by intros; first | rfl | exact w_nwa | apply w_nwa, by intros; first | rfl | exact w_new | apply w_new, by intros; first | rfl | exact w_obj | apply w_obj, by intros; first | rfl | exact w_cpi | apply w_cpi, by intros; first | rfl | exact w_cpq | apply w_cpq, by intros; first | rfl | exact w_sln | apply w_sln, by intros; first | rfl | exact w_sch | apply w_sch, by intros; first | rfl | exact w_XKn | apply w_XKn, by intros; first | rfl | exact w_XKs | apply w_XKs, by intros; first | rfl | exact w_XKx | apply w_XKx, by intros; first | rfl | exact w_XVs | apply w_XVs, by intros; first | rfl | exact w_cls0 | apply w_cls0, by intros; first | rfl | exact w_cli0 | apply w_cli0, by intros; first | rfl | exact w_clv0 | apply w_clv0, by intros; first | rfl | exact w_cls1 | apply w_cls1, by intros; first | rfl | exact w_cli1 | apply w_cli1, by intros; first | rfl | exact w_clv1 | apply w_clv1, by intros; first | rfl | exact w_cls2 | apply w_cls2, by intros; first | rfl | exact w_cli2 | apply w_cli2, by intros; first | rfl | exact w_clv2 | apply w_clv2, by intros; first | rfl | exact w_cls3 | apply w_cls3, by intros; first | rfl | exact w_cli3 | apply w_cli3, by intros; first | rfl | exact w_clv3 | apply w_clv3, by intros; first | rfl | exact w_cls4 | apply w_cls4, by intros; first | rfl | exact w_cli4 | apply w_cli4, by intros; first | rfl | exact w_clv4 | apply w_clv4, by intros; first | rfl | exact w_cls5 | apply w_cls5, by intros; first | rfl | exact w_cli5 | apply w_cli5, by intros; first | rfl | exact w_clv5 | apply w_clv5, by intros; first | rfl | exact w_cls6 | apply w_cls6, by intros; first | rfl | exact w_cli6 | apply w_cli6, by intros; first | rfl | exact w_clv6 | apply w_clv6, by intros; first | rfl | exact w_cls7 | apply w_cls7, by intros; first | rfl | exact w_cli7 | apply w_cli7, by intros; first | rfl | exact w_clv7 | apply w_clv7, by intros; first | rfl | exact w_ret0 | apply w_ret0, by intros; first | rfl | exact w_ret1 | apply w_ret1, by intros; first | rfl | exact w_ret2 | apply w_ret2, by intros; first | rfl | exact w_ret3 | apply w_ret3, by intros; first | rfl | exact w_ret3N | apply w_ret3N, by intros; first | rfl | exact w_ret3O | apply w_ret3O, by intros; first | rfl | exact w_ret4 | apply w_ret4, by intros; first | rfl | exact w_thr | apply w_thr, by intros; first | rfl | exact xc_i | apply xc_i, by intros; first | rfl | exact xc_l | apply xc_l, by intros; first | rfl | exact xc_n | apply xc_n, by intros; first | rfl | exact xc_r | apply xc_r, by intros; first | rfl | exact xc_j | apply xc_j, by intros; first | rfl | exact xwt_n | apply xwt_n, by intros; first | rfl | exact xwt_c | apply xwt_c, by intros; first | rfl | exact xrf_n | apply xrf_n, by intros; first | rfl | exact xrf_s | apply xrf_s, by intros; first | rfl | exact xex_n | apply xex_n, by intros; apply xex_1 <;> assumption, by intros; apply xex_2 <;> assumption, by intros; first | rfl | exact xlo_n | apply xlo_n, by intros; first | rfl | exact xlo_c | apply xlo_c, by intros; first | rfl | exact xrfk_n | apply xrfk_n, by intros; first | rfl | exact xrfk_s | apply xrfk_s⟩
theorem gS : (∀ (G : XG) (g a : Nat) (v : Int32) (x y : Nat), Gfi (Sfi G g a v) x y = if x = g ∧ y = a then v else Gfi G x y) ∧
  (∀ (G : XG) (g a : Nat) (v : Int32), Gfr (Sfi G g a v) = Gfr G) ∧
  (∀ (G : XG) (g a : Nat) (v : Int32), Gai (Sfi G g a v) = Gai G) ∧
  (∀ (G : XG) (g a : Nat) (v : Int32), Gal (Sfi G g a v) = Gal G) ∧
  (∀ (G : XG) (g a : Nat) (v : Int32), Gar (Sfi G g a v) = Gar G) ∧
  (∀ (G : XG) (g a : Nat) (v : Int32), Gkd (Sfi G g a v) = Gkd G) ∧
  (∀ (G : XG) (g a : Nat) (v : Int32), Gln (Sfi G g a v) = Gln G) ∧
  (∀ (G : XG) (g a : Nat) (v : Int32), Gsv (Sfi G g a v) = Gsv G) ∧
  (∀ (G : XG) (g a : Nat) (v : Int32), Gtp (Sfi G g a v) = Gtp G) ∧
  (∀ (G : XG) (g a : Nat) (v : Int32), Gus (Sfi G g a v) = Gus G) ∧
  (∀ (G : XG) (g a : Nat) (v : Option Nat), Gfi (Sfr G g a v) = Gfi G) ∧
  (∀ (G : XG) (g a : Nat) (v : Option Nat) (x y : Nat), Gfr (Sfr G g a v) x y = if x = g ∧ y = a then v else Gfr G x y) ∧
  (∀ (G : XG) (g a : Nat) (v : Option Nat), Gai (Sfr G g a v) = Gai G) ∧
  (∀ (G : XG) (g a : Nat) (v : Option Nat), Gal (Sfr G g a v) = Gal G) ∧
  (∀ (G : XG) (g a : Nat) (v : Option Nat), Gar (Sfr G g a v) = Gar G) ∧
  (∀ (G : XG) (g a : Nat) (v : Option Nat), Gkd (Sfr G g a v) = Gkd G) ∧
  (∀ (G : XG) (g a : Nat) (v : Option Nat), Gln (Sfr G g a v) = Gln G) ∧
  (∀ (G : XG) (g a : Nat) (v : Option Nat), Gsv (Sfr G g a v) = Gsv G) ∧
  (∀ (G : XG) (g a : Nat) (v : Option Nat), Gtp (Sfr G g a v) = Gtp G) ∧
  (∀ (G : XG) (g a : Nat) (v : Option Nat), Gus (Sfr G g a v) = Gus G) ∧
  (∀ (G : XG) (g a : Nat) (v : Int32), Gfi (Sai G g a v) = Gfi G) ∧
  (∀ (G : XG) (g a : Nat) (v : Int32), Gfr (Sai G g a v) = Gfr G) ∧
  (∀ (G : XG) (g a : Nat) (v : Int32) (x y : Nat), Gai (Sai G g a v) x y = if x = g ∧ y = a then v else Gai G x y) ∧
  (∀ (G : XG) (g a : Nat) (v : Int32), Gal (Sai G g a v) = Gal G) ∧
  (∀ (G : XG) (g a : Nat) (v : Int32), Gar (Sai G g a v) = Gar G) ∧
  (∀ (G : XG) (g a : Nat) (v : Int32), Gkd (Sai G g a v) = Gkd G) ∧
  (∀ (G : XG) (g a : Nat) (v : Int32), Gln (Sai G g a v) = Gln G) ∧
  (∀ (G : XG) (g a : Nat) (v : Int32), Gsv (Sai G g a v) = Gsv G) ∧
  (∀ (G : XG) (g a : Nat) (v : Int32), Gtp (Sai G g a v) = Gtp G) ∧
  (∀ (G : XG) (g a : Nat) (v : Int32), Gus (Sai G g a v) = Gus G) ∧
  (∀ (G : XG) (g a : Nat) (v : Int64), Gfi (Sal G g a v) = Gfi G) ∧
  (∀ (G : XG) (g a : Nat) (v : Int64), Gfr (Sal G g a v) = Gfr G) ∧
  (∀ (G : XG) (g a : Nat) (v : Int64), Gai (Sal G g a v) = Gai G) ∧
  (∀ (G : XG) (g a : Nat) (v : Int64) (x y : Nat), Gal (Sal G g a v) x y = if x = g ∧ y = a then v else Gal G x y) ∧
  (∀ (G : XG) (g a : Nat) (v : Int64), Gar (Sal G g a v) = Gar G) ∧
  (∀ (G : XG) (g a : Nat) (v : Int64), Gkd (Sal G g a v) = Gkd G) ∧
  (∀ (G : XG) (g a : Nat) (v : Int64), Gln (Sal G g a v) = Gln G) ∧
  (∀ (G : XG) (g a : Nat) (v : Int64), Gsv (Sal G g a v) = Gsv G) ∧
  (∀ (G : XG) (g a : Nat) (v : Int64), Gtp (Sal G g a v) = Gtp G) ∧
  (∀ (G : XG) (g a : Nat) (v : Int64), Gus (Sal G g a v) = Gus G) ∧
  (∀ (G : XG) (g a : Nat) (v : Option Nat), Gfi (Sar G g a v) = Gfi G) ∧
  (∀ (G : XG) (g a : Nat) (v : Option Nat), Gfr (Sar G g a v) = Gfr G) ∧
  (∀ (G : XG) (g a : Nat) (v : Option Nat), Gai (Sar G g a v) = Gai G) ∧
  (∀ (G : XG) (g a : Nat) (v : Option Nat), Gal (Sar G g a v) = Gal G) ∧
  (∀ (G : XG) (g a : Nat) (v : Option Nat) (x y : Nat), Gar (Sar G g a v) x y = if x = g ∧ y = a then v else Gar G x y) ∧
  (∀ (G : XG) (g a : Nat) (v : Option Nat), Gkd (Sar G g a v) = Gkd G) ∧
  (∀ (G : XG) (g a : Nat) (v : Option Nat), Gln (Sar G g a v) = Gln G) ∧
  (∀ (G : XG) (g a : Nat) (v : Option Nat), Gsv (Sar G g a v) = Gsv G) ∧
  (∀ (G : XG) (g a : Nat) (v : Option Nat), Gtp (Sar G g a v) = Gtp G) ∧
  (∀ (G : XG) (g a : Nat) (v : Option Nat), Gus (Sar G g a v) = Gus G) ∧
  (∀ (G : XG) (a : Nat) (r : Nat → Int32), Gfi (Rai G a r) = Gfi G) ∧
  (∀ (G : XG) (a : Nat) (r : Nat → Int32), Gfr (Rai G a r) = Gfr G) ∧
  (∀ (G : XG) (a : Nat) (r : Nat → Int32) (x y : Nat), Gai (Rai G a r) x y = if x = a then r y else Gai G x y) ∧
  (∀ (G : XG) (a : Nat) (r : Nat → Int32), Gal (Rai G a r) = Gal G) ∧
  (∀ (G : XG) (a : Nat) (r : Nat → Int32), Gar (Rai G a r) = Gar G) ∧
  (∀ (G : XG) (a : Nat) (r : Nat → Int32), Gkd (Rai G a r) = Gkd G) ∧
  (∀ (G : XG) (a : Nat) (r : Nat → Int32), Gln (Rai G a r) = Gln G) ∧
  (∀ (G : XG) (a : Nat) (r : Nat → Int32), Gsv (Rai G a r) = Gsv G) ∧
  (∀ (G : XG) (a : Nat) (r : Nat → Int32), Gtp (Rai G a r) = Gtp G) ∧
  (∀ (G : XG) (a : Nat) (r : Nat → Int32), Gus (Rai G a r) = Gus G) ∧
  (∀ (G : XG) (a : Nat) (r : Nat → Option Nat), Gfi (Rar G a r) = Gfi G) ∧
  (∀ (G : XG) (a : Nat) (r : Nat → Option Nat), Gfr (Rar G a r) = Gfr G) ∧
  (∀ (G : XG) (a : Nat) (r : Nat → Option Nat), Gai (Rar G a r) = Gai G) ∧
  (∀ (G : XG) (a : Nat) (r : Nat → Option Nat), Gal (Rar G a r) = Gal G) ∧
  (∀ (G : XG) (a : Nat) (r : Nat → Option Nat) (x y : Nat), Gar (Rar G a r) x y = if x = a then r y else Gar G x y) ∧
  (∀ (G : XG) (a : Nat) (r : Nat → Option Nat), Gkd (Rar G a r) = Gkd G) ∧
  (∀ (G : XG) (a : Nat) (r : Nat → Option Nat), Gln (Rar G a r) = Gln G) ∧
  (∀ (G : XG) (a : Nat) (r : Nat → Option Nat), Gsv (Rar G a r) = Gsv G) ∧
  (∀ (G : XG) (a : Nat) (r : Nat → Option Nat), Gtp (Rar G a r) = Gtp G) ∧
  (∀ (G : XG) (a : Nat) (r : Nat → Option Nat), Gus (Rar G a r) = Gus G) ∧
  (∀ (G : XG) (c n : Nat), Gai (Sno G c n) = Gai G) ∧
  (∀ (G : XG) (c n : Nat), Gal (Sno G c n) = Gal G) ∧
  (∀ (G : XG) (c n : Nat), Gar (Sno G c n) = Gar G) ∧
  (∀ (G : XG) (c n : Nat), Gln (Sno G c n) = Gln G) ∧
  (∀ (G : XG) (c n : Nat), Gsv (Sno G c n) = Gsv G) ∧
  (∀ (G : XG) (c n x y : Nat), Gfi (Sno G c n) x y = if y = Gtp G then 0 else Gfi G x y) ∧
  (∀ (G : XG) (c n x y : Nat), Gfr (Sno G c n) x y = if y = Gtp G then none else Gfr G x y) ∧
  (∀ (G : XG) (c n y : Nat), Gkd (Sno G c n) y = if y = Gtp G then c + 1 else Gkd G y) ∧
  (∀ (G : XG) (c n : Nat), Gtp (Sno G c n) = Gtp G + 1) ∧
  (∀ (G : XG) (c n : Nat), Gus (Sno G c n) = Gus G + n) ∧
  (∀ (G : XG) (t n : Nat), Gfi (Sna G t n) = Gfi G) ∧
  (∀ (G : XG) (t n : Nat), Gfr (Sna G t n) = Gfr G) ∧
  (∀ (G : XG) (t n : Nat), Gsv (Sna G t n) = Gsv G) ∧
  (∀ (G : XG) (t n x y : Nat), Gai (Sna G t n) x y = if x = Gtp G then 0 else Gai G x y) ∧
  (∀ (G : XG) (t n x y : Nat), Gal (Sna G t n) x y = if x = Gtp G then 0 else Gal G x y) ∧
  (∀ (G : XG) (t n x y : Nat), Gar (Sna G t n) x y = if x = Gtp G then none else Gar G x y) ∧
  (∀ (G : XG) (t n y : Nat), Gkd (Sna G t n) y = if y = Gtp G then 100 + t else Gkd G y) ∧
  (∀ (G : XG) (t n y : Nat), Gln (Sna G t n) y = if y = Gtp G then n else Gln G y) ∧
  (∀ (G : XG) (t n : Nat), Gtp (Sna G t n) = Gtp G + 1) ∧
  (∀ (G : XG) (t n : Nat), Gus (Sna G t n) = Gus G + n) :=
  ⟨by intros; first | rfl | exact h_SfiGfi | apply h_SfiGfi, by intros; first | rfl | exact h_SfiGfr | apply h_SfiGfr, by intros; first | rfl | exact h_SfiGai | apply h_SfiGai, by intros; first | rfl | exact h_SfiGal | apply h_SfiGal, by intros; first | rfl | exact h_SfiGar | apply h_SfiGar, by intros; first | rfl | exact h_SfiGkd | apply h_SfiGkd, by intros; first | rfl | exact h_SfiGln | apply h_SfiGln, by intros; first | rfl | exact h_SfiGsv | apply h_SfiGsv, by intros; first | rfl | exact h_SfiGtp | apply h_SfiGtp, by intros; first | rfl | exact h_SfiGus | apply h_SfiGus, by intros; first | rfl | exact h_SfrGfi | apply h_SfrGfi, by intros; first | rfl | exact h_SfrGfr | apply h_SfrGfr, by intros; first | rfl | exact h_SfrGai | apply h_SfrGai, by intros; first | rfl | exact h_SfrGal | apply h_SfrGal, by intros; first | rfl | exact h_SfrGar | apply h_SfrGar, by intros; first | rfl | exact h_SfrGkd | apply h_SfrGkd, by intros; first | rfl | exact h_SfrGln | apply h_SfrGln, by intros; first | rfl | exact h_SfrGsv | apply h_SfrGsv, by intros; first | rfl | exact h_SfrGtp | apply h_SfrGtp, by intros; first | rfl | exact h_SfrGus | apply h_SfrGus, by intros; first | rfl | exact h_SaiGfi | apply h_SaiGfi, by intros; first | rfl | exact h_SaiGfr | apply h_SaiGfr, by intros; first | rfl | exact h_SaiGai | apply h_SaiGai, by intros; first | rfl | exact h_SaiGal | apply h_SaiGal, by intros; first | rfl | exact h_SaiGar | apply h_SaiGar, by intros; first | rfl | exact h_SaiGkd | apply h_SaiGkd, by intros; first | rfl | exact h_SaiGln | apply h_SaiGln, by intros; first | rfl | exact h_SaiGsv | apply h_SaiGsv, by intros; first | rfl | exact h_SaiGtp | apply h_SaiGtp, by intros; first | rfl | exact h_SaiGus | apply h_SaiGus, by intros; first | rfl | exact h_SalGfi | apply h_SalGfi, by intros; first | rfl | exact h_SalGfr | apply h_SalGfr, by intros; first | rfl | exact h_SalGai | apply h_SalGai, by intros; first | rfl | exact h_SalGal | apply h_SalGal, by intros; first | rfl | exact h_SalGar | apply h_SalGar, by intros; first | rfl | exact h_SalGkd | apply h_SalGkd, by intros; first | rfl | exact h_SalGln | apply h_SalGln, by intros; first | rfl | exact h_SalGsv | apply h_SalGsv, by intros; first | rfl | exact h_SalGtp | apply h_SalGtp, by intros; first | rfl | exact h_SalGus | apply h_SalGus, by intros; first | rfl | exact h_SarGfi | apply h_SarGfi, by intros; first | rfl | exact h_SarGfr | apply h_SarGfr, by intros; first | rfl | exact h_SarGai | apply h_SarGai, by intros; first | rfl | exact h_SarGal | apply h_SarGal, by intros; first | rfl | exact h_SarGar | apply h_SarGar, by intros; first | rfl | exact h_SarGkd | apply h_SarGkd, by intros; first | rfl | exact h_SarGln | apply h_SarGln, by intros; first | rfl | exact h_SarGsv | apply h_SarGsv, by intros; first | rfl | exact h_SarGtp | apply h_SarGtp, by intros; first | rfl | exact h_SarGus | apply h_SarGus, by intros; first | rfl | exact h_RaiGfi | apply h_RaiGfi, by intros; first | rfl | exact h_RaiGfr | apply h_RaiGfr, by intros; first | rfl | exact h_RaiGai | apply h_RaiGai, by intros; first | rfl | exact h_RaiGal | apply h_RaiGal, by intros; first | rfl | exact h_RaiGar | apply h_RaiGar, by intros; first | rfl | exact h_RaiGkd | apply h_RaiGkd, by intros; first | rfl | exact h_RaiGln | apply h_RaiGln, by intros; first | rfl | exact h_RaiGsv | apply h_RaiGsv, by intros; first | rfl | exact h_RaiGtp | apply h_RaiGtp, by intros; first | rfl | exact h_RaiGus | apply h_RaiGus, by intros; first | rfl | exact h_RarGfi | apply h_RarGfi, by intros; first | rfl | exact h_RarGfr | apply h_RarGfr, by intros; first | rfl | exact h_RarGai | apply h_RarGai, by intros; first | rfl | exact h_RarGal | apply h_RarGal, by intros; first | rfl | exact h_RarGar | apply h_RarGar, by intros; first | rfl | exact h_RarGkd | apply h_RarGkd, by intros; first | rfl | exact h_RarGln | apply h_RarGln, by intros; first | rfl | exact h_RarGsv | apply h_RarGsv, by intros; first | rfl | exact h_RarGtp | apply h_RarGtp, by intros; first | rfl | exact h_RarGus | apply h_RarGus, by intros; first | rfl | exact h_SnoGai | apply h_SnoGai, by intros; first | rfl | exact h_SnoGal | apply h_SnoGal, by intros; first | rfl | exact h_SnoGar | apply h_SnoGar, by intros; first | rfl | exact h_SnoGln | apply h_SnoGln, by intros; first | rfl | exact h_SnoGsv | apply h_SnoGsv, by intros; first | rfl | exact h_SnoGfi | apply h_SnoGfi, by intros; first | rfl | exact h_SnoGfr | apply h_SnoGfr, by intros; first | rfl | exact h_SnoGkd | apply h_SnoGkd, by intros; first | rfl | exact h_SnoGtp | apply h_SnoGtp, by intros; first | rfl | exact h_SnoGus | apply h_SnoGus, by intros; first | rfl | exact h_SnaGfi | apply h_SnaGfi, by intros; first | rfl | exact h_SnaGfr | apply h_SnaGfr, by intros; first | rfl | exact h_SnaGsv | apply h_SnaGsv, by intros; first | rfl | exact h_SnaGai | apply h_SnaGai, by intros; first | rfl | exact h_SnaGal | apply h_SnaGal, by intros; first | rfl | exact h_SnaGar | apply h_SnaGar, by intros; first | rfl | exact h_SnaGkd | apply h_SnaGkd, by intros; first | rfl | exact h_SnaGln | apply h_SnaGln, by intros; first | rfl | exact h_SnaGtp | apply h_SnaGtp, by intros; first | rfl | exact h_SnaGus | apply h_SnaGus⟩
/-! handlers -/
theorem xokH0 {M : XM} (h : xmh M = []) (hx : ∀ a b, xmx M a b = none) : XOkH M := by
  intro pc kd c0 r e0 ek hr
  refine ⟨fun t ht => (by rw [hx] at ht; cases ht), fun _ {D SV p l e R s m args below meth c H locs cells slots ls rest ce q Qc XC9 free} hC hT hce hv hcl hxc hf => ?_⟩
  refine vx_out (mc := cells) (ms := slots) ?_ hC.2.2.2.2.2.1 hce hv hcl hxc hf (Nat.le_refl _) (Nat.le_refl _)
  rw [hC.2.2.2.2.2.2.2.2, h]
  intro x hx
  cases hx
theorem xcP {ms : Nat → XM} {M : XM} {pc npc : Nat} {f : XP} {r : List (Nat × XI)} (h : XOkP M pc npc f) (hn : xhd r = npc) (hr : XOkL ms M r) : XOkL ms M ((pc, .inl f) :: r) := by
  subst hn
  exact ⟨h, hr⟩
theorem xcC0 {ms : Nat → XM} {M : XM} {pc npc : Nat} {f : XQ} {r : List (Nat × XI)} (h : XOkC ms M pc npc f) (hn : xhd r = npc) (hr : XOkL ms M r) : XOkL ms M ((pc, .inr (.inl f)) :: r) := by
  subst hn
  exact ⟨h, hr⟩
theorem xcR {ms : Nat → XM} {M : XM} {pc k : Nat} (h : XOkR M pc k) : XOkL ms M [(pc, .inr (.inr (.inl k)))] := ⟨h, trivial⟩
theorem xcT {ms : Nat → XM} {M : XM} {pc : Nat} (h : decode (xmc M) pc = .ok (.athrow, 1)) : XOkL ms M [(pc, .inr (.inr (.inr ())))] := ⟨h, trivial⟩
theorem xblk_ok {ms : Nat → XM} {M : XM} (l : List (Nat × List (Nat × XI))) (h : ∀ b ∈ l, xhd b.2 = b.1 ∧ XOkL ms M b.2) : ∀ t, xfd l t ≠ [] → xhd (xfd l t) = t ∧ XOkL ms M (xfd l t) := by
  induction l with
  | nil => intro t ht; exact absurd rfl ht
  | cons b r ih =>
    intro t ht
    unfold xfd at ht ⊢
    by_cases e : b.1 = t
    · rw [if_pos e] at ht ⊢
      obtain ⟨h1, h2⟩ := h b List.mem_cons_self
      exact ⟨h1.trans e, h2⟩
    · rw [if_neg e] at ht ⊢
      exact ih (fun b hb => h b (List.mem_cons_of_mem _ hb)) t ht
theorem xokM0 {ms : Nat → XM} {M : XM} (hb : ∀ b ∈ xmb M, xhd b.2 = b.1 ∧ XOkL ms M b.2) (hh : XOkH M) (hp : plainFor (xmy M) = true) (hl : xmL M ≤ 60) : XOkM ms M := ⟨xblk_ok _ hb, hh, hp, hl⟩
