/-! two members of String on constant texts -/
theorem xok_strlen {M : XM} {pc ix : Nat} (d : decode (xmc M) pc = .ok (.invokevirtual ix, 3)) (q : Cond.methodLink (xmy M).cls ix ({ cls := "java/lang/String", name := "length", desc := "()I" } : MethodName) ∈ lw_all) : XOkP M pc (pc + 3) x_sln := sorry
theorem xok_strchr {M : XM} {pc ix : Nat} (d : decode (xmc M) pc = .ok (.invokevirtual ix, 3)) (q : Cond.methodLink (xmy M).cls ix ({ cls := "java/lang/String", name := "charAt", desc := "(I)C" } : MethodName) ∈ lw_all) : XOkP M pc (pc + 3) x_sch := sorry
