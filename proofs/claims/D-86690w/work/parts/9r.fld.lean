set_option maxRecDepth 100000
section FLD
variable {G : XG}
theorem g_call {z : Nat} {n : Int32} {x0 x1 : Int32} {o2 o3 : Option Nat} : Gfi (n_call G z n x0 x1 o2 o3) 82 z = n ∧ Gkd (n_call G z n x0 x1 o2 o3) z = Gkd G z ∧ Gfi (n_call G z n x0 x1 o2 o3) 83 z = x0 ∧ Gfi (n_call G z n x0 x1 o2 o3) 84 z = x1 ∧ Gfr (n_call G z n x0 x1 o2 o3) 1121 z = o2 ∧ Gfr (n_call G z n x0 x1 o2 o3) 1122 z = o3 := by
  simp [n_call, Gfi, Gfr, Gkd, Sfi, Sfr, xu2]
theorem g_setVar {z : Nat} {n : Int32} {x0 : Int32} {o1 : Option Nat} : Gfi (n_setVar G z n x0 o1) 82 z = n ∧ Gkd (n_setVar G z n x0 o1) z = Gkd G z ∧ Gfi (n_setVar G z n x0 o1) 85 z = x0 ∧ Gfr (n_setVar G z n x0 o1) 1123 z = o1 := by
  simp [n_setVar, Gfi, Gfr, Gkd, Sfi, Sfr, xu2]
theorem g_putRow {z : Nat} {n : Int32} {o0 o1 : Option Nat} : Gfi (n_putRow G z n o0 o1) 82 z = n ∧ Gkd (n_putRow G z n o0 o1) z = Gkd G z ∧ Gfr (n_putRow G z n o0 o1) 1124 z = o0 ∧ Gfr (n_putRow G z n o0 o1) 1125 z = o1 := by
  simp [n_putRow, Gfi, Gfr, Gkd, Sfi, Sfr, xu2]
theorem g_newRow {z : Nat} {n : Int32} {x0 : Int32} {o1 : Option Nat} : Gfi (n_newRow G z n x0 o1) 82 z = n ∧ Gkd (n_newRow G z n x0 o1) z = Gkd G z ∧ Gfi (n_newRow G z n x0 o1) 86 z = x0 ∧ Gfr (n_newRow G z n x0 o1) 1126 z = o1 := by
  simp [n_newRow, Gfi, Gfr, Gkd, Sfi, Sfr, xu2]
theorem g_sameRow {z : Nat} {n : Int32} {x0 x1 : Int32} : Gfi (n_sameRow G z n x0 x1) 82 z = n ∧ Gkd (n_sameRow G z n x0 x1) z = Gkd G z ∧ Gfi (n_sameRow G z n x0 x1) 87 z = x0 ∧ Gfi (n_sameRow G z n x0 x1) 88 z = x1 := by
  simp [n_sameRow, Gfi, Gfr, Gkd, Sfi, Sfr, xu2]
theorem g_mark {z : Nat} {n : Int32} {x0 : Int32} : Gfi (n_mark G z n x0) 82 z = n ∧ Gkd (n_mark G z n x0) z = Gkd G z ∧ Gfi (n_mark G z n x0) 89 z = x0 := by
  simp [n_mark, Gfi, Gfr, Gkd, Sfi, Sfr, xu2]
theorem g_return {z : Nat} {n : Int32} {o0 : Option Nat} : Gfi (n_return G z n o0) 82 z = n ∧ Gkd (n_return G z n o0) z = Gkd G z ∧ Gfr (n_return G z n o0) 1127 z = o0 := by
  simp [n_return, Gfi, Gfr, Gkd, Sfi, Sfr, xu2]
theorem g_if {z : Nat} {n : Int32} {x1 : Int32} {o0 o2 : Option Nat} : Gfi (n_if G z n o0 x1 o2) 82 z = n ∧ Gkd (n_if G z n o0 x1 o2) z = Gkd G z ∧ Gfr (n_if G z n o0 x1 o2) 1128 z = o0 ∧ Gfi (n_if G z n o0 x1 o2) 90 z = x1 ∧ Gfr (n_if G z n o0 x1 o2) 1129 z = o2 := by
  simp [n_if, Gfi, Gfr, Gkd, Sfi, Sfr, xu2]
theorem g_loop {z : Nat} {n : Int32} {o0 : Option Nat} : Gfi (n_loop G z n o0) 82 z = n ∧ Gkd (n_loop G z n o0) z = Gkd G z ∧ Gfr (n_loop G z n o0) 1132 z = o0 := by
  simp [n_loop, Gfi, Gfr, Gkd, Sfi, Sfr, xu2]
theorem g_leave {z : Nat} {n : Int32} {x0 : Int32} : Gfi (n_leave G z n x0) 82 z = n ∧ Gkd (n_leave G z n x0) z = Gkd G z ∧ Gfi (n_leave G z n x0) 91 z = x0 := by
  simp [n_leave, Gfi, Gfr, Gkd, Sfi, Sfr, xu2]
theorem g_throw {z : Nat} {n : Int32} {x0 : Int32} : Gfi (n_throw G z n x0) 82 z = n ∧ Gkd (n_throw G z n x0) z = Gkd G z ∧ Gfi (n_throw G z n x0) 92 z = x0 := by
  simp [n_throw, Gfi, Gfr, Gkd, Sfi, Sfr, xu2]
theorem g_again {z : Nat} {n : Int32} {x0 : Int32} {o1 : Option Nat} : Gfi (n_again G z n x0 o1) 82 z = n ∧ Gkd (n_again G z n x0 o1) z = Gkd G z ∧ Gfi (n_again G z n x0 o1) 93 z = x0 ∧ Gfr (n_again G z n x0 o1) 1134 z = o1 := by
  simp [n_again, Gfi, Gfr, Gkd, Sfi, Sfr, xu2]
end FLD
