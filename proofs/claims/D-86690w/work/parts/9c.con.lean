set_option maxRecDepth 100000
section CON
variable {D : Nat} {G : XG} {Q : (Option Value ⊕ Nat) → XG → Prop}
def n_call (G : XG) (z : Nat) (n : Int32) (x0 : Int32) (x1 : Int32) (o2 : Option Nat) (o3 : Option Nat) : XG := Sfr (Sfr (Sfi (Sfi (Sfi G 82 z n) 83 z x0) 84 z x1) 1121 z o2) 1122 z o3
theorem d_call {z : Nat} {n : Int32} {x0 x1 : Int32} {o2 o3 : Option Nat} (hD : 3 ≤ D) (hk : Gkd G z = 19) : XC xms D 217 [.ref z, .int n, .int x0, .int x1, va_rf o2, va_rf o3] G Q = Q (.inl none) (n_call G z n x0 x1 o2 o3) := by
  obtain ⟨d, rfl⟩ : ∃ d, D = d + 1 + 1 + 1 := ⟨D - 3, by omega⟩
  unfold n_call
  rw [XC_s]
  simp (disch := first | omega | exact cI _ | exact cR _ | exact cK | exact cU | exact cO _ | exact cL _) only [oS, uS.2, Nat.reduceAdd, Nat.reduceSub, Nat.reduceMul, Nat.reduceLeDiff, Nat.reduceEqDiff, Nat.add_sub_cancel, xS, gS, nL, nS, dS, FX18_init, mX18_init, zX18_init, FX17_init, mX17_init, zX17_init, XC_s (k := 213), hk, va_rf_cat]
theorem q_call {z : Nat} {n : Int32} {x0 x1 : Int32} {o2 o3 : Option Nat} : KQ (fun a => a = z) 0 0 G (n_call G z n x0 x1 o2 o3) := ((((KQ.fR).trans KQ.fR).trans KQ.fR).trans KQ.rR).trans KQ.rR
def n_setVar (G : XG) (z : Nat) (n : Int32) (x0 : Int32) (o1 : Option Nat) : XG := Sfr (Sfi (Sfi G 82 z n) 85 z x0) 1123 z o1
theorem d_setVar {z : Nat} {n : Int32} {x0 : Int32} {o1 : Option Nat} (hD : 3 ≤ D) (hk : Gkd G z = 21) : XC xms D 224 [.ref z, .int n, .int x0, va_rf o1] G Q = Q (.inl none) (n_setVar G z n x0 o1) := by
  obtain ⟨d, rfl⟩ : ∃ d, D = d + 1 + 1 + 1 := ⟨D - 3, by omega⟩
  unfold n_setVar
  rw [XC_s]
  simp (disch := first | omega | exact cI _ | exact cR _ | exact cK | exact cU | exact cO _ | exact cL _) only [oS, uS.2, Nat.reduceAdd, Nat.reduceSub, Nat.reduceMul, Nat.reduceLeDiff, Nat.reduceEqDiff, Nat.add_sub_cancel, xS, gS, nL, nS, dS, FX20_init, mX20_init, zX20_init, FX19_init, mX19_init, zX19_init, FX17_init, mX17_init, zX17_init, XC_s (k := 221), XC_s (k := 213), hk, va_rf_cat]
theorem q_setVar {z : Nat} {n : Int32} {x0 : Int32} {o1 : Option Nat} : KQ (fun a => a = z) 0 0 G (n_setVar G z n x0 o1) := ((KQ.fR).trans KQ.fR).trans KQ.rR
def n_putRow (G : XG) (z : Nat) (n : Int32) (o0 : Option Nat) (o1 : Option Nat) : XG := Sfr (Sfr (Sfi G 82 z n) 1124 z o0) 1125 z o1
theorem d_putRow {z : Nat} {n : Int32} {o0 o1 : Option Nat} (hD : 3 ≤ D) (hk : Gkd G z = 22) : XC xms D 226 [.ref z, .int n, va_rf o0, va_rf o1] G Q = Q (.inl none) (n_putRow G z n o0 o1) := by
  obtain ⟨d, rfl⟩ : ∃ d, D = d + 1 + 1 + 1 := ⟨D - 3, by omega⟩
  unfold n_putRow
  rw [XC_s]
  simp (disch := first | omega | exact cI _ | exact cR _ | exact cK | exact cU | exact cO _ | exact cL _) only [oS, uS.2, Nat.reduceAdd, Nat.reduceSub, Nat.reduceMul, Nat.reduceLeDiff, Nat.reduceEqDiff, Nat.add_sub_cancel, xS, gS, nL, nS, dS, FX21_init, mX21_init, zX21_init, FX19_init, mX19_init, zX19_init, FX17_init, mX17_init, zX17_init, XC_s (k := 221), XC_s (k := 213), hk, va_rf_cat]
theorem q_putRow {z : Nat} {n : Int32} {o0 o1 : Option Nat} : KQ (fun a => a = z) 0 0 G (n_putRow G z n o0 o1) := ((KQ.fR).trans KQ.rR).trans KQ.rR
def n_newRow (G : XG) (z : Nat) (n : Int32) (x0 : Int32) (o1 : Option Nat) : XG := Sfr (Sfi (Sfi G 82 z n) 86 z x0) 1126 z o1
theorem d_newRow {z : Nat} {n : Int32} {x0 : Int32} {o1 : Option Nat} (hD : 3 ≤ D) (hk : Gkd G z = 23) : XC xms D 228 [.ref z, .int n, .int x0, va_rf o1] G Q = Q (.inl none) (n_newRow G z n x0 o1) := by
  obtain ⟨d, rfl⟩ : ∃ d, D = d + 1 + 1 + 1 := ⟨D - 3, by omega⟩
  unfold n_newRow
  rw [XC_s]
  simp (disch := first | omega | exact cI _ | exact cR _ | exact cK | exact cU | exact cO _ | exact cL _) only [oS, uS.2, Nat.reduceAdd, Nat.reduceSub, Nat.reduceMul, Nat.reduceLeDiff, Nat.reduceEqDiff, Nat.add_sub_cancel, xS, gS, nL, nS, dS, FX22_init, mX22_init, zX22_init, FX19_init, mX19_init, zX19_init, FX17_init, mX17_init, zX17_init, XC_s (k := 221), XC_s (k := 213), hk, va_rf_cat]
theorem q_newRow {z : Nat} {n : Int32} {x0 : Int32} {o1 : Option Nat} : KQ (fun a => a = z) 0 0 G (n_newRow G z n x0 o1) := ((KQ.fR).trans KQ.fR).trans KQ.rR
def n_sameRow (G : XG) (z : Nat) (n : Int32) (x0 : Int32) (x1 : Int32) : XG := Sfi (Sfi (Sfi G 82 z n) 87 z x0) 88 z x1
theorem d_sameRow {z : Nat} {n : Int32} {x0 x1 : Int32} (hD : 3 ≤ D) (hk : Gkd G z = 24) : XC xms D 230 [.ref z, .int n, .int x0, .int x1] G Q = Q (.inl none) (n_sameRow G z n x0 x1) := by
  obtain ⟨d, rfl⟩ : ∃ d, D = d + 1 + 1 + 1 := ⟨D - 3, by omega⟩
  unfold n_sameRow
  rw [XC_s]
  simp (disch := first | omega | exact cI _ | exact cR _ | exact cK | exact cU | exact cO _ | exact cL _) only [oS, uS.2, Nat.reduceAdd, Nat.reduceSub, Nat.reduceMul, Nat.reduceLeDiff, Nat.reduceEqDiff, Nat.add_sub_cancel, xS, gS, nL, nS, dS, FX23_init, mX23_init, zX23_init, FX19_init, mX19_init, zX19_init, FX17_init, mX17_init, zX17_init, XC_s (k := 221), XC_s (k := 213), hk, va_rf_cat]
theorem q_sameRow {z : Nat} {n : Int32} {x0 x1 : Int32} : KQ (fun a => a = z) 0 0 G (n_sameRow G z n x0 x1) := ((KQ.fR).trans KQ.fR).trans KQ.fR
def n_mark (G : XG) (z : Nat) (n : Int32) (x0 : Int32) : XG := Sfi (Sfi G 82 z n) 89 z x0
theorem d_mark {z : Nat} {n : Int32} {x0 : Int32} (hD : 3 ≤ D) (hk : Gkd G z = 25) : XC xms D 232 [.ref z, .int n, .int x0] G Q = Q (.inl none) (n_mark G z n x0) := by
  obtain ⟨d, rfl⟩ : ∃ d, D = d + 1 + 1 + 1 := ⟨D - 3, by omega⟩
  unfold n_mark
  rw [XC_s]
  simp (disch := first | omega | exact cI _ | exact cR _ | exact cK | exact cU | exact cO _ | exact cL _) only [oS, uS.2, Nat.reduceAdd, Nat.reduceSub, Nat.reduceMul, Nat.reduceLeDiff, Nat.reduceEqDiff, Nat.add_sub_cancel, xS, gS, nL, nS, dS, FX24_init, mX24_init, zX24_init, FX19_init, mX19_init, zX19_init, FX17_init, mX17_init, zX17_init, XC_s (k := 221), XC_s (k := 213), hk, va_rf_cat]
theorem q_mark {z : Nat} {n : Int32} {x0 : Int32} : KQ (fun a => a = z) 0 0 G (n_mark G z n x0) := (KQ.fR).trans KQ.fR
def n_return (G : XG) (z : Nat) (n : Int32) (o0 : Option Nat) : XG := Sfr (Sfi G 82 z n) 1127 z o0
theorem d_return {z : Nat} {n : Int32} {o0 : Option Nat} (hD : 3 ≤ D) (hk : Gkd G z = 26) : XC xms D 235 [.ref z, .int n, va_rf o0] G Q = Q (.inl none) (n_return G z n o0) := by
  obtain ⟨d, rfl⟩ : ∃ d, D = d + 1 + 1 + 1 := ⟨D - 3, by omega⟩
  unfold n_return
  rw [XC_s]
  simp (disch := first | omega | exact cI _ | exact cR _ | exact cK | exact cU | exact cO _ | exact cL _) only [oS, uS.2, Nat.reduceAdd, Nat.reduceSub, Nat.reduceMul, Nat.reduceLeDiff, Nat.reduceEqDiff, Nat.add_sub_cancel, xS, gS, nL, nS, dS, FX25_init, mX25_init, zX25_init, FX17_init, mX17_init, zX17_init, XC_s (k := 213), hk, va_rf_cat]
theorem q_return {z : Nat} {n : Int32} {o0 : Option Nat} : KQ (fun a => a = z) 0 0 G (n_return G z n o0) := (KQ.fR).trans KQ.rR
def n_if (G : XG) (z : Nat) (n : Int32) (o0 : Option Nat) (x1 : Int32) (o2 : Option Nat) : XG := Sfr (Sfi (Sfr (Sfi G 82 z n) 1128 z o0) 90 z x1) 1129 z o2
theorem d_if {z : Nat} {n : Int32} {x1 : Int32} {o0 o2 : Option Nat} (hD : 3 ≤ D) (hk : Gkd G z = 27) : XC xms D 239 [.ref z, .int n, va_rf o0, .int x1, va_rf o2] G Q = Q (.inl none) (n_if G z n o0 x1 o2) := by
  obtain ⟨d, rfl⟩ : ∃ d, D = d + 1 + 1 + 1 := ⟨D - 3, by omega⟩
  unfold n_if
  rw [XC_s]
  simp (disch := first | omega | exact cI _ | exact cR _ | exact cK | exact cU | exact cO _ | exact cL _) only [oS, uS.2, Nat.reduceAdd, Nat.reduceSub, Nat.reduceMul, Nat.reduceLeDiff, Nat.reduceEqDiff, Nat.add_sub_cancel, xS, gS, nL, nS, dS, FX26_init, mX26_init, zX26_init, FX17_init, mX17_init, zX17_init, XC_s (k := 213), hk, va_rf_cat]
theorem q_if {z : Nat} {n : Int32} {x1 : Int32} {o0 o2 : Option Nat} : KQ (fun a => a = z) 0 0 G (n_if G z n o0 x1 o2) := (((KQ.fR).trans KQ.rR).trans KQ.fR).trans KQ.rR
def n_loop (G : XG) (z : Nat) (n : Int32) (o0 : Option Nat) : XG := Sfr (Sfi G 82 z n) 1132 z o0
theorem d_loop {z : Nat} {n : Int32} {o0 : Option Nat} (hD : 3 ≤ D) (hk : Gkd G z = 28) : XC xms D 243 [.ref z, .int n, va_rf o0] G Q = Q (.inl none) (n_loop G z n o0) := by
  obtain ⟨d, rfl⟩ : ∃ d, D = d + 1 + 1 + 1 := ⟨D - 3, by omega⟩
  unfold n_loop
  rw [XC_s]
  simp (disch := first | omega | exact cI _ | exact cR _ | exact cK | exact cU | exact cO _ | exact cL _) only [oS, uS.2, Nat.reduceAdd, Nat.reduceSub, Nat.reduceMul, Nat.reduceLeDiff, Nat.reduceEqDiff, Nat.add_sub_cancel, xS, gS, nL, nS, dS, FX27_init, mX27_init, zX27_init, FX17_init, mX17_init, zX17_init, XC_s (k := 213), hk, va_rf_cat]
theorem q_loop {z : Nat} {n : Int32} {o0 : Option Nat} : KQ (fun a => a = z) 0 0 G (n_loop G z n o0) := (KQ.fR).trans KQ.rR
def n_leave (G : XG) (z : Nat) (n : Int32) (x0 : Int32) : XG := Sfi (Sfi G 82 z n) 91 z x0
theorem d_leave {z : Nat} {n : Int32} {x0 : Int32} (hD : 3 ≤ D) (hk : Gkd G z = 29) : XC xms D 248 [.ref z, .int n, .int x0] G Q = Q (.inl none) (n_leave G z n x0) := by
  obtain ⟨d, rfl⟩ : ∃ d, D = d + 1 + 1 + 1 := ⟨D - 3, by omega⟩
  unfold n_leave
  rw [XC_s]
  simp (disch := first | omega | exact cI _ | exact cR _ | exact cK | exact cU | exact cO _ | exact cL _) only [oS, uS.2, Nat.reduceAdd, Nat.reduceSub, Nat.reduceMul, Nat.reduceLeDiff, Nat.reduceEqDiff, Nat.add_sub_cancel, xS, gS, nL, nS, dS, FX28_init, mX28_init, zX28_init, FX17_init, mX17_init, zX17_init, XC_s (k := 213), hk, va_rf_cat]
theorem q_leave {z : Nat} {n : Int32} {x0 : Int32} : KQ (fun a => a = z) 0 0 G (n_leave G z n x0) := (KQ.fR).trans KQ.fR
def n_throw (G : XG) (z : Nat) (n : Int32) (x0 : Int32) : XG := Sfi (Sfi G 82 z n) 92 z x0
theorem d_throw {z : Nat} {n : Int32} {x0 : Int32} (hD : 3 ≤ D) (hk : Gkd G z = 30) : XC xms D 251 [.ref z, .int n, .int x0] G Q = Q (.inl none) (n_throw G z n x0) := by
  obtain ⟨d, rfl⟩ : ∃ d, D = d + 1 + 1 + 1 := ⟨D - 3, by omega⟩
  unfold n_throw
  rw [XC_s]
  simp (disch := first | omega | exact cI _ | exact cR _ | exact cK | exact cU | exact cO _ | exact cL _) only [oS, uS.2, Nat.reduceAdd, Nat.reduceSub, Nat.reduceMul, Nat.reduceLeDiff, Nat.reduceEqDiff, Nat.add_sub_cancel, xS, gS, nL, nS, dS, FX29_init, mX29_init, zX29_init, FX19_init, mX19_init, zX19_init, FX17_init, mX17_init, zX17_init, XC_s (k := 221), XC_s (k := 213), hk, va_rf_cat]
theorem q_throw {z : Nat} {n : Int32} {x0 : Int32} : KQ (fun a => a = z) 0 0 G (n_throw G z n x0) := (KQ.fR).trans KQ.fR
def n_again (G : XG) (z : Nat) (n : Int32) (x0 : Int32) (o1 : Option Nat) : XG := Sfr (Sfi (Sfi G 82 z n) 93 z x0) 1134 z o1
theorem d_again {z : Nat} {n : Int32} {x0 : Int32} {o1 : Option Nat} (hD : 3 ≤ D) (hk : Gkd G z = 31) : XC xms D 253 [.ref z, .int n, .int x0, va_rf o1] G Q = Q (.inl none) (n_again G z n x0 o1) := by
  obtain ⟨d, rfl⟩ : ∃ d, D = d + 1 + 1 + 1 := ⟨D - 3, by omega⟩
  unfold n_again
  rw [XC_s]
  simp (disch := first | omega | exact cI _ | exact cR _ | exact cK | exact cU | exact cO _ | exact cL _) only [oS, uS.2, Nat.reduceAdd, Nat.reduceSub, Nat.reduceMul, Nat.reduceLeDiff, Nat.reduceEqDiff, Nat.add_sub_cancel, xS, gS, nL, nS, dS, FX30_init, mX30_init, zX30_init, FX17_init, mX17_init, zX17_init, XC_s (k := 213), hk, va_rf_cat]
theorem q_again {z : Nat} {n : Int32} {x0 : Int32} {o1 : Option Nat} : KQ (fun a => a = z) 0 0 G (n_again G z n x0 o1) := ((KQ.fR).trans KQ.fR).trans KQ.rR
end CON
