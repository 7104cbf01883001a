set_option maxRecDepth 100000
/-! prophecy: for every scope around where its jumps go and its handlers; the rows that come later -/
abbrev Pp : Type := Nat × Hf
def hfl (ps : List Pp) : Hf := fun kd => match ps with
  | [] => none
  | p :: r => match p.2 kd with
    | some q => some q
    | none => hfl r kd
def hgp (K : List Lc) (ps : List Pp) (pc : Nat) (kd : Int32) : Option (Nat × Nat) := match K, ps with
  | c :: K, p :: ps => if gIn (cGs c) pc = true then hgp K ps pc kd else match p.2 kd with
    | some q => some q
    | none => hgp K ps pc kd
  | _, _ => none
def Kps (K : List Lc) (ps : List Pp) : List Sc := match K, ps with
  | c :: K, p :: ps => (c.1, c.2.1, c.2.2.1, p.1, hfl ps) :: Kps K ps
  | _, _ => []
def agI (sh : Bool) (C : Cd) (o : Ci) (K : List Lc) (ps : List Pp) (i : Nat) : Prop := match K, ps with
  | c :: K, p :: ps => (i ∈ cJs c → (c.1 = 0 ∨ (c.1 = 3 ∧ sh = true)) → (C.1 i).1 = o.1 ∧ (C.1 i).2.2 = p.1) ∧ (i ∉ cJs c → agI sh C o K ps i)
  | _, _ => C.1 i = o
def cnd (T : Pg) (sh : Bool) (C : Cd) (X : LX) (ps : List Pp) (later : List Crw) (a : Nat) : Prop := ps.length = X.2.length ∧ C.2.1 = Xr X ++ later ∧ (∀ i, a ≤ i → i < Xn X → agI sh C (Xo X i) X.2 ps i) ∧ (∀ pc kd, a ≤ pc → pc < Xn X → hlr T later pc kd = hgp X.2 ps pc kd) ∧ Xn X < 100000
theorem hfl_n {ps : List Pp} {x : Nat} : hfl ((x, fun _ => none) :: ps) = hfl ps := by
  funext kd
  rfl
theorem hfl_s {ps : List Pp} {x : Nat} {q : Nat × Nat} : hfl ((x, fun _ => some q) :: ps) = fun _ => some q := by
  funext kd
  rfl
section COND
variable {T : Pg} {sh : Bool} {C : Cd}
theorem agI_kx {o : Ci} {n i : Nat} (hi : i < n) : ∀ {K K' : List Lc} {ps : List Pp}, kx n K K' → agI sh C o K' ps i → agI sh C o K ps i := by
  intro K
  induction K with
  | nil => intro K' ps h g; cases K' with
    | nil => exact g
    | cons => exact h.elim
  | cons c K ih => intro K' ps h g; cases K' with
    | nil => exact h.elim
    | cons c' K' =>
      obtain ⟨h1, -, -, -, ⟨j, h5, h5'⟩, h6⟩ := h
      cases ps with
      | nil => exact g
      | cons p ps =>
        obtain ⟨g1, g2⟩ := g
        refine ⟨fun a b => g1 (by rw [h5]; exact List.mem_append_left _ a) (by rw [h1]; exact b), fun a => ih h6 (g2 (fun b => ?_))⟩
        rw [h5] at b
        rcases List.mem_append.mp b with b | b
        · exact a b
        · have := h5' i b
          omega
theorem agI_no {o : Ci} {i : Nat} : ∀ {K : List Lc} {ps : List Pp}, (∀ c, c ∈ K → i ∉ cJs c) → agI sh C o K ps i → C.1 i = o := by
  intro K
  induction K with
  | nil => intro ps _ h; exact h
  | cons c K ih => intro ps h g; cases ps with
    | nil => exact g
    | cons p ps => exact ih (fun c' hc => h c' (List.mem_cons_of_mem _ hc)) (g.2 (h c List.mem_cons_self))
theorem gIn_app {g r : List (Nat × Nat)} {pc : Nat} (h : ∀ x, x ∈ r → pc < x.1) : gIn (g ++ r) pc = gIn g pc := by
  unfold gIn
  rw [List.any_append]
  have : r.any (fun g => decide (g.1 ≤ pc) && decide (pc < g.2)) = false := by
    rw [List.any_eq_false]
    intro x hx
    have := h x hx
    simp
    omega
  rw [this, Bool.or_false]
theorem hgp_kx {n pc : Nat} {kd : Int32} (hi : pc < n) : ∀ {K K' : List Lc} {ps : List Pp}, kx n K K' → hgp K' ps pc kd = hgp K ps pc kd := by
  intro K
  induction K with
  | nil => intro K' ps h; cases K' with
    | nil => rfl
    | cons => exact h.elim
  | cons c K ih => intro K' ps h; cases K' with
    | nil => exact h.elim
    | cons c' K' =>
      obtain ⟨-, -, -, ⟨g, h4, h4'⟩, -, h6⟩ := h
      cases ps with
      | nil => rfl
      | cons p ps =>
        unfold hgp
        rw [h4, gIn_app (fun x hx => by have := h4' x hx; omega), ih h6]
theorem hgp_no {pc : Nat} {kd : Int32} : ∀ {K : List Lc} {ps : List Pp}, ps.length = K.length → (∀ c, c ∈ K → gIn (cGs c) pc = false) → hgp K ps pc kd = hfl ps kd := by
  intro K
  induction K with
  | nil => intro ps h _; cases ps with
    | nil => rfl
    | cons => cases h
  | cons c K ih => intro ps h g; cases ps with
    | nil => cases h
    | cons p ps =>
      unfold hgp hfl
      rw [g c List.mem_cons_self, ih (Nat.succ.inj h) (fun c' hc => g c' (List.mem_cons_of_mem _ hc))]
      rfl
theorem Kps_kx {n : Nat} : ∀ {K K' : List Lc} {ps : List Pp}, kx n K K' → Kps K' ps = Kps K ps := by
  intro K
  induction K with
  | nil => intro K' ps h; cases K' with
    | nil => rfl
    | cons => exact h.elim
  | cons c K ih => intro K' ps h; cases K' with
    | nil => exact h.elim
    | cons c' K' =>
      obtain ⟨h1, h2, h3, -, -, h6⟩ := h
      cases ps with
      | nil => rfl
      | cons p ps =>
        unfold Kps
        rw [h1, h2, h3, ih h6]
theorem cnd.sub {X : LX} {ps : List Pp} {later : List Crw} {a b : Nat} (h : cnd T sh C X ps later a) (hab : a ≤ b) : cnd T sh C X ps later b := ⟨h.1, h.2.1, fun i h1 h2 => h.2.2.1 i (by omega) h2, fun pc kd h1 h2 => h.2.2.2.1 pc kd (by omega) h2, h.2.2.2.2⟩
theorem cnd.back {X1 X : LX} {ps : List Pp} {later : List Crw} {a b : Nat} (h : cnd T sh C X ps later a) (e : Ex b X1 X) (hab : b ≤ a) : ∃ l1, cnd T sh C X1 ps l1 a := by
  obtain ⟨e1, e2, ⟨r, e3, e3'⟩, e4⟩ := e
  obtain ⟨h1, h2, h3, h4, h5⟩ := h
  refine ⟨r ++ later, h1.trans e4.len, by rw [h2, e3, List.append_assoc], fun i ha hi => ?_, fun pc kd ha hp => ?_, by omega⟩
  · rw [← e2 i (by omega) hi]
    exact agI_kx hi e4 (h3 i ha (by omega))
  · rw [hlr_out (fun x hx => by rcases e3' x hx with q | q <;> omega), h4 pc kd ha (by omega), hgp_kx hp e4]
/-- an instruction that may be patched later -/
theorem cnd.op {X X' : LX} {ps : List Pp} {later : List Crw} {a : Nat} (h : cnd T sh C X' ps later a) (w : wX X) (k : kx (Xn X + 1) X.2 X'.2) (ha : a ≤ Xn X) (hn : Xn X < Xn X') : C.1 (Xn X) = Xo X' (Xn X) :=
  agI_no (fun c hc hj => by have := (w.2.1 c hc).2 _ hj; omega) (agI_kx (Nat.lt_succ_self _) k (h.2.2.1 (Xn X) ha hn))
/-- an instruction, where its failures go -/
theorem cnd.at {X : LX} {ps : List Pp} {later : List Crw} {a o x y : Nat} (h : cnd T sh C (aX o x y X) ps later a) (w : wX X) (ha : a ≤ Xn X) : C.1 (Xn X) = (o, x, y) ∧ hAt T C (hfl ps) (Xn X) := by
  refine ⟨?_, fun kd => ?_⟩
  · rw [h.op w kx.refl ha (Nat.lt_succ_self _)]
    show (if Xn X = Xn X then (o, x, y) else Xo X (Xn X)) = _
    rw [if_pos rfl]
  · rw [h.2.1]
    have e : Xr (aX o x y X) = Xr X := rfl
    rw [e, hlr_out (fun r hr => Or.inl (w.1 r hr)), h.2.2.2.1 (Xn X) kd ha (Nat.lt_succ_self _)]
    exact hgp_no h.1 (fun c hc => gIn_out (w.2.1 c hc).1 (Or.inr (Nat.le_refl _)))
/-- what rows say, whatever the instructions become -/
def Rx (a : Nat) (X X' : LX) : Prop := Xn X ≤ Xn X' ∧ (∃ r, Xr X' = Xr X ++ r ∧ ∀ x, x ∈ r → x.2.1 ≤ a ∨ Xn X ≤ x.1) ∧ kx (Xn X) X.2 X'.2
theorem Ex.r {a : Nat} {X X' : LX} (h : Ex a X X') : Rx a X X' := ⟨h.1, h.2.2.1, h.2.2.2⟩
theorem Rx.trans {a b : Nat} {X Y Z : LX} (h : Rx a X Y) (g : Rx b Y Z) (hb : b ≤ a) : Rx a X Z := by
  obtain ⟨h1, ⟨r, h3, h3'⟩, h4⟩ := h
  obtain ⟨g1, ⟨q, g3, g3'⟩, g4⟩ := g
  refine ⟨Nat.le_trans h1 g1, ⟨r ++ q, by rw [g3, h3, List.append_assoc], fun x hx => ?_⟩, h4.trans h1 g4⟩
  rcases List.mem_append.mp hx with hx | hx
  · exact h3' x hx
  · rcases g3' x hx with e | e <;> omega
theorem cnd.hat {X X' : LX} {ps : List Pp} {later : List Crw} {a o x y : Nat} (h : cnd T sh C X' ps later a) (w : wX X) (e : Rx (Xn X) (aX o x y X) X') (ha : a ≤ Xn X) : hAt T C (hfl ps) (Xn X) := by
  obtain ⟨e1, ⟨r, e3, e3'⟩, e4⟩ := e
  have en : Xn (aX o x y X) = Xn X + 1 := rfl
  have er : Xr (aX o x y X) = Xr X := rfl
  intro kd
  rw [h.2.1, e3, er, List.append_assoc, hlr_out (fun r hr => Or.inl (w.1 r hr)), hlr_out (fun x hx => by rcases e3' x hx with q | q <;> omega), h.2.2.2.1 (Xn X) kd ha (by omega), hgp_kx (by omega) e4]
  exact hgp_no (h.1.trans e4.len) (fun c hc => gIn_out (w.2.1 c hc).1 (Or.inr (Nat.le_refl _)))
/-- into a scope that is closed by now -/
theorem cnd.scope {X1 X2 X' : LX} {c : Lc} {K2 : List Lc} {ps : List Pp} {later r : List Crw} {a x : Nat} {hk : Hf} (h : cnd T sh C X' ps later a) (ha : a ≤ X1.1.1) (w : wX X2) (hX : X2.2 = c :: K2) (hn : Xn X2 ≤ Xn X') (k : kx (Xn X2) K2 X'.2) (hr : Xr X' = Xr X2 ++ r)
    (ho1 : ∀ i, Xn X1 ≤ i → i < Xn X2 → i ∈ cJs c → (c.1 = 0 ∨ (c.1 = 3 ∧ sh = true)) → (Xo X' i).1 = (Xo X2 i).1 ∧ (Xo X' i).2.2 = x) (ho2 : ∀ i, Xn X1 ≤ i → i < Xn X2 → i ∉ cJs c → Xo X' i = Xo X2 i)
    (hh : ∀ pc kd, Xn X1 ≤ pc → pc < Xn X2 → hlr T (r ++ later) pc kd = if gIn (cGs c) pc = true then hlr T later pc kd else match hk kd with
      | some q => some q
      | none => hlr T later pc kd) : cnd T sh C X2 ((x, hk) :: ps) (r ++ later) (Xn X1) := by
  obtain ⟨h1, h2, h3, h4, h5⟩ := h
  have ha : a ≤ Xn X1 := ha
  refine ⟨?_, by rw [h2, hr, List.append_assoc], fun i hi1 hi2 => ?_, fun pc kd hp1 hp2 => ?_, by omega⟩
  · rw [hX]
    exact congrArg (· + 1) (h1.trans k.len)
  · rw [hX]
    have g := h3 i (by omega) (by omega)
    refine ⟨fun hj hc => ?_, fun hj => ?_⟩
    · obtain ⟨o1, o2⟩ := ho1 i hi1 hi2 hj hc
      have : C.1 i = Xo X' i := by
        refine agI_no (fun c' hc' hj' => ?_) (agI_kx hi2 k g)
        have h7 := w.2.2 i
        rw [hX] at h7
        unfold cJ at h7
        have h8 : 0 < (cJs c).count i := List.count_pos_iff.mpr hj
        have h9 : ∀ {K : List Lc}, c' ∈ K → 0 < cJ i K := by
          intro K
          induction K with
          | nil => intro h; cases h
          | cons d K ih =>
            intro h
            unfold cJ
            rcases List.mem_cons.mp h with rfl | h
            · have := List.count_pos_iff.mpr hj'
              omega
            · have := ih h
              omega
        have := h9 hc'
        omega
      rw [this]
      exact ⟨o1, o2⟩
    · rw [← ho2 i hi1 hi2 hj]
      exact agI_kx hi2 k g
  · rw [hX, hh pc kd hp1 hp2, h4 pc kd (by omega) (by omega), hgp_kx hp2 k]
    rfl
end COND
/-! context -/
def cntL (K : List Lc) : Nat := match K with
  | [] => 0
  | c :: K => (if c.1 = 0 then 1 else 0) + cntL K
/-- finishing blocks around come behind hi -/
def KF (T : Pg) (nm M : Nat) (hi : Nat) (K : List Lc) : Prop := match K with
  | [] => True
  | c :: K => c.1 ≤ 5 ∧ (c.1 = 3 → ∃ mw tg lp dp lo' hi', wB T nm mw tg lp dp (finB T c.2.1) lo' hi' ∧ hi ≤ lo' ∧ hi' < M ∧ lp ≤ cntL K ∧ KF T nm M hi' K) ∧ KF T nm M hi K
theorem KF.mono {T : Pg} {nm M : Nat} : ∀ {K : List Lc} {hi lo : Nat}, KF T nm M hi K → lo ≤ hi → KF T nm M lo K := by
  intro K
  induction K with
  | nil => intro _ _ _ _; trivial
  | cons c K ih =>
    intro hi lo h g
    refine ⟨h.1, fun h3 => ?_, ih h.2.2 g⟩
    obtain ⟨mw, tg, lp, dp, lo', hi', a1, a2, a3⟩ := h.2.1 h3
    exact ⟨mw, tg, lp, dp, lo', hi', a1, by omega, a3⟩
theorem cntL_kx {n : Nat} : ∀ {K K' : List Lc}, kx n K K' → cntL K' = cntL K := by
  intro K
  induction K with
  | nil => intro K' h; cases K' with
    | nil => rfl
    | cons => exact h.elim
  | cons c K ih => intro K' h; cases K' with
    | nil => exact h.elim
    | cons c' K' => unfold cntL; rw [h.1, ih h.2.2.2.2.2]
theorem KF.kx {T : Pg} {nm M n : Nat} : ∀ {K K' : List Lc} {hi : Nat}, KF T nm M hi K → kx n K K' → KF T nm M hi K' := by
  intro K
  induction K with
  | nil => intro K' hi h g; cases K' with
    | nil => trivial
    | cons => exact g.elim
  | cons c K ih => intro K' hi h g; cases K' with
    | nil => exact g.elim
    | cons c' K' =>
      refine ⟨by rw [g.1]; exact h.1, fun h3 => ?_, ih h.2.2 g.2.2.2.2.2⟩
      rw [g.1] at h3
      obtain ⟨mw, tg, lp, dp, lo', hi', a1, a2, a3, a4, a5⟩ := h.2.1 h3
      exact ⟨mw, tg, lp, dp, lo', hi', by rw [g.2.1]; exact a1, a2, a3, by rw [cntL_kx g.2.2.2.2.2]; exact a4, ih a5 g.2.2.2.2.2⟩
