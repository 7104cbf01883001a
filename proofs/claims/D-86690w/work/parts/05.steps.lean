/-! X: what it says of the machine -/
set_option maxRecDepth 100000
/-- the tables of a state that a method stands on: they go down into calls -/
def XTF (D : va_G) (SV : Nat → Value) (s : State) : Prop :=
  (∀ q ∈ xclL, u_Kn s q.2.1 q.2.2.1 q.2.2.2 (D.1 q.1) (D.2 q.1)) ∧ (∀ q ∈ xnF, va_Nw (xnFw q) s) ∧ (∀ q ∈ xnM, va_Nw (xnMw q) s) ∧ (∀ q ∈ xnC, va_Nw (.castable q.1 q.2) s) ∧
  (∀ q ∈ xnA, va_Nw (.arrayOver q) s) ∧ (∀ q ∈ xnI, va_Fw q.1 q.2.1 q.2.2 s) ∧ (∀ q ∈ xnN, va_Nc q.1 q.2 s) ∧ (∀ q ∈ xldL, ∃ a : Nat, SV q.1 = .ref a ∧ vk_R q.2.1 q.2.2.1 q.2.2.2 a s) ∧ (∀ q ∈ xnD, va_Nw (.declares q) s)
/-- a cell of the machine's heap, as the plain heap has it -/
def xcell (D : va_G) (base : Nat) (s : State) (G : XG) (H : Heap) (a : Nat) : Prop :=
  if Gkd G a < 100 then ∃ r : vw_C, (Gkd G a - 1, r) ∈ xclL ∧ t_OB a (D.1 (Gkd G a - 1)) r.2.2 (D.2 (Gkd G a - 1)) H (fun k => xfv G (xgid (Gkd G a - 1) k) a) ∧ base ≤ a
  else if Gkd G a < 300 then ∃ cA : ClassId, H[a]? = some (arrV cA (Gln G a) (xav (Gkd G a % 100) G a)) ∧ ArrOfT s cA (xaty (Gkd G a % 100)) ∧ va_RA s cA (xaty (Gkd G a % 100)) ∧ (Gkd G a < 200 → base ≤ a)
  else va_O "java/lang/String" a (fun q => base ≤ q) s H ∧ va_OF "java/lang/String" "coder" "B" (.int 0) a (fun q => base ≤ q) s H ∧ ∃ v : Nat, va_OF "java/lang/String" "value" "[B" (.ref v) a (fun q => base ≤ q) s H ∧ va_T .byte v (xsln (Gkd G a - 300)) (fun j => .int ((xsby (Gkd G a - 300)).getD j 0)) (fun q => base ≤ q) s H
def XRel (D : va_G) (base : Nat) (SV : Nat → Value) (s : State) (G : XG) (H : Heap) : Prop :=
  H.size = Gtp G ∧ base ≤ H.size ∧ Gsv G = SV ∧ (∀ a, Gkd G a ≠ 0 → a < Gtp G ∧ xcell D base s G H a) ∧ (∀ q ∈ xstL, va_Z q.2.1 q.2.2.1 q.2.2.2 (SV q.1) (fun x => base ≤ x) s H)
theorem xcell.moved {D : va_G} {base : Nat} {u U : State} {G : XG} {H : Heap} {a : Nat} (hvm : u.vm.Alike U.vm) (h : xcell D base u G H a) : xcell D base U G H a := by
  unfold xcell at h ⊢
  split at h
  · next h1 => rw [if_pos h1]; exact h
  · next h1 =>
    rw [if_neg h1]
    split at h
    · next h2 =>
      rw [if_pos h2]
      obtain ⟨cA, e, h3, h4, h5⟩ := h
      exact ⟨cA, e, arrOfT_moved hvm h3, va_RA.moved hvm h4, h5⟩
    · next h2 =>
      rw [if_neg h2]
      obtain ⟨h3, h4, v, h5, h6⟩ := h
      exact ⟨va_O.moved hvm h3, va_OF.moved hvm h4, v, va_OF.moved hvm h5, va_T.moved hvm h6⟩
theorem XRel.moved {D : va_G} {base : Nat} {SV : Nat → Value} {u U : State} {G : XG} {H : Heap} (hvm : u.vm.Alike U.vm) (h : XRel D base SV u G H) : XRel D base SV U G H := by
  obtain ⟨h1, h2, h3, h4, h5⟩ := h
  exact ⟨h1, h2, h3, fun a ha => ⟨(h4 a ha).1, (h4 a ha).2.moved hvm⟩, fun q hq => va_Z.moved hvm (h5 q hq)⟩
theorem xAO_movedA {t : FieldType} {u U : State} (hvm : u.vm.Alike U.vm) (h : va_Nw (.arrayOver (.array t)) u) : va_Nw (.arrayOver (.array t)) U := by
  obtain ⟨comp, c, k, h1, h2, h3, h4, h5⟩ := arrayOverA_spec h
  obtain ⟨k', hk', he⟩ := hvm.2.2 _ _ h3
  have hi : (U.vm.classes.findIdx? fun (x : Class) => match x.kind with | .array component _ => component == comp | _ => false) = some c := by
    rw [hvm.findIdx?_eq _ (fun _ => rfl)]; exact h2
  have hkind : k'.kind = .array comp (.array t) := by rw [he]; exact h4
  have f1 : U.vm.findClass (FieldType.array t).toString = some comp := by rw [hvm.findClass]; exact h1
  have f2 : U.vm.findClass ("[" ++ (FieldType.array t).toString) = some c := by rw [hvm.findClass]; exact h5
  unfold va_Nw Cond.before Cond.holds
  simp only [Cond.value]
  rw [f1, Option.bind_some]
  refine (congrArg (fun o : Option Nat => (o.bind (fun c => (U.vm.classes[c]?).map fun (k : Class) => match k.kind with | .array _ ty => decide (ty = FieldType.array t) && decide (U.vm.findClass ("[" ++ (FieldType.array t).toString) = some c) | _ => false) == some true)) hi).trans ?_
  simp [hk', hkind, f2]
theorem xAO_moved {q : FieldType} (hq : q ∈ xnA) {u U : State} (hvm : u.vm.Alike U.vm) (h : va_Nw (.arrayOver q) u) : va_Nw (.arrayOver q) U := by
  have hq2 : (∃ t, q = .array t) ∨ ∃ C, q = .object C := by
    simp only [xnA, List.mem_cons, List.not_mem_nil, or_false] at hq
    rcases hq with e | e | e | e | e | e <;> rw [e] <;> first | exact Or.inl ⟨_, rfl⟩ | exact Or.inr ⟨_, rfl⟩
  rcases hq2 with ⟨t, e⟩ | ⟨C, e⟩
  · rw [e] at h ⊢
    exact xAO_movedA hvm h
  · rw [e] at h ⊢
    exact va_AO.moved hvm h
theorem XTF.warm {D : va_G} {SV : Nat → Value} {s U : State} (hW : s.WarmedH U.vm) (h : XTF D SV s) : XTF D SV U := by
  obtain ⟨h1, h2, h3, h4, h5, h6, h7, h8, hD⟩ := h
  refine ⟨fun q hq => u_Kn_moved hW.alike (h1 q hq), fun q hq => va_Nw.warmF hW (h2 q hq), fun q hq => va_Nw.warmM hW (h3 q hq), fun q hq => va_Nw.warmC hW (h4 q hq), fun q hq => xAO_moved hq hW.alike (h5 q hq), fun q hq => va_Fw.moved (xnI_ok q hq) hW.alike (h6 q hq), fun q hq => va_Nc.moved hW.alike (h7 q hq), fun q hq => ?_, fun q hq => va_Nw.warmD hW (hD q hq)⟩
  obtain ⟨a, e, h9⟩ := h8 q hq
  exact ⟨a, e, vk_R.warm hW h9⟩
theorem XTF.same {D : va_G} {SV : Nat → Value} {s U : State} (hv : s.vm = U.vm) (h : XTF D SV s) : XTF D SV U := by
  have hA : s.vm.Alike U.vm := by rw [hv]; exact Vm.Alike.refl _
  obtain ⟨h1, h2, h3, h4, h5, h6, h7, h8, hD⟩ := h
  refine ⟨fun q hq => u_Kn_moved hA (h1 q hq), fun q hq => va_Nw.same rfl hv (h2 q hq), fun q hq => va_Nw.same rfl hv (h3 q hq), fun q hq => va_Nw.same rfl hv (h4 q hq), fun q hq => xAO_moved hq hA (h5 q hq), fun q hq => va_Fw.moved (xnI_ok q hq) hA (h6 q hq), fun q hq => va_Nc.moved hA (h7 q hq), fun q hq => ?_, fun q hq => va_Nw.same rfl hv (hD q hq)⟩
  obtain ⟨a, e, h9⟩ := h8 q hq
  exact ⟨a, e, vk_R.same hv.symm h9⟩
/-- a method's fixed things -/
def XCx (p : Program) (s : State) (m : MethodId) (args : Array Value) (meth : Method) (c : Code) (M : XM) : Prop :=
  p.tables.exec = Jvm.exec ∧ c.code = xmc M ∧ c.maxLocals = xmL M ∧ s.vm.findClass (xmy M).cls = some m.cls ∧ (∀ w ∈ lw_all, w.before args s = true) ∧ meth.locks = false ∧ meth.sig.returnType = xmr M ∧ meth.name = (xmy M).name ∧ c.exceptionTable.toList = tableOf (xmh M)
/-- the locals -/
def xla (i : Nat) (L : List Value) : List (Nat × Value) := match L with
  | [] => []
  | v :: r => if v = xjk then xla (i + 1) r else (i, v) :: xla (i + 1) r
def XLo (n : Nat) (L : List Value) (ls : Array Slot) : Prop := L.length = n ∧ lv_has ls n (xla 0 L)
theorem xla_mem {L : List Value} {i k : Nat} {v : Value} : (k, v) ∈ xla i L ↔ ∃ j, k = i + j ∧ L[j]? = some v ∧ v ≠ xjk := by
  induction L generalizing i with
  | nil => simp [xla]
  | cons w r ih =>
    unfold xla
    constructor
    · intro h
      split at h
      · obtain ⟨j, h1, h2, h3⟩ := ih.mp h
        exact ⟨j + 1, by omega, by simpa using h2, h3⟩
      · next hw =>
        rcases List.mem_cons.mp h with h | h
        · cases h
          exact ⟨0, rfl, rfl, hw⟩
        · obtain ⟨j, h1, h2, h3⟩ := ih.mp h
          exact ⟨j + 1, by omega, by simpa using h2, h3⟩
    · rintro ⟨j, h1, h2, h3⟩
      cases j with
      | zero =>
        simp only [List.getElem?_cons_zero, Option.some.injEq] at h2
        subst h2
        rw [if_neg h3]
        exact List.mem_cons.mpr (Or.inl (by rw [h1]; rfl))
      | succ j =>
        have h4 : (k, v) ∈ xla (i + 1) r := ih.mpr ⟨j, by omega, by simpa using h2, h3⟩
        split
        · exact h4
        · exact List.mem_cons_of_mem _ h4
theorem XLo.at {n : Nat} {L : List Value} {ls : Array Slot} (h : XLo n L ls) {k : Nat} {v : Value} (hk : L[k]? = some v) (hv : v ≠ xjk) : ls[k]? = some (.val v) := h.2.2.2 (k, v) (xla_mem.mpr ⟨k, by omega, hk, hv⟩)
theorem XLo.of {n : Nat} {L : List Value} {ls : Array Slot} {lv : List (Nat × Value)} (hn : L.length = n) (h : lv_has ls n lv) (hs : ∀ q ∈ xla 0 L, q ∈ lv) : XLo n L ls := ⟨hn, h.1, h.2.1, fun q hq => h.2.2 q (hs q hq)⟩
/-- a place that may be stored at: none before it is half of a long -/
def xok1 (L : List Value) (i : Nat) : Bool := decide (i < L.length) && (i == 0 || match L[i - 1]? with | some w => w.category == 1 | none => false)
theorem xok1_sp {L : List Value} {i : Nat} (h : xok1 L i = true) : i < L.length ∧ (i = 0 ∨ ∃ w, L[i - 1]? = some w ∧ w.category = 1) := by
  simp only [xok1, Bool.and_eq_true, decide_eq_true_eq, Bool.or_eq_true, beq_iff_eq] at h
  refine ⟨h.1, h.2.imp id fun h2 => ?_⟩
  split at h2
  · next w hw => exact ⟨w, hw, by simpa using h2⟩
  · cases h2
theorem xsub1 {L : List Value} {i : Nat} {v : Value} (h : xok1 L i = true) : ∀ q ∈ xla 0 (L.set i v), q ∈ (i, v) :: (xla 0 L).filter (fun q => !(q.1 == i) && !(q.1 + 1 == i && q.2.category == 2)) := by
  obtain ⟨h1, h2⟩ := xok1_sp h
  rintro ⟨k, w⟩ hq
  obtain ⟨j, e, hj, hw⟩ := xla_mem.mp hq
  have e : k = j := by omega
  subst e
  by_cases hi : k = i
  · subst hi
    rw [List.getElem?_set_self h1] at hj
    cases hj
    exact List.mem_cons_self
  · rw [List.getElem?_set_ne (fun e => hi e.symm)] at hj
    refine List.mem_cons_of_mem _ (List.mem_filter.mpr ⟨xla_mem.mpr ⟨k, by omega, hj, hw⟩, ?_⟩)
    simp only [Bool.and_eq_true, Bool.not_eq_true', beq_eq_false_iff_ne, ne_eq, Bool.and_eq_false_iff]
    refine ⟨hi, ?_⟩
    by_cases hk : k + 1 = i
    · right
      rcases h2 with h2 | ⟨w2, h2, h3⟩
      · omega
      · have e : i - 1 = k := by omega
        rw [e, hj] at h2
        cases h2
        omega
    · left
      exact hk
theorem xsub2 {L : List Value} {i : Nat} {v : Value} (h : xok1 L i = true) (h5 : i + 1 < L.length) : ∀ q ∈ xla 0 ((L.set i v).set (i + 1) xjk), q ∈ (i, v) :: (xla 0 L).filter (fun q => !(q.1 == i) && (!(q.1 == i + 1) && !(q.1 + 1 == i && q.2.category == 2))) := by
  obtain ⟨h1, h2⟩ := xok1_sp h
  rintro ⟨k, w⟩ hq
  obtain ⟨j, e, hj, hw⟩ := xla_mem.mp hq
  have e : k = j := by omega
  subst e
  by_cases hi2 : k = i + 1
  · subst hi2
    rw [List.getElem?_set_self (by simpa using h5)] at hj
    cases hj
    exact absurd rfl hw
  · rw [List.getElem?_set_ne (fun e => hi2 e.symm)] at hj
    by_cases hi : k = i
    · subst hi
      rw [List.getElem?_set_self h1] at hj
      cases hj
      exact List.mem_cons_self
    · rw [List.getElem?_set_ne (fun e => hi e.symm)] at hj
      refine List.mem_cons_of_mem _ (List.mem_filter.mpr ⟨xla_mem.mpr ⟨k, by omega, hj, hw⟩, ?_⟩)
      simp only [Bool.and_eq_true, Bool.not_eq_true', beq_eq_false_iff_ne, ne_eq, Bool.and_eq_false_iff]
      refine ⟨hi, hi2, ?_⟩
      by_cases hk : k + 1 = i
      · right
        rcases h2 with h2 | ⟨w2, h2, h3⟩
        · omega
        · have e : i - 1 = k := by omega
          rw [e, hj] at h2
          cases h2
          omega
      · left
        exact hk
/-- what a plain step owes -/
def XOkP (M : XM) (pc npc : Nat) (f : XP) : Prop := ∀ (L st : List Value) (G : XG) (j : Option Nat) (L' st' : List Value) (G' : XG), f L st G = some (j, L', st', G') →
  (Gtp G ≤ Gtp G' ∧ Gus G ≤ Gus G' ∧ Gsv G' = Gsv G) ∧
  ∀ {D : va_G} {base : Nat} {SV : Nat → Value} {p : Program} {l : Launch} {e : Env} {R : Room} {s : State} {m : MethodId} {args : Array Value} {below : List Frame} {meth : Method} {c : Code} {H : Heap} {locs : List Loc} {cells slots : Nat} {Q : State → Prop} {ls : Array Slot},
    XCx p s m args meth c M → XTF D SV s → XRel D base SV s G H → XLo (xmL M) L ls → va_S (fun x => base ≤ x) s.heap H locs → base ≤ s.heap.size → 6 ≤ R.frames → 100 ≤ R.locals →
    cells + (Gtp G' - Gtp G) ≤ R.cells → slots + (Gus G' - Gus G) ≤ R.slots →
    (∀ (H' : Heap) (locs' : List Loc) (ls' : Array Slot), XRel D base SV s G' H' → XLo (xmL M) L' ls' → va_S (fun x => base ≤ x) s.heap H' locs' →
      W p l e R s m args below meth c H' locs' (cells + (Gtp G' - Gtp G)) (slots + (Gus G' - Gus G)) Q (F0 m (j.getD npc) ls' st')) →
    W p l e R s m args below meth c H locs cells slots Q (F0 m pc ls st)
section XOKS
variable {M : XM} {pc npc : Nat}
/-- steps that leave heap and locals -/
theorem xok_st {f : XP} (h : ∀ (L st : List Value) (G : XG) (j : Option Nat) (L' st' : List Value) (G' : XG), f L st G = some (j, L', st', G') → L' = L ∧ G' = G ∧
    ∀ {D : va_G} {base : Nat} {SV : Nat → Value} {p : Program} {l : Launch} {e : Env} {R : Room} {s : State} {m : MethodId} {args : Array Value} {below : List Frame} {meth : Method} {c : Code} {H : Heap} {locs : List Loc} {cells slots : Nat} {Q : State → Prop} {ls : Array Slot},
      XCx p s m args meth c M → XTF D SV s → XRel D base SV s G H → XLo (xmL M) L ls → va_S (fun x => base ≤ x) s.heap H locs → 6 ≤ R.frames → 100 ≤ R.locals →
      W p l e R s m args below meth c H locs cells slots Q (F0 m (j.getD npc) ls st') → W p l e R s m args below meth c H locs cells slots Q (F0 m pc ls st)) : XOkP M pc npc f := by
  intro L st G j L' st' G' hf
  obtain ⟨rfl, rfl, h2⟩ := h L st G j L' st' G' hf
  refine ⟨⟨Nat.le_refl _, Nat.le_refl _, rfl⟩, ?_⟩
  intro D base SV p l e R s m args below meth c H locs cells slots Q ls hC hT hR hL hS hb hfr hlo hc hs k
  have k2 := k H locs ls hR hL hS
  rw [Nat.sub_self, Nat.sub_self, Nat.add_zero, Nat.add_zero] at k2
  exact h2 hC hT hR hL hS hfr hlo k2
def x_psh (v : Value) : XP := fun L st G => some (none, L, v :: st, G)
theorem xok_iconst {n : Int} {v : Int32} (d : decode (xmc M) pc = .ok (.iconst n, 1)) (hv : Int32.ofInt n = v) : XOkP M pc (pc + 1) (x_psh (.int v)) := by
  refine xok_st fun L st G j L' st' G' hf => ?_
  cases hf
  exact ⟨rfl, rfl, fun hC _ _ _ _ _ _ k => lv_iconst hC.1 hC.2.1 d hv k⟩
theorem xok_bipush {n : Int} {v : Int32} (d : decode (xmc M) pc = .ok (.bipush n, 2)) (hv : (Int8.ofInt n).toInt32 = v) : XOkP M pc (pc + 2) (x_psh (.int v)) := by
  refine xok_st fun L st G j L' st' G' hf => ?_
  cases hf
  exact ⟨rfl, rfl, fun hC _ _ _ _ _ _ k => lv_bipush hC.1 hC.2.1 d hv k⟩
theorem xok_sipush {n : Int} {v : Int32} (d : decode (xmc M) pc = .ok (.sipush n, 3)) (hv : (Int16.ofInt n).toInt32 = v) : XOkP M pc (pc + 3) (x_psh (.int v)) := by
  refine xok_st fun L st G j L' st' G' hf => ?_
  cases hf
  exact ⟨rfl, rfl, fun hC _ _ _ _ _ _ k => lv_sipush hC.1 hC.2.1 d hv k⟩
theorem xok_lconst {n : Fin 2} {v : Int64} (d : decode (xmc M) pc = .ok (.lconst n, 1)) (hv : Int64.ofNat (n : Nat) = v) : XOkP M pc (pc + 1) (x_psh (.long v)) := by
  refine xok_st fun L st G j L' st' G' hf => ?_
  cases hf
  exact ⟨rfl, rfl, fun hC _ _ _ _ _ _ k => lv_lconst hC.1 hC.2.1 d hv k⟩
theorem xok_ldc2 {ix : Nat} {v : Int64} (d : decode (xmc M) pc = .ok (.ldc2_w ix, 3)) (q : Cond.constantLong (xmy M).cls ix v ∈ lw_all) : XOkP M pc (pc + 3) (x_psh (.long v)) := by
  refine xok_st fun L st G j L' st' G' hf => ?_
  cases hf
  exact ⟨rfl, rfl, fun hC _ _ _ _ _ _ k => lv_ldc2 hC.1 hC.2.1 hC.2.2.2.1 (hC.2.2.2.2.1 _ q) d k⟩
theorem xok_null (d : decode (xmc M) pc = .ok (.aconst_null, 1)) : XOkP M pc (pc + 1) (x_psh .null) := by
  refine xok_st fun L st G j L' st' G' hf => ?_
  cases hf
  exact ⟨rfl, rfl, fun hC _ _ _ _ _ _ k => lv_null hC.1 hC.2.1 d k⟩
/-- a text: its address is told by the statics' row i -/
def x_sv (i : Nat) : XP := fun L st G => some (none, L, Gsv G i :: st, G)
theorem xok_ldcS {ix i : Nat} {tx : String} (d : decode (xmc M) pc = .ok (.ldc ix, 2)) (q : (i, (xmy M).cls, ix, tx) ∈ xldL) : XOkP M pc (pc + 2) (x_sv i) := by
  refine xok_st fun L st G j L' st' G' hf => ?_
  cases hf
  refine ⟨rfl, rfl, fun hC hT hR _ _ _ _ k => ?_⟩
  obtain ⟨a, e, h9⟩ := hT.2.2.2.2.2.2.2.1 _ q
  rw [hR.2.2.1] at k
  simp only at e
  rw [e] at k
  exact va_ldcS hC.1 hC.2.1 hC.2.2.2.1 h9 d k
theorem xok_gets {ix i : Nat} {C n t : String} (d : decode (xmc M) pc = .ok (.getstatic ix, 3)) (q : (i, C, n, t) ∈ xstL) (hl : Cond.fieldLink (xmy M).cls ix C n t ∈ lw_all) : XOkP M pc (pc + 3) (x_sv i) := by
  refine xok_st fun L st G j L' st' G' hf => ?_
  cases hf
  refine ⟨rfl, rfl, fun {D base SV p l e R s m args below meth c H locs cells slots Q ls} hC hT hR _ hS _ _ k => ?_⟩
  obtain ⟨cf, kf, fi, f, a, cell, h1, h2, h3, h4, h5, h6, h7, h8⟩ := hR.2.2.2.2 _ q
  rw [hR.2.2.1] at k
  exact W.gets hC.1 hC.2.1 hC.2.2.2.1 (hC.2.2.2.2.1 _ hl) h1 h2 h3 h4 h5 (fun e => by rw [e] at h6; cases h6) h7 rfl d k
theorem xok_getsN {ix i : Nat} {C n t host : String} (d : decode (xmc M) pc = .ok (.getstatic ix, 3)) (q : (i, C, n, t) ∈ xstL) (hl : ((xmy M).cls, ix, C, n, t, host) ∈ xnF) : XOkP M pc (pc + 3) (x_sv i) := by
  refine xok_st fun L st G j L' st' G' hf => ?_
  cases hf
  refine ⟨rfl, rfl, fun {D base SV p l e R s m args below meth c H locs cells slots Q ls} hC hT hR _ hS _ _ k => ?_⟩
  obtain ⟨cf, kf, fi, f, a, cell, h1, h2, h3, h4, h5, h6, h7, h8⟩ := hR.2.2.2.2 _ q
  rw [hR.2.2.1] at k
  exact va_WgetsN hC.1 hC.2.1 hC.2.2.2.1 (va_Nw.use rfl (hT.2.1 _ hl)) h1 h2 h3 h4 h5 (fun e => by rw [e] at h6; cases h6) h7 rfl d k
def x_ild (k : Nat) : XP := fun L st G => match L[k]? with
  | some (.int x) => some (none, L, .int x :: st, G)
  | _ => none
def x_lld (k : Nat) : XP := fun L st G => match L[k]? with
  | some (.long x) => some (none, L, .long x :: st, G)
  | _ => none
def x_ald (k : Nat) : XP := fun L st G => match L[k]? with
  | some v => match xunR v with
    | some o => some (none, L, va_rf o :: st, G)
    | none => none
  | none => none
theorem x_ild_sp {k : Nat} {L st : List Value} {G : XG} {j : Option Nat} {L' st' : List Value} {G' : XG} (h : x_ild k L st G = some (j, L', st', G')) : ∃ x, L[k]? = some (.int x) ∧ j = none ∧ L' = L ∧ st' = .int x :: st ∧ G' = G := by
  unfold x_ild at h
  split at h
  · next x hx => cases h; exact ⟨x, hx, rfl, rfl, rfl, rfl⟩
  · cases h
theorem x_lld_sp {k : Nat} {L st : List Value} {G : XG} {j : Option Nat} {L' st' : List Value} {G' : XG} (h : x_lld k L st G = some (j, L', st', G')) : ∃ x, L[k]? = some (.long x) ∧ j = none ∧ L' = L ∧ st' = .long x :: st ∧ G' = G := by
  unfold x_lld at h
  split at h
  · next x hx => cases h; exact ⟨x, hx, rfl, rfl, rfl, rfl⟩
  · cases h
theorem x_ald_sp {k : Nat} {L st : List Value} {G : XG} {j : Option Nat} {L' st' : List Value} {G' : XG} (h : x_ald k L st G = some (j, L', st', G')) : ∃ o, L[k]? = some (va_rf o) ∧ j = none ∧ L' = L ∧ st' = va_rf o :: st ∧ G' = G := by
  unfold x_ald at h
  split at h
  · next v hv =>
    split at h
    · next o ho => cases h; exact ⟨o, by rw [hv, xunR_sp ho], rfl, rfl, rfl, rfl⟩
    · cases h
  · cases h
theorem xne_i {x : Int32} : Value.int x ≠ xjk := fun h => by cases h
theorem xne_l {x : Int64} : Value.long x ≠ xjk := fun h => by cases h
theorem xne_r {o : Option Nat} : va_rf o ≠ xjk := fun h => by cases o <;> cases h
theorem xok_iload_n {k : Fin 4} {i : Nat} (d : decode (xmc M) pc = .ok (.iload_n k, 1)) (hi : (k : Nat) = i) : XOkP M pc (pc + 1) (x_ild i) := by
  refine xok_st fun L st G j L' st' G' hf => ?_
  obtain ⟨x, hx, rfl, rfl, rfl, rfl⟩ := x_ild_sp hf
  exact ⟨rfl, rfl, fun hC _ _ hL _ _ _ k => lv_iload_n hC.1 hC.2.1 d hi (hL.at hx xne_i) k⟩
theorem xok_iload {i : Nat} (d : decode (xmc M) pc = .ok (.iload i, 2)) : XOkP M pc (pc + 2) (x_ild i) := by
  refine xok_st fun L st G j L' st' G' hf => ?_
  obtain ⟨x, hx, rfl, rfl, rfl, rfl⟩ := x_ild_sp hf
  exact ⟨rfl, rfl, fun hC _ _ hL _ _ _ k => lv_iload hC.1 hC.2.1 d (hL.at hx xne_i) k⟩
theorem xok_lload_n {k : Fin 4} {i : Nat} (d : decode (xmc M) pc = .ok (.lload_n k, 1)) (hi : (k : Nat) = i) : XOkP M pc (pc + 1) (x_lld i) := by
  refine xok_st fun L st G j L' st' G' hf => ?_
  obtain ⟨x, hx, rfl, rfl, rfl, rfl⟩ := x_lld_sp hf
  exact ⟨rfl, rfl, fun hC _ _ hL _ _ _ k => lv_lload_n hC.1 hC.2.1 d hi (hL.at hx xne_l) k⟩
theorem xok_aload_n {k : Fin 4} {i : Nat} (d : decode (xmc M) pc = .ok (.aload_n k, 1)) (hi : (k : Nat) = i) : XOkP M pc (pc + 1) (x_ald i) := by
  refine xok_st fun L st G j L' st' G' hf => ?_
  obtain ⟨o, hx, rfl, rfl, rfl, rfl⟩ := x_ald_sp hf
  refine ⟨rfl, rfl, fun hC _ _ hL _ _ _ k => ?_⟩
  have h1 := hL.at hx xne_r
  cases o with
  | none => exact lv_aload_nN hC.1 hC.2.1 d hi h1 k
  | some a => exact lv_aload_n hC.1 hC.2.1 d hi h1 k
theorem xok_aload {i : Nat} (d : decode (xmc M) pc = .ok (.aload i, 2)) : XOkP M pc (pc + 2) (x_ald i) := by
  refine xok_st fun L st G j L' st' G' hf => ?_
  obtain ⟨o, hx, rfl, rfl, rfl, rfl⟩ := x_ald_sp hf
  refine ⟨rfl, rfl, fun hC _ _ hL _ _ _ k => ?_⟩
  have h1 := hL.at hx xne_r
  cases o with
  | none => exact lv_aloadN hC.1 hC.2.1 d h1 k
  | some a => exact lv_aload hC.1 hC.2.1 d h1 k
/-- steps that leave the heap, and set locals -/
theorem xok_lo {f : XP} (h : ∀ (L st : List Value) (G : XG) (j : Option Nat) (L' st' : List Value) (G' : XG), f L st G = some (j, L', st', G') → G' = G ∧
    ∀ {p : Program} {l : Launch} {e : Env} {R : Room} {s : State} {m : MethodId} {args : Array Value} {below : List Frame} {meth : Method} {c : Code} {H : Heap} {locs : List Loc} {cells slots : Nat} {Q : State → Prop} {ls : Array Slot},
      XCx p s m args meth c M → XLo (xmL M) L ls → (∀ ls' : Array Slot, XLo (xmL M) L' ls' → W p l e R s m args below meth c H locs cells slots Q (F0 m (j.getD npc) ls' st')) → W p l e R s m args below meth c H locs cells slots Q (F0 m pc ls st)) : XOkP M pc npc f := by
  intro L st G j L' st' G' hf
  obtain ⟨rfl, h2⟩ := h L st G j L' st' G' hf
  refine ⟨⟨Nat.le_refl _, Nat.le_refl _, rfl⟩, ?_⟩
  intro D base SV p l e R s m args below meth c H locs cells slots Q ls hC hT hR hL hS hb hfr hlo hc hs k
  refine h2 hC hL fun ls' hL' => ?_
  have k2 := k H locs ls' hR hL' hS
  rw [Nat.sub_self, Nat.sub_self, Nat.add_zero, Nat.add_zero] at k2
  exact k2
def x_ist (k : Nat) : XP := fun L st G => match st with
  | .int x :: r => if xok1 L k = true then some (none, L.set k (.int x), r, G) else none
  | _ => none
def x_lst (k : Nat) : XP := fun L st G => match st with
  | .long x :: r => if xok1 L k = true ∧ k + 1 < L.length then some (none, (L.set k (.long x)).set (k + 1) xjk, r, G) else none
  | _ => none
def x_ast (k : Nat) : XP := fun L st G => match st with
  | v :: r => match xunR v with
    | some o => if xok1 L k = true then some (none, L.set k (va_rf o), r, G) else none
    | none => none
  | _ => none
def x_inc (k : Nat) (n : Int32) : XP := fun L st G => match L[k]? with
  | some (.int x) => if xok1 L k = true then some (none, L.set k (.int (x + n)), st, G) else none
  | _ => none
theorem x_ist_sp {k : Nat} {L st : List Value} {G : XG} {j : Option Nat} {L' st' : List Value} {G' : XG} (h : x_ist k L st G = some (j, L', st', G')) : ∃ x, st = .int x :: st' ∧ xok1 L k = true ∧ j = none ∧ L' = L.set k (.int x) ∧ G' = G := by
  unfold x_ist at h
  split at h
  · next x r =>
    split at h
    · next hk => cases h; exact ⟨x, rfl, hk, rfl, rfl, rfl⟩
    · cases h
  · cases h
theorem x_lst_sp {k : Nat} {L st : List Value} {G : XG} {j : Option Nat} {L' st' : List Value} {G' : XG} (h : x_lst k L st G = some (j, L', st', G')) : ∃ x, st = .long x :: st' ∧ xok1 L k = true ∧ k + 1 < L.length ∧ j = none ∧ L' = (L.set k (.long x)).set (k + 1) xjk ∧ G' = G := by
  unfold x_lst at h
  split at h
  · next x r =>
    split at h
    · next hk => cases h; exact ⟨x, rfl, hk.1, hk.2, rfl, rfl, rfl⟩
    · cases h
  · cases h
theorem x_ast_sp {k : Nat} {L st : List Value} {G : XG} {j : Option Nat} {L' st' : List Value} {G' : XG} (h : x_ast k L st G = some (j, L', st', G')) : ∃ o, st = va_rf o :: st' ∧ xok1 L k = true ∧ j = none ∧ L' = L.set k (va_rf o) ∧ G' = G := by
  unfold x_ast at h
  split at h
  · next v r =>
    split at h
    · next o ho =>
      split at h
      · next hk => cases h; exact ⟨o, by rw [xunR_sp ho], hk, rfl, rfl, rfl⟩
      · cases h
    · cases h
  · cases h
theorem x_inc_sp {k : Nat} {n : Int32} {L st : List Value} {G : XG} {j : Option Nat} {L' st' : List Value} {G' : XG} (h : x_inc k n L st G = some (j, L', st', G')) : ∃ x, L[k]? = some (.int x) ∧ st' = st ∧ xok1 L k = true ∧ j = none ∧ L' = L.set k (.int (x + n)) ∧ G' = G := by
  unfold x_inc at h
  split at h
  · next x hx =>
    split at h
    · next hk => cases h; exact ⟨x, hx, rfl, hk, rfl, rfl, rfl⟩
    · cases h
  · cases h
theorem xok_istore_n {k : Fin 4} {i : Nat} (d : decode (xmc M) pc = .ok (.istore_n k, 1)) (hi : (k : Nat) = i) : XOkP M pc (pc + 1) (x_ist i) := by
  refine xok_lo fun L st G j L' st' G' hf => ?_
  obtain ⟨x, rfl, hk, rfl, rfl, rfl⟩ := x_ist_sp hf
  exact ⟨rfl, fun hC hL k => lv_istore_n hC.1 hC.2.1 d hi hL.2 (hL.1 ▸ (xok1_sp hk).1) rfl fun ls' h' => k ls' (XLo.of (by rw [List.length_set]; exact hL.1) h' (xsub1 hk))⟩
theorem xok_istore {i : Nat} (d : decode (xmc M) pc = .ok (.istore i, 2)) : XOkP M pc (pc + 2) (x_ist i) := by
  refine xok_lo fun L st G j L' st' G' hf => ?_
  obtain ⟨x, rfl, hk, rfl, rfl, rfl⟩ := x_ist_sp hf
  exact ⟨rfl, fun hC hL k => lv_istore hC.1 hC.2.1 d hL.2 (hL.1 ▸ (xok1_sp hk).1) rfl fun ls' h' => k ls' (XLo.of (by rw [List.length_set]; exact hL.1) h' (xsub1 hk))⟩
theorem xok_lstore_n {k : Fin 4} {i : Nat} (d : decode (xmc M) pc = .ok (.lstore_n k, 1)) (hi : (k : Nat) = i) : XOkP M pc (pc + 1) (x_lst i) := by
  refine xok_lo fun L st G j L' st' G' hf => ?_
  obtain ⟨x, rfl, hk, hk2, rfl, rfl, rfl⟩ := x_lst_sp hf
  exact ⟨rfl, fun hC hL k => lv_lstore_n hC.1 hC.2.1 d hi hL.2 (hL.1 ▸ hk2) rfl fun ls' h' => k ls' (XLo.of (by rw [List.length_set, List.length_set]; exact hL.1) h' (xsub2 hk hk2))⟩
theorem xok_astore_n {k : Fin 4} {i : Nat} (d : decode (xmc M) pc = .ok (.astore_n k, 1)) (hi : (k : Nat) = i) : XOkP M pc (pc + 1) (x_ast i) := by
  refine xok_lo fun L st G j L' st' G' hf => ?_
  obtain ⟨o, rfl, hk, rfl, rfl, rfl⟩ := x_ast_sp hf
  cases o with
  | none => exact ⟨rfl, fun hC hL k => lv_astore_nN hC.1 hC.2.1 d hi hL.2 (hL.1 ▸ (xok1_sp hk).1) rfl fun ls' h' => k ls' (XLo.of (by rw [List.length_set]; exact hL.1) h' (xsub1 hk))⟩
  | some a => exact ⟨rfl, fun hC hL k => lv_astore_n hC.1 hC.2.1 d hi hL.2 (hL.1 ▸ (xok1_sp hk).1) rfl fun ls' h' => k ls' (XLo.of (by rw [List.length_set]; exact hL.1) h' (xsub1 hk))⟩
theorem xok_astore {i : Nat} (d : decode (xmc M) pc = .ok (.astore i, 2)) : XOkP M pc (pc + 2) (x_ast i) := by
  refine xok_lo fun L st G j L' st' G' hf => ?_
  obtain ⟨o, rfl, hk, rfl, rfl, rfl⟩ := x_ast_sp hf
  cases o with
  | none => exact ⟨rfl, fun hC hL k => lv_astoreN hC.1 hC.2.1 d hL.2 (hL.1 ▸ (xok1_sp hk).1) rfl fun ls' h' => k ls' (XLo.of (by rw [List.length_set]; exact hL.1) h' (xsub1 hk))⟩
  | some a => exact ⟨rfl, fun hC hL k => lv_astore hC.1 hC.2.1 d hL.2 (hL.1 ▸ (xok1_sp hk).1) rfl fun ls' h' => k ls' (XLo.of (by rw [List.length_set]; exact hL.1) h' (xsub1 hk))⟩
theorem xok_iinc {i : Nat} {n : Int} {v : Int32} (d : decode (xmc M) pc = .ok (.iinc i n, 3)) (hv : Int32.ofInt n = v) : XOkP M pc (pc + 3) (x_inc i v) := by
  refine xok_lo fun L st G j L' st' G' hf => ?_
  obtain ⟨x, hx, rfl, hk, rfl, rfl, rfl⟩ := x_inc_sp hf
  refine ⟨rfl, fun hC hL k => ?_⟩
  have hm : (i, Value.int x) ∈ xla 0 L := xla_mem.mpr ⟨i, by omega, hx, xne_i⟩
  obtain ⟨z, hz⟩ := List.getElem?_of_mem hm
  exact lv_iinc hC.1 hC.2.1 d hL.2 hz (by rw [hv]) (hL.1 ▸ (xok1_sp hk).1) rfl fun ls' h' => k ls' (XLo.of (by rw [List.length_set]; exact hL.1) h' (xsub1 hk))
/-- a lookup switch's target -/
def xlsw (dflt : Nat) (ks : List (Int × Nat)) (x : Int) : Nat := match ks with
  | [] => dflt
  | k :: r => if x = k.1 then k.2 else xlsw dflt r x
def x_bin (f : Int32 → Int32 → Int32) : XP := fun L st G => match st with
  | .int y :: .int x :: r => some (none, L, .int (f x y) :: r, G)
  | _ => none
def x_div (f : Int32 → Int32 → Int32) : XP := fun L st G => match st with
  | .int y :: .int x :: r => if y = 0 then none else some (none, L, .int (f x y) :: r, G)
  | _ => none
def x_una (f : Int32 → Int32) : XP := fun L st G => match st with
  | .int x :: r => some (none, L, .int (f x) :: r, G)
  | _ => none
def x_lbi (f : Int64 → Int64 → Int64) : XP := fun L st G => match st with
  | .long y :: .long x :: r => some (none, L, .long (f x y) :: r, G)
  | _ => none
def x_lsh (f : Int64 → Int64 → Int64) : XP := fun L st G => match st with
  | .int y :: .long x :: r => some (none, L, .long (f x (y.toInt64 &&& 63)) :: r, G)
  | _ => none
def x_i2l : XP := fun L st G => match st with
  | .int x :: r => some (none, L, .long x.toInt64 :: r, G)
  | _ => none
def x_l2i : XP := fun L st G => match st with
  | .long x :: r => some (none, L, .int x.toInt32 :: r, G)
  | _ => none
theorem x_bin_sp {f : Int32 → Int32 → Int32} {L st : List Value} {G : XG} {j : Option Nat} {L' st' : List Value} {G' : XG} (h : x_bin f L st G = some (j, L', st', G')) : ∃ x y r, st = .int y :: .int x :: r ∧ st' = .int (f x y) :: r ∧ j = none ∧ L' = L ∧ G' = G := by
  unfold x_bin at h
  split at h
  · next y x r => cases h; exact ⟨x, y, r, rfl, rfl, rfl, rfl, rfl⟩
  · cases h
theorem x_div_sp {f : Int32 → Int32 → Int32} {L st : List Value} {G : XG} {j : Option Nat} {L' st' : List Value} {G' : XG} (h : x_div f L st G = some (j, L', st', G')) : ∃ x y r, ¬ y = 0 ∧ st = .int y :: .int x :: r ∧ st' = .int (f x y) :: r ∧ j = none ∧ L' = L ∧ G' = G := by
  unfold x_div at h
  split at h
  · next y x r =>
    split at h
    · cases h
    · next hy => cases h; exact ⟨x, y, r, hy, rfl, rfl, rfl, rfl, rfl⟩
  · cases h
theorem x_una_sp {f : Int32 → Int32} {L st : List Value} {G : XG} {j : Option Nat} {L' st' : List Value} {G' : XG} (h : x_una f L st G = some (j, L', st', G')) : ∃ x r, st = .int x :: r ∧ st' = .int (f x) :: r ∧ j = none ∧ L' = L ∧ G' = G := by
  unfold x_una at h
  split at h
  · next x r => cases h; exact ⟨x, r, rfl, rfl, rfl, rfl, rfl⟩
  · cases h
theorem x_lbi_sp {f : Int64 → Int64 → Int64} {L st : List Value} {G : XG} {j : Option Nat} {L' st' : List Value} {G' : XG} (h : x_lbi f L st G = some (j, L', st', G')) : ∃ x y r, st = .long y :: .long x :: r ∧ st' = .long (f x y) :: r ∧ j = none ∧ L' = L ∧ G' = G := by
  unfold x_lbi at h
  split at h
  · next y x r => cases h; exact ⟨x, y, r, rfl, rfl, rfl, rfl, rfl⟩
  · cases h
theorem x_lsh_sp {f : Int64 → Int64 → Int64} {L st : List Value} {G : XG} {j : Option Nat} {L' st' : List Value} {G' : XG} (h : x_lsh f L st G = some (j, L', st', G')) : ∃ x y r, st = .int y :: .long x :: r ∧ st' = .long (f x (y.toInt64 &&& 63)) :: r ∧ j = none ∧ L' = L ∧ G' = G := by
  unfold x_lsh at h
  split at h
  · next y x r => cases h; exact ⟨x, y, r, rfl, rfl, rfl, rfl, rfl⟩
  · cases h
theorem x_i2l_sp {L st : List Value} {G : XG} {j : Option Nat} {L' st' : List Value} {G' : XG} (h : x_i2l L st G = some (j, L', st', G')) : ∃ x r, st = .int x :: r ∧ st' = .long x.toInt64 :: r ∧ j = none ∧ L' = L ∧ G' = G := by
  unfold x_i2l at h
  split at h
  · next x r => cases h; exact ⟨x, r, rfl, rfl, rfl, rfl, rfl⟩
  · cases h
theorem x_l2i_sp {L st : List Value} {G : XG} {j : Option Nat} {L' st' : List Value} {G' : XG} (h : x_l2i L st G = some (j, L', st', G')) : ∃ x r, st = .long x :: r ∧ st' = .int x.toInt32 :: r ∧ j = none ∧ L' = L ∧ G' = G := by
  unfold x_l2i at h
  split at h
  · next x r => cases h; exact ⟨x, r, rfl, rfl, rfl, rfl, rfl⟩
  · cases h
theorem xok_iadd (d : decode (xmc M) pc = .ok (.iadd, 1)) : XOkP M pc (pc + 1) (x_bin (· + ·)) := by
  refine xok_st fun L st G j L' st' G' hf => ?_
  obtain ⟨x, y, r, rfl, rfl, rfl, rfl, rfl⟩ := x_bin_sp hf
  exact ⟨rfl, rfl, fun hC _ _ _ _ _ _ k => lv_iadd hC.1 hC.2.1 d k⟩
theorem xok_isub (d : decode (xmc M) pc = .ok (.isub, 1)) : XOkP M pc (pc + 1) (x_bin (· - ·)) := by
  refine xok_st fun L st G j L' st' G' hf => ?_
  obtain ⟨x, y, r, rfl, rfl, rfl, rfl, rfl⟩ := x_bin_sp hf
  exact ⟨rfl, rfl, fun hC _ _ _ _ _ _ k => lv_isub hC.1 hC.2.1 d k⟩
theorem xok_imul (d : decode (xmc M) pc = .ok (.imul, 1)) : XOkP M pc (pc + 1) (x_bin (· * ·)) := by
  refine xok_st fun L st G j L' st' G' hf => ?_
  obtain ⟨x, y, r, rfl, rfl, rfl, rfl, rfl⟩ := x_bin_sp hf
  exact ⟨rfl, rfl, fun hC _ _ _ _ _ _ k => lv_imul hC.1 hC.2.1 d k⟩
theorem xok_iand (d : decode (xmc M) pc = .ok (.iand, 1)) : XOkP M pc (pc + 1) (x_bin (· &&& ·)) := by
  refine xok_st fun L st G j L' st' G' hf => ?_
  obtain ⟨x, y, r, rfl, rfl, rfl, rfl, rfl⟩ := x_bin_sp hf
  exact ⟨rfl, rfl, fun hC _ _ _ _ _ _ k => lv_iand hC.1 hC.2.1 d k⟩
theorem xok_ior (d : decode (xmc M) pc = .ok (.ior, 1)) : XOkP M pc (pc + 1) (x_bin (· ||| ·)) := by
  refine xok_st fun L st G j L' st' G' hf => ?_
  obtain ⟨x, y, r, rfl, rfl, rfl, rfl, rfl⟩ := x_bin_sp hf
  exact ⟨rfl, rfl, fun hC _ _ _ _ _ _ k => lv_ior hC.1 hC.2.1 d k⟩
theorem xok_idiv (d : decode (xmc M) pc = .ok (.idiv, 1)) : XOkP M pc (pc + 1) (x_div (· / ·)) := by
  refine xok_st fun L st G j L' st' G' hf => ?_
  obtain ⟨x, y, r, h0, rfl, rfl, rfl, rfl, rfl⟩ := x_div_sp hf
  exact ⟨rfl, rfl, fun hC _ _ _ _ _ _ k => lv_idiv hC.1 hC.2.1 d h0 k⟩
theorem xok_irem (d : decode (xmc M) pc = .ok (.irem, 1)) : XOkP M pc (pc + 1) (x_div (fun x y => x - x / y * y)) := by
  refine xok_st fun L st G j L' st' G' hf => ?_
  obtain ⟨x, y, r, h0, rfl, rfl, rfl, rfl, rfl⟩ := x_div_sp hf
  exact ⟨rfl, rfl, fun hC _ _ _ _ _ _ k => lv_irem hC.1 hC.2.1 d h0 k⟩
theorem xok_ineg (d : decode (xmc M) pc = .ok (.ineg, 1)) : XOkP M pc (pc + 1) (x_una (fun x => -x)) := by
  refine xok_st fun L st G j L' st' G' hf => ?_
  obtain ⟨x, r, rfl, rfl, rfl, rfl, rfl⟩ := x_una_sp hf
  exact ⟨rfl, rfl, fun hC _ _ _ _ _ _ k => lv_ineg hC.1 hC.2.1 d k⟩
theorem xok_i2b (d : decode (xmc M) pc = .ok (.i2b, 1)) : XOkP M pc (pc + 1) (x_una (fun x => x.toInt8.toInt32)) := by
  refine xok_st fun L st G j L' st' G' hf => ?_
  obtain ⟨x, r, rfl, rfl, rfl, rfl, rfl⟩ := x_una_sp hf
  exact ⟨rfl, rfl, fun hC _ _ _ _ _ _ k => lv_i2b hC.1 hC.2.1 d rfl k⟩
theorem xok_i2l (d : decode (xmc M) pc = .ok (.i2l, 1)) : XOkP M pc (pc + 1) x_i2l := by
  refine xok_st fun L st G j L' st' G' hf => ?_
  obtain ⟨x, r, rfl, rfl, rfl, rfl, rfl⟩ := x_i2l_sp hf
  exact ⟨rfl, rfl, fun hC _ _ _ _ _ _ k => lv_i2l hC.1 hC.2.1 d rfl k⟩
theorem xok_l2i (d : decode (xmc M) pc = .ok (.l2i, 1)) : XOkP M pc (pc + 1) x_l2i := by
  refine xok_st fun L st G j L' st' G' hf => ?_
  obtain ⟨x, r, rfl, rfl, rfl, rfl, rfl⟩ := x_l2i_sp hf
  exact ⟨rfl, rfl, fun hC _ _ _ _ _ _ k => lv_l2i hC.1 hC.2.1 d rfl k⟩
theorem xok_ladd (d : decode (xmc M) pc = .ok (.ladd, 1)) : XOkP M pc (pc + 1) (x_lbi (· + ·)) := by
  refine xok_st fun L st G j L' st' G' hf => ?_
  obtain ⟨x, y, r, rfl, rfl, rfl, rfl, rfl⟩ := x_lbi_sp hf
  exact ⟨rfl, rfl, fun hC _ _ _ _ _ _ k => lv_ladd hC.1 hC.2.1 d k⟩
theorem xok_lsub (d : decode (xmc M) pc = .ok (.lsub, 1)) : XOkP M pc (pc + 1) (x_lbi (· - ·)) := by
  refine xok_st fun L st G j L' st' G' hf => ?_
  obtain ⟨x, y, r, rfl, rfl, rfl, rfl, rfl⟩ := x_lbi_sp hf
  exact ⟨rfl, rfl, fun hC _ _ _ _ _ _ k => lv_lsub hC.1 hC.2.1 d k⟩
theorem xok_lmul (d : decode (xmc M) pc = .ok (.lmul, 1)) : XOkP M pc (pc + 1) (x_lbi (· * ·)) := by
  refine xok_st fun L st G j L' st' G' hf => ?_
  obtain ⟨x, y, r, rfl, rfl, rfl, rfl, rfl⟩ := x_lbi_sp hf
  exact ⟨rfl, rfl, fun hC _ _ _ _ _ _ k => lv_lmul hC.1 hC.2.1 d k⟩
theorem xok_land (d : decode (xmc M) pc = .ok (.land, 1)) : XOkP M pc (pc + 1) (x_lbi (· &&& ·)) := by
  refine xok_st fun L st G j L' st' G' hf => ?_
  obtain ⟨x, y, r, rfl, rfl, rfl, rfl, rfl⟩ := x_lbi_sp hf
  exact ⟨rfl, rfl, fun hC _ _ _ _ _ _ k => lv_land hC.1 hC.2.1 d k⟩
theorem xok_lor (d : decode (xmc M) pc = .ok (.lor, 1)) : XOkP M pc (pc + 1) (x_lbi (· ||| ·)) := by
  refine xok_st fun L st G j L' st' G' hf => ?_
  obtain ⟨x, y, r, rfl, rfl, rfl, rfl, rfl⟩ := x_lbi_sp hf
  exact ⟨rfl, rfl, fun hC _ _ _ _ _ _ k => lv_lor hC.1 hC.2.1 d k⟩
theorem xok_lshl (d : decode (xmc M) pc = .ok (.lshl, 1)) : XOkP M pc (pc + 1) (x_lsh (· <<< ·)) := by
  refine xok_st fun L st G j L' st' G' hf => ?_
  obtain ⟨x, y, r, rfl, rfl, rfl, rfl, rfl⟩ := x_lsh_sp hf
  exact ⟨rfl, rfl, fun hC _ _ _ _ _ _ k => lv_lshl hC.1 hC.2.1 d rfl k⟩
theorem xok_lshr (d : decode (xmc M) pc = .ok (.lshr, 1)) : XOkP M pc (pc + 1) (x_lsh (· >>> ·)) := by
  refine xok_st fun L st G j L' st' G' hf => ?_
  obtain ⟨x, y, r, rfl, rfl, rfl, rfl, rfl⟩ := x_lsh_sp hf
  exact ⟨rfl, rfl, fun hC _ _ _ _ _ _ k => lv_lshr hC.1 hC.2.1 d rfl k⟩
def x_lcm : XP := fun L st G => match st with
  | .long y :: .long x :: r => some (none, L, .int (if x > y then 1 else if x = y then 0 else -1) :: r, G)
  | _ => none
def x_dup : XP := fun L st G => match st with
  | v :: r => if v.category = 1 then some (none, L, v :: v :: r, G) else none
  | _ => none
def x_du2 : XP := fun L st G => match st with
  | v :: w :: r => if v.category = 1 ∧ w.category = 1 then some (none, L, v :: w :: v :: w :: r, G) else none
  | _ => none
def x_dx1 : XP := fun L st G => match st with
  | v :: w :: r => if v.category = 1 ∧ w.category = 1 then some (none, L, v :: w :: v :: r, G) else none
  | _ => none
def x_pop : XP := fun L st G => match st with
  | v :: r => if v.category = 1 then some (none, L, r, G) else none
  | _ => none
theorem xok_dup (d : decode (xmc M) pc = .ok (.dup, 1)) : XOkP M pc (pc + 1) x_dup := by
  refine xok_st fun L st G j L' st' G' hf => ?_
  unfold x_dup at hf
  split at hf
  · next v r =>
    split at hf
    · next h1 => cases hf; exact ⟨rfl, rfl, fun hC _ _ _ _ _ _ k => lv_dup hC.1 hC.2.1 d h1 k⟩
    · cases hf
  · cases hf
theorem xok_dup2 (d : decode (xmc M) pc = .ok (.dup2, 1)) : XOkP M pc (pc + 1) x_du2 := by
  refine xok_st fun L st G j L' st' G' hf => ?_
  unfold x_du2 at hf
  split at hf
  · next v w r =>
    split at hf
    · next h1 => cases hf; exact ⟨rfl, rfl, fun hC _ _ _ _ _ _ k => lv_dup2_11 hC.1 hC.2.1 d h1.1 h1.2 k⟩
    · cases hf
  · cases hf
theorem xok_dup_x1 (d : decode (xmc M) pc = .ok (.dup_x1, 1)) : XOkP M pc (pc + 1) x_dx1 := by
  refine xok_st fun L st G j L' st' G' hf => ?_
  unfold x_dx1 at hf
  split at hf
  · next v w r =>
    split at hf
    · next h1 => cases hf; exact ⟨rfl, rfl, fun hC _ _ _ _ _ _ k => lv_dup_x1 hC.1 hC.2.1 d h1.1 h1.2 k⟩
    · cases hf
  · cases hf
theorem xok_pop (d : decode (xmc M) pc = .ok (.pop, 1)) : XOkP M pc (pc + 1) x_pop := by
  refine xok_st fun L st G j L' st' G' hf => ?_
  unfold x_pop at hf
  split at hf
  · next v r =>
    split at hf
    · next h1 => cases hf; exact ⟨rfl, rfl, fun hC _ _ _ _ _ _ k => lv_pop hC.1 hC.2.1 d h1 k⟩
    · cases hf
  · cases hf
/-! branches: 'if' tests a decidable thing of the ints -/
def x_if1 (c : Int32 → Bool) (t : Nat) : XP := fun L st G => match st with
  | .int x :: r => some (if c x = true then some t else none, L, r, G)
  | _ => none
def x_if2 (c : Int32 → Int32 → Bool) (t : Nat) : XP := fun L st G => match st with
  | .int y :: .int x :: r => some (if c x y = true then some t else none, L, r, G)
  | _ => none
def x_got (t : Nat) : XP := fun L st G => some (some t, L, st, G)
def x_ifn (t : Nat) : XP := fun L st G => match st with
  | v :: r => match xunR v with
    | some o => some (if o = none then some t else none, L, r, G)
    | none => none
  | _ => none
def x_inn (t : Nat) : XP := fun L st G => match st with
  | v :: r => match xunR v with
    | some o => some (if o = none then none else some t, L, r, G)
    | none => none
  | _ => none
def x_acm (b : Bool) (t : Nat) : XP := fun L st G => match st with
  | w :: v :: r => match xunR v, xunR w with
    | some o, some u => some (if (decide (o = u)) = b then some t else none, L, r, G)
    | _, _ => none
  | _ => none
/-- no instruction: on to the next block -/
def x_fal (t : Nat) : XP := fun L st G => some (some t, L, st, G)
theorem xok_fal : XOkP M pc npc (x_fal pc) := by
  refine xok_st fun L st G j L' st' G' hf => ?_
  cases hf
  exact ⟨rfl, rfl, fun _ _ _ _ _ _ _ k => k⟩
theorem x_if1_sp {c : Int32 → Bool} {t : Nat} {L st : List Value} {G : XG} {j : Option Nat} {L' st' : List Value} {G' : XG} (h : x_if1 c t L st G = some (j, L', st', G')) : ∃ x, st = .int x :: st' ∧ j = (if c x = true then some t else none) ∧ L' = L ∧ G' = G := by
  unfold x_if1 at h
  split at h
  · next x r => cases h; exact ⟨x, rfl, rfl, rfl, rfl⟩
  · cases h
theorem x_if2_sp {c : Int32 → Int32 → Bool} {t : Nat} {L st : List Value} {G : XG} {j : Option Nat} {L' st' : List Value} {G' : XG} (h : x_if2 c t L st G = some (j, L', st', G')) : ∃ x y, st = .int y :: .int x :: st' ∧ j = (if c x y = true then some t else none) ∧ L' = L ∧ G' = G := by
  unfold x_if2 at h
  split at h
  · next y x r => cases h; exact ⟨x, y, rfl, rfl, rfl, rfl⟩
  · cases h
theorem xok_ifeq {off : Int} {t : Nat} (d : decode (xmc M) pc = .ok (.ifCond .eq off, 3)) (ht : (pc : Int) + off = (t : Int)) : XOkP M pc (pc + 3) (x_if1 (fun x => decide (x = 0)) t) := by
  refine xok_st fun L st G j L' st' G' hf => ?_
  obtain ⟨x, rfl, rfl, rfl, rfl⟩ := x_if1_sp hf
  refine ⟨rfl, rfl, fun hC _ _ _ _ _ _ k => lv_if_eq hC.1 hC.2.1 d ht (fun h => ?_) (fun h => ?_)⟩
  · simpa [h] using k
  · simpa [h] using k
theorem xok_ifne {off : Int} {t : Nat} (d : decode (xmc M) pc = .ok (.ifCond .ne off, 3)) (ht : (pc : Int) + off = (t : Int)) : XOkP M pc (pc + 3) (x_if1 (fun x => decide (¬ x = 0)) t) := by
  refine xok_st fun L st G j L' st' G' hf => ?_
  obtain ⟨x, rfl, rfl, rfl, rfl⟩ := x_if1_sp hf
  refine ⟨rfl, rfl, fun hC _ _ _ _ _ _ k => lv_if_ne hC.1 hC.2.1 d ht (fun h => ?_) (fun h => ?_)⟩
  · simpa [h] using k
  · simpa [h] using k
theorem xok_iflt {off : Int} {t : Nat} (d : decode (xmc M) pc = .ok (.ifCond .lt off, 3)) (ht : (pc : Int) + off = (t : Int)) : XOkP M pc (pc + 3) (x_if1 (fun x => decide (x < 0)) t) := by
  refine xok_st fun L st G j L' st' G' hf => ?_
  obtain ⟨x, rfl, rfl, rfl, rfl⟩ := x_if1_sp hf
  refine ⟨rfl, rfl, fun hC _ _ _ _ _ _ k => lv_if_lt hC.1 hC.2.1 d ht (fun h => ?_) (fun h => ?_)⟩
  · rwa [if_pos (decide_eq_true h)] at k
  · rwa [if_neg (by simpa using h)] at k
theorem xok_ifge {off : Int} {t : Nat} (d : decode (xmc M) pc = .ok (.ifCond .ge off, 3)) (ht : (pc : Int) + off = (t : Int)) : XOkP M pc (pc + 3) (x_if1 (fun x => decide (0 ≤ x)) t) := by
  refine xok_st fun L st G j L' st' G' hf => ?_
  obtain ⟨x, rfl, rfl, rfl, rfl⟩ := x_if1_sp hf
  refine ⟨rfl, rfl, fun hC _ _ _ _ _ _ k => lv_if_ge hC.1 hC.2.1 d ht (fun h => ?_) (fun h => ?_)⟩
  · rwa [if_pos (decide_eq_true h)] at k
  · rwa [if_neg (by rw [decide_eq_true_eq]; exact h)] at k
theorem xok_ifgt {off : Int} {t : Nat} (d : decode (xmc M) pc = .ok (.ifCond .gt off, 3)) (ht : (pc : Int) + off = (t : Int)) : XOkP M pc (pc + 3) (x_if1 (fun x => decide (0 < x)) t) := by
  refine xok_st fun L st G j L' st' G' hf => ?_
  obtain ⟨x, rfl, rfl, rfl, rfl⟩ := x_if1_sp hf
  refine ⟨rfl, rfl, fun hC _ _ _ _ _ _ k => lv_if_gt hC.1 hC.2.1 d ht (fun h => ?_) (fun h => ?_)⟩
  · rwa [if_pos (decide_eq_true h)] at k
  · rwa [if_neg (by rw [decide_eq_true_eq]; exact h)] at k
theorem xok_ifle {off : Int} {t : Nat} (d : decode (xmc M) pc = .ok (.ifCond .le off, 3)) (ht : (pc : Int) + off = (t : Int)) : XOkP M pc (pc + 3) (x_if1 (fun x => decide (x ≤ 0)) t) := by
  refine xok_st fun L st G j L' st' G' hf => ?_
  obtain ⟨x, rfl, rfl, rfl, rfl⟩ := x_if1_sp hf
  refine ⟨rfl, rfl, fun hC _ _ _ _ _ _ k => lv_if_le hC.1 hC.2.1 d ht (fun h => ?_) (fun h => ?_)⟩
  · rwa [if_pos (decide_eq_true h)] at k
  · rwa [if_neg (by rw [decide_eq_true_eq]; exact h)] at k
theorem xok_icmpeq {off : Int} {t : Nat} (d : decode (xmc M) pc = .ok (.if_icmp .eq off, 3)) (ht : (pc : Int) + off = (t : Int)) : XOkP M pc (pc + 3) (x_if2 (fun x y => decide (x = y)) t) := by
  refine xok_st fun L st G j L' st' G' hf => ?_
  obtain ⟨x, y, rfl, rfl, rfl, rfl⟩ := x_if2_sp hf
  refine ⟨rfl, rfl, fun hC _ _ _ _ _ _ k => lv_icmp_eq hC.1 hC.2.1 d ht (fun h => ?_) (fun h => ?_)⟩
  · rwa [if_pos (decide_eq_true h)] at k
  · rwa [if_neg (by rw [decide_eq_true_eq]; exact h)] at k
theorem xok_icmpne {off : Int} {t : Nat} (d : decode (xmc M) pc = .ok (.if_icmp .ne off, 3)) (ht : (pc : Int) + off = (t : Int)) : XOkP M pc (pc + 3) (x_if2 (fun x y => decide (¬ x = y)) t) := by
  refine xok_st fun L st G j L' st' G' hf => ?_
  obtain ⟨x, y, rfl, rfl, rfl, rfl⟩ := x_if2_sp hf
  refine ⟨rfl, rfl, fun hC _ _ _ _ _ _ k => lv_icmp_ne hC.1 hC.2.1 d ht (fun h => ?_) (fun h => ?_)⟩
  · simpa [h] using k
  · simpa [h] using k
theorem xok_icmplt {off : Int} {t : Nat} (d : decode (xmc M) pc = .ok (.if_icmp .lt off, 3)) (ht : (pc : Int) + off = (t : Int)) : XOkP M pc (pc + 3) (x_if2 (fun x y => decide (x < y)) t) := by
  refine xok_st fun L st G j L' st' G' hf => ?_
  obtain ⟨x, y, rfl, rfl, rfl, rfl⟩ := x_if2_sp hf
  refine ⟨rfl, rfl, fun hC _ _ _ _ _ _ k => lv_icmp_lt hC.1 hC.2.1 d ht (fun h => ?_) (fun h => ?_)⟩
  · rwa [if_pos (decide_eq_true h)] at k
  · rwa [if_neg (by rw [decide_eq_true_eq]; exact h)] at k
theorem xok_icmpge {off : Int} {t : Nat} (d : decode (xmc M) pc = .ok (.if_icmp .ge off, 3)) (ht : (pc : Int) + off = (t : Int)) : XOkP M pc (pc + 3) (x_if2 (fun x y => decide (y ≤ x)) t) := by
  refine xok_st fun L st G j L' st' G' hf => ?_
  obtain ⟨x, y, rfl, rfl, rfl, rfl⟩ := x_if2_sp hf
  refine ⟨rfl, rfl, fun hC _ _ _ _ _ _ k => lv_icmp_ge hC.1 hC.2.1 d ht (fun h => ?_) (fun h => ?_)⟩
  · rwa [if_pos (decide_eq_true h)] at k
  · rwa [if_neg (by rw [decide_eq_true_eq]; exact h)] at k
theorem xok_icmpgt {off : Int} {t : Nat} (d : decode (xmc M) pc = .ok (.if_icmp .gt off, 3)) (ht : (pc : Int) + off = (t : Int)) : XOkP M pc (pc + 3) (x_if2 (fun x y => decide (y < x)) t) := by
  refine xok_st fun L st G j L' st' G' hf => ?_
  obtain ⟨x, y, rfl, rfl, rfl, rfl⟩ := x_if2_sp hf
  refine ⟨rfl, rfl, fun hC _ _ _ _ _ _ k => lv_icmp_gt hC.1 hC.2.1 d ht (fun h => ?_) (fun h => ?_)⟩
  · rwa [if_pos (decide_eq_true h)] at k
  · rwa [if_neg (by rw [decide_eq_true_eq]; exact h)] at k
theorem xok_icmple {off : Int} {t : Nat} (d : decode (xmc M) pc = .ok (.if_icmp .le off, 3)) (ht : (pc : Int) + off = (t : Int)) : XOkP M pc (pc + 3) (x_if2 (fun x y => decide (x ≤ y)) t) := by
  refine xok_st fun L st G j L' st' G' hf => ?_
  obtain ⟨x, y, rfl, rfl, rfl, rfl⟩ := x_if2_sp hf
  refine ⟨rfl, rfl, fun hC _ _ _ _ _ _ k => lv_icmp_le hC.1 hC.2.1 d ht (fun h => ?_) (fun h => ?_)⟩
  · rwa [if_pos (decide_eq_true h)] at k
  · rwa [if_neg (by rw [decide_eq_true_eq]; exact h)] at k
theorem xok_goto {off : Int} {t : Nat} (d : decode (xmc M) pc = .ok (.goto off, 3)) (ht : (pc : Int) + off = (t : Int)) : XOkP M pc npc (x_got t) := by
  refine xok_st fun L st G j L' st' G' hf => ?_
  cases hf
  exact ⟨rfl, rfl, fun hC _ _ _ _ _ _ k => lv_goto hC.1 hC.2.1 d ht k⟩
theorem xok_ifnull {off : Int} {t : Nat} (d : decode (xmc M) pc = .ok (.ifnull off, 3)) (ht : (pc : Int) + off = (t : Int)) : XOkP M pc (pc + 3) (x_ifn t) := by
  refine xok_st fun L st G j L' st' G' hf => ?_
  unfold x_ifn at hf
  split at hf
  · next v r =>
    split at hf
    · next o ho =>
      cases hf
      refine ⟨rfl, rfl, fun hC _ _ _ _ _ _ k => ?_⟩
      rw [xunR_sp ho]
      cases o with
      | none => exact lv_ifnullN hC.1 hC.2.1 d ht k
      | some a => exact lv_ifnull hC.1 hC.2.1 d k
    · cases hf
  · cases hf
theorem xok_ifnonnull {off : Int} {t : Nat} (d : decode (xmc M) pc = .ok (.ifnonnull off, 3)) (ht : (pc : Int) + off = (t : Int)) : XOkP M pc (pc + 3) (x_inn t) := by
  refine xok_st fun L st G j L' st' G' hf => ?_
  unfold x_inn at hf
  split at hf
  · next v r =>
    split at hf
    · next o ho =>
      cases hf
      refine ⟨rfl, rfl, fun hC _ _ _ _ _ _ k => ?_⟩
      rw [xunR_sp ho]
      cases o with
      | none => exact lv_ifnonnullN hC.1 hC.2.1 d k
      | some a => exact lv_ifnonnull hC.1 hC.2.1 d ht k
    · cases hf
  · cases hf
/-! switches -/
def x_tsw (lo : Int) (n dflt : Nat) (ts : List Nat) : XP := fun L st G => match st with
  | .int x :: r => if x.toInt < lo ∨ lo + n ≤ x.toInt then some (some dflt, L, r, G) else match ts[(x.toInt - lo).toNat]? with
    | some t => some (some t, L, r, G)
    | none => none
  | _ => none
def x_lsw (dflt : Nat) (ks : List (Int × Nat)) : XP := fun L st G => match st with
  | .int x :: r => some (some (xlsw dflt ks x.toInt), L, r, G)
  | _ => none
theorem xok_tsw {dflt lo hi : Int} {offs : Array Int} {len n t0 : Nat} {ts : List Nat} (d : decode (xmc M) pc = .ok (.tableswitch dflt lo hi offs, len)) (hn : lo + n = hi + 1) (h0 : (pc : Int) + dflt = (t0 : Int)) (hts : ts.map (fun t : Nat => (t : Int)) = offs.toList.map (fun o => (pc : Int) + o)) : XOkP M pc npc (x_tsw lo n t0 ts) := by
  refine xok_st fun L st G j L' st' G' hf => ?_
  unfold x_tsw at hf
  split at hf
  · next x r =>
    split at hf
    · next h1 =>
      cases hf
      exact ⟨rfl, rfl, fun hC _ _ _ _ _ _ k => lv_tableOut hC.1 hC.2.1 d (by omega) h0 k⟩
    · next h1 =>
      split at hf
      · next t ht =>
        cases hf
        have e : (ts.map (fun t : Nat => (t : Int)))[(x.toInt - lo).toNat]? = some (t : Int) := by rw [List.getElem?_map, ht]; rfl
        rw [hts, List.getElem?_map] at e
        cases ho : offs.toList[(x.toInt - lo).toNat]? with
        | none => rw [ho] at e; cases e
        | some o =>
          rw [ho] at e
          have e : (pc : Int) + o = (t : Int) := Option.some.inj e
          have ho : offs[(x.toInt - lo).toNat]? = some o := by rw [← Array.getElem?_toList]; exact ho
          exact ⟨rfl, rfl, fun hC _ _ _ _ _ _ k => lv_tableIn hC.1 hC.2.1 d (by omega) (by omega) ho e k⟩
      · cases hf
  · cases hf
theorem xlsw_of {pc : Nat} {dflt : Int} {t0 : Nat} (h0 : (pc : Int) + dflt = (t0 : Int)) {x : Int} : ∀ (ks : List (Int × Nat)) (ps : List (Int × Int)), ks.map (fun k => (k.1, (k.2 : Int))) = ps.map (fun o => (o.1, (pc : Int) + o.2)) → (pc : Int) + Op.lookupswitch.offset ps dflt x = (xlsw t0 ks x : Int)
  | [], [], _ => by simpa [Op.lookupswitch.offset, xlsw] using h0
  | [], _ :: _, h => by simp at h
  | _ :: _, [], h => by simp at h
  | k :: ks, o :: ps, h => by
    simp only [List.map_cons, List.cons.injEq, Prod.mk.injEq] at h
    obtain ⟨⟨h1, h2⟩, h3⟩ := h
    obtain ⟨o1, o2⟩ := o
    obtain ⟨k1, k2⟩ := k
    simp only at h1 h2
    subst h1
    unfold xlsw
    by_cases hx : x = k1
    · subst hx
      simp [Op.lookupswitch.offset, h2]
    · have := xlsw_of h0 (x := x) ks ps h3
      simp only [Op.lookupswitch.offset, hx, if_false, Ne.symm hx, ite_false]
      first | exact this | simpa [Op.lookupswitch.offset, hx, Ne.symm hx] using this
theorem xok_lsw {dflt : Int} {ps : Array (Int × Int)} {len t0 : Nat} {ks : List (Int × Nat)} (d : decode (xmc M) pc = .ok (.lookupswitch dflt ps, len)) (hp : (ps.toList.zip (ps.toList.drop 1)).all (fun (a, next) => a.1 < next.1) = true) (h0 : (pc : Int) + dflt = (t0 : Int)) (hts : ks.map (fun k => (k.1, (k.2 : Int))) = ps.toList.map (fun o => (o.1, (pc : Int) + o.2))) : XOkP M pc npc (x_lsw t0 ks) := by
  refine xok_st fun L st G j L' st' G' hf => ?_
  unfold x_lsw at hf
  split at hf
  · next x r =>
    cases hf
    exact ⟨rfl, rfl, fun hC _ _ _ _ _ _ k => lv_lookup hC.1 hC.2.1 d hp rfl (xlsw_of h0 ks ps.toList hts) k⟩
  · cases hf
/-! the heap -/
theorem xob_uniq {c : Nat} {r r' : vw_C} (h : (c, r) ∈ xclL) (h' : (c, r') ∈ xclL) : r = r' := by
  have key : ∀ (l : List (Nat × vw_C)), (l.map (·.1)).Nodup → (c, r) ∈ l → (c, r') ∈ l → r = r' := by
    intro l
    induction l with
    | nil => intro _ h; cases h
    | cons a l ih =>
      intro hn h1 h2
      simp only [List.map_cons, List.nodup_cons] at hn
      rcases List.mem_cons.mp h1 with e1 | e1 <;> rcases List.mem_cons.mp h2 with e2 | e2
      · rw [← e1] at e2; exact (Prod.mk.inj e2).2.symm
      · exact absurd (List.mem_map.mpr ⟨_, e2, by rw [← e1]⟩) hn.1
      · exact absurd (List.mem_map.mpr ⟨_, e1, by rw [← e2]⟩) hn.1
      · exact ih hn.2 e1 e2
  exact key xclL xcl_nd h h'
/-- the class numbered c - 1 has the field g -/
def xhas (g c : Nat) : Bool := decide (0 < c) && (decide (c < 100) && (xlk xgdL [] (c - 1)).contains g)
/-- an object's cell, and its field g -/
theorem xobj {D : va_G} {base : Nat} {SV : Nat → Value} {s : State} {G : XG} {H : Heap} {a g : Nat} {args : Array Value} (hts : ∀ w ∈ lw_all, w.before args s = true) (hT : XTF D SV s) (hR : XRel D base SV s G H) (hg : xhas g (Gkd G a) = true) :
    ∃ (cell : Cell) (cf : ClassId) (kf : Class) (fi : Nat) (f : Field) (r : vw_C) (k : Nat) (kC : Class), (Gkd G a - 1, r) ∈ xclL ∧ k < r.2.2 ∧ xgid (Gkd G a - 1) k = g ∧ base ≤ a ∧ H[a]? = some cell ∧ cell.vm = .none ∧ cell.cls = D.1 (Gkd G a - 1) ∧
      s.fieldFound? (xgF g).1 (xgF g).2.1 (xgF g).2.2 = some (cf, kf, fi, f) ∧ f.isStatic = false ∧ f.slot = D.2 (Gkd G a - 1) k ∧ cell.slots[f.slot]? = some (xfv G g a) ∧ s.vm.findClass r.1 = some cell.cls ∧ s.vm.classes[cell.cls]? = some kC ∧ kC.kind = .ordinary ∧
      (∀ j, j < r.2.2 → cell.slots[D.2 (Gkd G a - 1) j]? = some (xfv G (xgid (Gkd G a - 1) j) a)) := by
  simp only [xhas, Bool.and_eq_true, decide_eq_true_eq, List.contains_iff_mem] at hg
  obtain ⟨h0, h1, h2⟩ := hg
  obtain ⟨hlt, hc⟩ := hR.2.2.2.1 a (by omega)
  unfold xcell at hc
  rw [if_pos h1] at hc
  obtain ⟨r, hr, ⟨cell, q1, q2, q3, q4⟩, hb⟩ := hc
  obtain ⟨hS, hfc, kC, hkC, hkind⟩ := hT.1 _ hr
  obtain ⟨k, hk, hkg⟩ : ∃ k, k < r.2.2 ∧ xgid (Gkd G a - 1) k = g := by
    obtain ⟨k, hk⟩ := List.getElem?_of_mem h2
    refine ⟨k, ?_, ?_⟩
    · rw [← xcl_len _ hr]; exact (List.getElem?_eq_some_iff.mp hk).1
    · unfold xgid; rw [List.getD_eq_getElem?_getD, hk]; rfl
  obtain ⟨cf, kf, fi, f, hi, hsl⟩ := hS k hk
  have hg1 := (xcl_g _ hr k hk).1
  simp only at hg1 hi
  rw [hkg] at hg1
  rw [hg1] at hi
  have hst := (u_facts hfc hkC (u_lays hts (xcl_in _ hr) hk) (by rw [hg1]; exact hi)).1
  refine ⟨cell, cf, kf, fi, f, r, k, kC, hr, hk, hkg, hb, q1, q3, q2, hi, hst, hsl, ?_, by rw [q2]; exact hfc, by rw [q2]; exact hkC, hkind, q4⟩
  rw [hsl, q4 k hk]
  show some (xfv G (xgid (Gkd G a - 1) k) a) = _
  rw [hkg]
theorem xcell.kept {D : va_G} {base : Nat} {s : State} {G G' : XG} {H H1 : Heap} {a : Nat} (h : xcell D base s G H a) (hH : H1[a]? = H[a]?) (hbl : ∀ q : Nat, q < H.size → ¬ base ≤ q → H1[q]? = H[q]?)
    (h1 : Gkd G' a = Gkd G a) (h2 : Gln G' a = Gln G a) (h3 : ∀ g, Gfi G' g a = Gfi G g a) (h4 : ∀ g, Gfr G' g a = Gfr G g a) (h5 : Gai G' a = Gai G a) (h6 : Gal G' a = Gal G a) (h7 : Gar G' a = Gar G a) : xcell D base s G' H1 a := by
  unfold xcell at h ⊢
  rw [h1, h2]
  split
  · next hk =>
    rw [if_pos hk] at h
    obtain ⟨r, q1, q2, q3⟩ := h
    refine ⟨r, q1, ?_, q3⟩
    have e : (fun k => xfv G' (xgid (Gkd G a - 1) k) a) = fun k => xfv G (xgid (Gkd G a - 1) k) a := by
      funext k
      unfold xfv
      rw [h3, h4]
    rw [e]
    exact q2.kept hH
  · next hk =>
    rw [if_neg hk] at h
    split
    · next hk2 =>
      rw [if_pos hk2] at h
      obtain ⟨cA, q1, q2⟩ := h
      refine ⟨cA, ?_, q2⟩
      have e : xav (Gkd G a % 100) G' a = xav (Gkd G a % 100) G a := by
        funext j
        unfold xav
        rw [h5, h6, h7]
      rw [hH, e]
      exact q1
    · next hk2 =>
      rw [if_neg hk2] at h
      obtain ⟨q1, q2, v, q3, q4⟩ := h
      exact ⟨q1.kept hbl, q2.kept hbl, v, q3.kept hbl, q4.kept hbl⟩
/-- one cell is changed -/
theorem XRel.upd {D : va_G} {base : Nat} {SV : Nat → Value} {s : State} {G G' : XG} {H H1 : Heap} {a : Nat} (hR : XRel D base SV s G H) (hz : H1.size = H.size) (ho : ∀ q : Nat, q ≠ a → H1[q]? = H[q]?) (hb : base ≤ a)
    (h1 : Gkd G' = Gkd G) (h2 : Gln G' = Gln G) (h3 : ∀ g q, q ≠ a → Gfi G' g q = Gfi G g q) (h4 : ∀ g q, q ≠ a → Gfr G' g q = Gfr G g q) (h5 : ∀ q, q ≠ a → Gai G' q = Gai G q) (h6 : ∀ q, q ≠ a → Gal G' q = Gal G q) (h7 : ∀ q, q ≠ a → Gar G' q = Gar G q)
    (h8 : Gtp G' = Gtp G) (h9 : Gsv G' = Gsv G) (hc : xcell D base s G' H1 a) : XRel D base SV s G' H1 := by
  have hbl : ∀ q : Nat, q < H.size → ¬ base ≤ q → H1[q]? = H[q]? := fun q _ hq => ho q (fun e => hq (e ▸ hb))
  refine ⟨by rw [hz, h8]; exact hR.1, by rw [hz]; exact hR.2.1, by rw [h9]; exact hR.2.2.1, fun q hq => ?_, fun q hq => va_Z.kept (hR.2.2.2.2 q hq) hbl⟩
  rw [h1] at hq
  obtain ⟨k1, k2⟩ := hR.2.2.2.1 q hq
  refine ⟨by rw [h8]; exact k1, ?_⟩
  by_cases e : q = a
  · rw [e]; exact hc
  · exact k2.kept (ho q e) hbl (by rw [h1]) (by rw [h2]) (fun g => h3 g q e) (fun g => h4 g q e) (h5 q e) (h6 q e) (h7 q e)
def x_gei (g : Nat) (cs : List Nat) : XP := fun L st G => match st with
  | .ref a :: r => if Gkd G a ∈ cs then some (none, L, .int (Gfi G g a) :: r, G) else none
  | _ => none
def x_ger (g : Nat) (cs : List Nat) : XP := fun L st G => match st with
  | .ref a :: r => if Gkd G a ∈ cs then some (none, L, va_rf (Gfr G g a) :: r, G) else none
  | _ => none
theorem xall {g : Nat} {cs : List Nat} (h : cs.all (xhas g) = true) {c : Nat} (hc : c ∈ cs) : xhas g c = true := List.all_eq_true.mp h c hc
theorem xgei_sp {g : Nat} {cs : List Nat} {L st : List Value} {G : XG} {j : Option Nat} {L' st' : List Value} {G' : XG} (h : x_gei g cs L st G = some (j, L', st', G')) : ∃ a r, st = .ref a :: r ∧ Gkd G a ∈ cs ∧ st' = .int (Gfi G g a) :: r ∧ j = none ∧ L' = L ∧ G' = G := by
  unfold x_gei at h
  split at h
  · next a r =>
    split at h
    · next hc => cases h; exact ⟨a, r, rfl, hc, rfl, rfl, rfl, rfl⟩
    · cases h
  · cases h
theorem xger_sp {g : Nat} {cs : List Nat} {L st : List Value} {G : XG} {j : Option Nat} {L' st' : List Value} {G' : XG} (h : x_ger g cs L st G = some (j, L', st', G')) : ∃ a r, st = .ref a :: r ∧ Gkd G a ∈ cs ∧ st' = va_rf (Gfr G g a) :: r ∧ j = none ∧ L' = L ∧ G' = G := by
  unfold x_ger at h
  split at h
  · next a r =>
    split at h
    · next hc => cases h; exact ⟨a, r, rfl, hc, rfl, rfl, rfl, rfl⟩
    · cases h
  · cases h
/-- how the instruction names the field: by its declarer's name or by an heir's; a class's own, or a nest mate's -/
def xlkF (M : XM) (ix g : Nat) (ref : String) : Prop := Cond.fieldLink (xmy M).cls ix ref (xgF g).2.1 (xgF g).2.2 ∈ lw_all ∧ (ref = (xgF g).1 ∨ Cond.sameField ref (xgF g).1 (xgF g).2.1 (xgF g).2.2 ∈ lw_all)
def xlkN (M : XM) (ix g : Nat) (ref : String) : Prop := (∃ host, ((xmy M).cls, ix, ref, (xgF g).2.1, (xgF g).2.2, host) ∈ xnF) ∧ (ref = (xgF g).1 ∨ Cond.sameField ref (xgF g).1 (xgF g).2.1 (xgF g).2.2 ∈ lw_all)
theorem xsame {ref O n d : String} {s : State} {args : Array Value} (hts : ∀ w ∈ lw_all, w.before args s = true) (h : ref = O ∨ Cond.sameField ref O n d ∈ lw_all) {x : ClassId × Class × Nat × Field} (hx : s.fieldFound? O n d = some x) : s.fieldFound? ref n d = some x := by
  rcases h with h | h
  · rw [h]; exact hx
  · exact u_same (hts _ h) x hx
theorem xok_getfield {f : XP} {ix g : Nat} {cs : List Nat} {ref : String} (hf : f = x_gei g cs ∧ g < 1000 ∨ f = x_ger g cs ∧ 1000 ≤ g) (d : decode (xmc M) pc = .ok (.getfield ix, 3)) (hl : xlkF M ix g ref ∨ xlkN M ix g ref) (hcs : cs.all (xhas g) = true) : XOkP M pc (pc + 3) f := by
  refine xok_st fun L st G j L' st' G' h => ?_
  obtain ⟨a, r, rfl, hc, hst, rfl, rfl, rfl⟩ : ∃ a r, st = .ref a :: r ∧ Gkd G a ∈ cs ∧ st' = xfv G g a :: r ∧ j = none ∧ L' = L ∧ G' = G := by
    rcases hf with ⟨rfl, hg⟩ | ⟨rfl, hg⟩
    · obtain ⟨a, r, h1, h2, h3, h4⟩ := xgei_sp h
      exact ⟨a, r, h1, h2, by rw [h3]; unfold xfv; rw [if_neg (by omega)], h4⟩
    · obtain ⟨a, r, h1, h2, h3, h4⟩ := xger_sp h
      exact ⟨a, r, h1, h2, by rw [h3]; unfold xfv; rw [if_pos hg], h4⟩
  subst hst
  refine ⟨rfl, rfl, fun hC hT hR _ _ _ _ k => ?_⟩
  obtain ⟨cell, cf, kf, fi, fd, rr, kk, kC, h1, h2, h3, h4, h5, h6, h7, h8, h9, h10, h11, -⟩ := xobj hC.2.2.2.2.1 hT hR (xall hcs hc)
  rcases hl with ⟨hl, hs⟩ | ⟨⟨host, hl⟩, hs⟩
  · exact W.getf hC.1 hC.2.1 hC.2.2.2.1 (hC.2.2.2.2.1 _ hl) (xsame hC.2.2.2.2.1 hs h8) h9 h5 (by rw [h6]; exact fun h => by cases h) h11 rfl rfl d k
  · exact va_Wgetf hC.1 hC.2.1 hC.2.2.2.1 (va_Nw.use rfl (hT.2.1 _ hl)) (xsame hC.2.2.2.2.1 hs h8) h9 h5 (by rw [h6]; exact fun h => by cases h) h11 rfl rfl d k
/-! putfield: ints (sort 0), truth values (sort 1), references (sort 2) -/
def x_pui (g : Nat) (cs : List Nat) : XP := fun L st G => match st with
  | .int v :: .ref a :: r => if Gkd G a ∈ cs then some (none, L, r, Sfi G g a v) else none
  | _ => none
def x_puz (g : Nat) (cs : List Nat) : XP := fun L st G => match st with
  | .int v :: .ref a :: r => if Gkd G a ∈ cs ∧ (v = 0 ∨ v = 1) then some (none, L, r, Sfi G g a v) else none
  | _ => none
def x_pur (g : Nat) (cs : List Nat) : XP := fun L st G => match st with
  | v :: .ref a :: r => match xunR v with
    | some o => if Gkd G a ∈ cs then some (none, L, r, Sfr G g a o) else none
    | none => none
  | _ => none
theorem xSfi_fv {G : XG} {g a : Nat} {v : Int32} (hg : g < 1000) (g' : Nat) : xfv (Sfi G g a v) g' a = if g' = g then .int v else xfv G g' a := by
  unfold xfv Sfi Gfi Gfr xu2
  by_cases e : g' = g
  · subst e
    rw [if_neg (by omega), if_pos rfl]
    simp
  · rw [if_neg e]
    simp [e]
theorem xSfr_fv {G : XG} {g a : Nat} {o : Option Nat} (hg : 1000 ≤ g) (g' : Nat) : xfv (Sfr G g a o) g' a = if g' = g then va_rf o else xfv G g' a := by
  unfold xfv Sfr Gfi Gfr xu2
  by_cases e : g' = g
  · subst e
    rw [if_pos hg, if_pos rfl]
    simp
  · rw [if_neg e]
    simp [e]
/-- the put's law, whatever was put -/
theorem xput {ix g : Nat} {ref : String} {G G' : XG} {a : Nat} {v : Value} (hgt : narrow (xgT g) v = v) (hfits : fits (xgT g) v = true) (hfv : ∀ g', xfv G' g' a = if g' = g then v else xfv G g' a)
    (h1 : Gkd G' = Gkd G) (h2 : Gln G' = Gln G) (h3 : ∀ g q, q ≠ a → Gfi G' g q = Gfi G g q) (h4 : ∀ g q, q ≠ a → Gfr G' g q = Gfr G g q) (h5 : Gai G' = Gai G) (h6 : Gal G' = Gal G) (h7 : Gar G' = Gar G) (h8 : Gtp G' = Gtp G) (h9 : Gsv G' = Gsv G)
    (d : decode (xmc M) pc = .ok (.putfield ix, 3)) (hl : xlkF M ix g ref ∨ xlkN M ix g ref) (hfin : xgN g = false ∨ ((xmy M).name = "<init>" ∧ (xgF g).1 = (xmy M).cls ∧ xlkF M ix g ref)) (hhas : xhas g (Gkd G a) = true)
    {D : va_G} {base : Nat} {SV : Nat → Value} {p : Program} {l : Launch} {e : Env} {R : Room} {s : State} {m : MethodId} {args : Array Value} {below : List Frame} {meth : Method} {c : Code} {H : Heap} {locs : List Loc} {cells slots : Nat} {Q : State → Prop} {ls : Array Slot} {r : List Value}
    (hC : XCx p s m args meth c M) (hT : XTF D SV s) (hR : XRel D base SV s G H) (hS0 : va_S (fun x => base ≤ x) s.heap H locs)
    (k : ∀ (H' : Heap) (locs' : List Loc), XRel D base SV s G' H' → va_S (fun x => base ≤ x) s.heap H' locs' → W p l e R s m args below meth c H' locs' cells slots Q (F0 m (pc + 3) ls r)) :
    W p l e R s m args below meth c H locs cells slots Q (F0 m pc ls (v :: .ref a :: r)) := by
  have hts := hC.2.2.2.2.1
  obtain ⟨cell, cf, kf, fi, fd, rr, kk, kC, q1, q2, q3, q4, q5, q6, q7, q8, q9, q10, q11, q12, q13, q14, q15⟩ := xobj hts hT hR hhas
  have hg1 := (xcl_g _ q1 kk q2)
  simp only [q3] at hg1
  have hty : fd.type = xgT g := (State.fieldFound?_type q8 (by have := hg1.2; rw [hg1.1] at this; exact this)).2
  have hlays := u_lays hts (xcl_in _ q1) q2
  simp only at hlays
  have hSd : k2_Sd s fd cell.cls v ∨ (m.cls = cf ∧ meth.name = "<init>" ∧ narrow fd.type v = v ∧ s.fitsSlot cell.cls .none fd.slot v = true ∧ xlkF M ix g ref) := by
    by_cases hN : xgN g = false
    · left
      have hlay := hts _ (xcl_in _ q1 _ (u_in_lay q2))
      unfold u_lay at hlay
      simp only at hlay
      rw [hg1.1] at hlay
      simp only at hlay
      rw [if_neg (by rw [hN]; decide)] at hlay
      exact u_store q12 q13 q14 hlay q8 (by have := hg1.2; rw [hg1.1] at this; exact this) hgt hfits
    · right
      rcases hfin with hfin | ⟨hf1, hf2, hf3⟩
      · exact absurd hfin hN
      have hlay := hts _ (xcl_in _ q1 _ (u_in_lay q2))
      unfold u_lay at hlay
      simp only at hlay
      rw [hg1.1] at hlay
      simp only at hlay
      rw [if_pos (by simpa using hN)] at hlay
      have hcf : m.cls = cf := by
        obtain ⟨_, _, c', _, _, _, -, -, hf', -, -, -, hown2, -⟩ := Cond.laysFinal_spec hlay
        have e1 : c' = cf := by have := q8.symm.trans hf'; simp at this; exact this.1.symm
        rw [hf2, hC.2.2.2.1] at hown2
        rw [← e1]
        exact Option.some.inj hown2
      have hlays' : (Cond.lays rr.1 (xgF g).1 (xgF g).2.1 (xgF g).2.2).before args s = true ∨ (Cond.laysFinal rr.1 (xgF g).1 (xgF g).2.1 (xgF g).2.2).before args s = true := by rw [hg1.1] at hlays; exact hlays
      have hff := u_fits q12 q13 q14 hlays' q8 (by have := hg1.2; rw [hg1.1] at this; exact this) hgt hfits
      exact ⟨hcf, hC.2.2.2.2.2.2.2.1.trans hf1, hff.1, hff.2, hf3⟩
  have hlt : fd.slot < cell.slots.size := (Array.getElem?_eq_some_iff.mp q11).1
  have hap : ∀ x y, x < rr.2.2 → y < rr.2.2 → x ≠ y → D.2 (Gkd G a - 1) x ≠ D.2 (Gkd G a - 1) y := by
    intro x y hx hy hne
    obtain ⟨hS, -⟩ := hT.1 _ q1
    obtain ⟨_, _, _, fa, hia, ea⟩ := hS x hx
    obtain ⟨_, _, _, fb, hib, eb⟩ := hS y hy
    rw [← ea, ← eb]
    refine u_apart (u_lays hts (xcl_in _ q1) hx) (u_lays hts (xcl_in _ q1) hy) hia hib ?_
    rw [(State.fieldFound?_type hia (xcl_g _ q1 x hx).2).1, (State.fieldFound?_type hib (xcl_g _ q1 y hy).2).1]
    exact xcl_nm _ q1 x hx y hy hne
  have fin : ∀ H' : Heap, H'[a]? = some (cell.setSlot fd.slot v) → H'.size = H.size → (∀ q, q ≠ a → H'[q]? = H[q]?) → XRel D base SV s G' H' := by
    intro H' e1 e2 e3
    refine hR.upd e2 e3 q4 h1 h2 h3 h4 (fun q _ => by rw [h5]) (fun q _ => by rw [h6]) (fun q _ => by rw [h7]) h8 h9 ?_
    unfold xcell
    rw [h1]
    have hh := hhas
    simp only [xhas, Bool.and_eq_true, decide_eq_true_eq] at hh
    rw [if_pos hh.2.1]
    refine ⟨rr, q1, ⟨_, e1, q7, q6, fun j hj => ?_⟩, q4⟩
    rw [q10]
    have ht := t_set (V := fun k => xfv G (xgid (Gkd G a - 1) k) a) (cell := cell) q15 hap q2 v j hj
    rw [ht]
    simp only [updV]
    rw [hfv]
    by_cases e : j = kk
    · rw [if_pos e, if_pos (by rw [e]; exact q3)]
    · rw [if_neg e, if_neg]
      intro hgj
      have w1 := (xcl_g _ q1 j hj).1
      simp only [hgj] at w1
      have w2 := hg1.1
      exact xcl_nm _ q1 j hj kk q2 e (by rw [w1, w2])
  rcases hSd with hSd | ⟨z1, z2, z3, z4, z5⟩
  · rcases hl with ⟨hl, hs⟩ | ⟨⟨host, hl⟩, hs⟩
    · exact W.putK hC.1 hC.2.1 (f := fd) ⟨hC.2.2.2.1, hts _ hl, ⟨_, _, _, xsame hts hs q8⟩, q9⟩ hSd q5 q6 hlt rfl rfl d fun H' e1 e2 e3 => k H' _ (fin H' e1 e2 e3) (hS0.put e2 e3 q4)
    · exact va_WputK hC.1 hC.2.1 hC.2.2.2.1 (va_Nw.use rfl (hT.2.1 _ hl)) (xsame hts hs q8) q9 hSd q5 q6 hlt rfl rfl d fun H' e1 e2 e3 => k H' _ (fin H' e1 e2 e3) (hS0.put e2 e3 q4)
  · obtain ⟨hl, hs⟩ := z5
    have ha : a < H.size := (Array.getElem?_eq_some_iff.mp q5).1
    refine W.putf hC.1 hC.2.1 hC.2.2.2.1 (hts _ hl) (xsame hts hs q8) q9 (Or.inr ⟨z1, z2⟩) q5 (by rw [q6]; exact fun h => by cases h) hlt z3 (by rw [q6]; exact z4) rfl rfl d ?_
    have e1 : (H.setIfInBounds a (cell.setSlot fd.slot v))[a]? = some (cell.setSlot fd.slot v) := by simp [ha]
    have e2 : (H.setIfInBounds a (cell.setSlot fd.slot v)).size = H.size := by simp
    have e3 : ∀ q, q ≠ a → (H.setIfInBounds a (cell.setSlot fd.slot v))[q]? = H[q]? := fun q hq => by rw [Array.getElem?_setIfInBounds_ne (fun e => hq e.symm)]
    exact k _ _ (fin _ e1 e2 e3) (hS0.put e2 e3 q4)
theorem xok_putfield {f : XP} {ix g : Nat} {cs : List Nat} {ref : String} (hf : (f = x_pui g cs ∧ g < 1000 ∧ xgT g = .int) ∨ (f = x_puz g cs ∧ g < 1000 ∧ xgT g = .boolean) ∨ (f = x_pur g cs ∧ 1000 ≤ g ∧ (xgT g).isReference = true)) (d : decode (xmc M) pc = .ok (.putfield ix, 3)) (hl : xlkF M ix g ref ∨ xlkN M ix g ref)
    (hfin : xgN g = false ∨ ((xmy M).name = "<init>" ∧ (xgF g).1 = (xmy M).cls ∧ xlkF M ix g ref)) (hcs : cs.all (xhas g) = true) : XOkP M pc (pc + 3) f := by
  intro L st G j L' st' G' h
  rcases hf with ⟨rfl, hg, hty⟩ | ⟨rfl, hg, hty⟩ | ⟨rfl, hg, hty⟩
  · unfold x_pui at h
    split at h
    · next v a r =>
      split at h
      · next hc =>
        cases h
        refine ⟨⟨Nat.le_refl _, Nat.le_refl _, rfl⟩, fun hC hT hR hL hS _ _ _ _ _ k => ?_⟩
        refine xput (G' := Sfi G g a v) (by rw [hty]; rfl) (by rw [hty]; rfl) (xSfi_fv hg) rfl rfl (fun g' q hq => ?_) (fun _ _ _ => rfl) rfl rfl rfl rfl rfl d hl hfin (xall hcs hc) hC hT hR hS fun H' locs' hR' hS' => ?_
        · show xu2 _ _ _ _ _ _ = _
          unfold xu2
          rw [if_neg (fun e => hq e.2)]
        · have k2 := k H' locs' _ hR' hL hS'
          have e1 : Gtp (Sfi G g a v) = Gtp G := rfl
          have e2 : Gus (Sfi G g a v) = Gus G := rfl
          rw [e1, e2, Nat.sub_self, Nat.sub_self, Nat.add_zero, Nat.add_zero] at k2
          exact k2
      · cases h
    · cases h
  · unfold x_puz at h
    split at h
    · next v a r =>
      split at h
      · next hc =>
        cases h
        refine ⟨⟨Nat.le_refl _, Nat.le_refl _, rfl⟩, fun hC hT hR hL hS _ _ _ _ _ k => ?_⟩
        refine xput (G' := Sfi G g a v) (by rw [hty]; rcases hc.2 with e | e <;> rw [e] <;> rfl) (by rw [hty]; rcases hc.2 with e | e <;> rw [e] <;> rfl) (xSfi_fv hg) rfl rfl (fun g' q hq => ?_) (fun _ _ _ => rfl) rfl rfl rfl rfl rfl d hl hfin (xall hcs hc.1) hC hT hR hS fun H' locs' hR' hS' => ?_
        · show xu2 _ _ _ _ _ _ = _
          unfold xu2
          rw [if_neg (fun e => hq e.2)]
        · have k2 := k H' locs' _ hR' hL hS'
          have e1 : Gtp (Sfi G g a v) = Gtp G := rfl
          have e2 : Gus (Sfi G g a v) = Gus G := rfl
          rw [e1, e2, Nat.sub_self, Nat.sub_self, Nat.add_zero, Nat.add_zero] at k2
          exact k2
      · cases h
    · cases h
  · unfold x_pur at h
    split at h
    · next v a r =>
      split at h
      · next o ho =>
        split at h
        · next hc =>
          cases h
          refine ⟨⟨Nat.le_refl _, Nat.le_refl _, rfl⟩, fun hC hT hR hL hS _ _ _ _ _ k => ?_⟩
          rw [xunR_sp ho]
          have hn : narrow (xgT g) (va_rf o) = va_rf o := by
            cases o <;> cases hx : xgT g <;> rw [hx] at hty <;> first | rfl | cases hty
          have hfi : fits (xgT g) (va_rf o) = true := by
            cases o <;> cases hx : xgT g <;> rw [hx] at hty <;> first | rfl | cases hty
          refine xput (G' := Sfr G g a o) hn hfi (xSfr_fv hg) rfl rfl (fun _ _ _ => rfl) (fun g' q hq => ?_) rfl rfl rfl rfl rfl d hl hfin (xall hcs hc) hC hT hR hS fun H' locs' hR' hS' => ?_
          · show xu2 _ _ _ _ _ _ = _
            unfold xu2
            rw [if_neg (fun e => hq e.2)]
          · have k2 := k H' locs' _ hR' hL hS'
            have e1 : Gtp (Sfr G g a o) = Gtp G := rfl
            have e2 : Gus (Sfr G g a o) = Gus G := rfl
            rw [e1, e2, Nat.sub_self, Nat.sub_self, Nat.add_zero, Nat.add_zero] at k2
            exact k2
        · cases h
      · cases h
    · cases h
/-! arrays: the sort t (0 int, 1 byte, 2 truth values, 3 long, from 4 on references); 100 + t one that is written, 200 + t one that is only read -/
def xin (i : Int32) (n : Nat) : Prop := ¬ i < 0 ∧ i.toNatClampNeg < n
def xisA (t k : Nat) : Prop := k = 100 + t ∨ k = 200 + t
theorem xarr {D : va_G} {base : Nat} {SV : Nat → Value} {s : State} {G : XG} {H : Heap} {a t : Nat} (hR : XRel D base SV s G H) (ht : t < 100) (h : xisA t (Gkd G a)) : ∃ cA : ClassId, H[a]? = some (arrV cA (Gln G a) (xav t G a)) ∧ ArrOfT s cA (xaty t) ∧ va_RA s cA (xaty t) ∧ (Gkd G a = 100 + t → base ≤ a) := by
  obtain ⟨-, hc⟩ := hR.2.2.2.1 a (by rcases h with h | h <;> omega)
  unfold xcell at hc
  rw [if_neg (by rcases h with h | h <;> omega), if_pos (by rcases h with h | h <;> omega)] at hc
  have e : Gkd G a % 100 = t := by rcases h with h | h <;> omega
  rw [e] at hc
  obtain ⟨cA, q1, q2, q3, q4⟩ := hc
  exact ⟨cA, q1, q2, q3, fun hk => q4 (by omega)⟩

def xinb (i : Int32) (n : Nat) : Bool := decide (¬ i < 0) && decide (i.toNatClampNeg < n)
def xisB (t k : Nat) : Bool := decide (k = 100 + t) || decide (k = 200 + t)
theorem xinb_sp {i : Int32} {n : Nat} (h : xinb i n = true) : ¬ i < 0 ∧ i.toNatClampNeg < n := by simpa [xinb] using h
theorem xisB_sp {t k : Nat} (h : xisB t k = true) : xisA t k := by simpa [xisB, xisA] using h
def x_lda (t : Nat) : XP := fun L st G => match st with
  | .int i :: .ref a :: r => if xisB t (Gkd G a) = true ∧ xinb i (Gln G a) = true then some (none, L, xav t G a i.toNatClampNeg :: r, G) else none
  | _ => none
def x_len : XP := fun L st G => match st with
  | .ref a :: r => if 100 ≤ Gkd G a ∧ Gkd G a < 300 then some (none, L, .int (nI (Gln G a)) :: r, G) else none
  | _ => none
theorem xlda_sp {t : Nat} {L st : List Value} {G : XG} {j : Option Nat} {L' st' : List Value} {G' : XG} (h : x_lda t L st G = some (j, L', st', G')) : ∃ i a r, st = .int i :: .ref a :: r ∧ xisA t (Gkd G a) ∧ (¬ i < 0 ∧ i.toNatClampNeg < Gln G a) ∧ st' = xav t G a i.toNatClampNeg :: r ∧ j = none ∧ L' = L ∧ G' = G := by
  unfold x_lda at h
  split at h
  · next i a r =>
    split at h
    · next hc => cases h; exact ⟨i, a, r, rfl, xisB_sp hc.1, xinb_sp hc.2, rfl, rfl, rfl, rfl⟩
    · cases h
  · cases h
theorem xok_iaload (d : decode (xmc M) pc = .ok (.iaload, 1)) : XOkP M pc (pc + 1) (x_lda 0) := by
  refine xok_st fun L st G j L' st' G' h => ?_
  obtain ⟨i, a, r, rfl, hk, hi, rfl, rfl, rfl, rfl⟩ := xlda_sp h
  refine ⟨rfl, rfl, fun hC hT hR _ _ _ _ k => ?_⟩
  obtain ⟨cA, q1, q2, -⟩ := xarr hR (by decide) hk
  exact W.iald hC.1 hC.2.1 q1 (q2 _ _) (fun h => by cases h) (by rw [arrV_size]; intro h; rcases h with h | h; exact hi.1 h; omega) (arrV_read _ _ hi.2) rfl rfl d k
theorem xok_baload (d : decode (xmc M) pc = .ok (.baload, 1)) : XOkP M pc (pc + 1) (x_lda 1) := by
  refine xok_st fun L st G j L' st' G' h => ?_
  obtain ⟨i, a, r, rfl, hk, hi, rfl, rfl, rfl, rfl⟩ := xlda_sp h
  refine ⟨rfl, rfl, fun hC hT hR _ _ _ _ k => ?_⟩
  obtain ⟨cA, q1, q2, -⟩ := xarr hR (by decide) hk
  exact W.bald hC.1 hC.2.1 q1 (q2 _ _) (fun h => by cases h) (by rw [arrV_size]; intro h; rcases h with h | h; exact hi.1 h; omega) (arrV_read _ _ hi.2) rfl rfl d k
theorem xok_zaload (d : decode (xmc M) pc = .ok (.baload, 1)) : XOkP M pc (pc + 1) (x_lda 2) := by
  refine xok_st fun L st G j L' st' G' h => ?_
  obtain ⟨i, a, r, rfl, hk, hi, rfl, rfl, rfl, rfl⟩ := xlda_sp h
  refine ⟨rfl, rfl, fun hC hT hR _ _ _ _ k => ?_⟩
  obtain ⟨cA, q1, q2, -⟩ := xarr hR (by decide) hk
  exact W.zald hC.1 hC.2.1 q1 (q2 _ _) (fun h => by cases h) (by rw [arrV_size]; intro h; rcases h with h | h; exact hi.1 h; omega) (arrV_read _ _ hi.2) rfl rfl d k
theorem xok_laload (d : decode (xmc M) pc = .ok (.laload, 1)) : XOkP M pc (pc + 1) (x_lda 3) := by
  refine xok_st fun L st G j L' st' G' h => ?_
  obtain ⟨i, a, r, rfl, hk, hi, rfl, rfl, rfl, rfl⟩ := xlda_sp h
  refine ⟨rfl, rfl, fun hC hT hR _ _ _ _ k => ?_⟩
  obtain ⟨cA, q1, q2, -⟩ := xarr hR (by decide) hk
  exact W.lald hC.1 hC.2.1 q1 (q2 _ _) (fun h => by cases h) (by rw [arrV_size]; intro h; rcases h with h | h; exact hi.1 h; omega) (arrV_read _ _ hi.2) rfl rfl d k
theorem xok_aaload {t : Nat} (ht : t < 100) (hty : (xaty t).isReference = true) (d : decode (xmc M) pc = .ok (.aaload, 1)) : XOkP M pc (pc + 1) (x_lda t) := by
  refine xok_st fun L st G j L' st' G' h => ?_
  obtain ⟨i, a, r, rfl, hk, hi, rfl, rfl, rfl, rfl⟩ := xlda_sp h
  refine ⟨rfl, rfl, fun hC hT hR _ _ _ _ k => ?_⟩
  obtain ⟨cA, q1, q2, -⟩ := xarr hR ht hk
  exact W.aald hC.1 hC.2.1 q1 (q2 _ _) hty (fun h => by cases h) (by rw [arrV_size]; intro h; rcases h with h | h; exact hi.1 h; omega) (arrV_read _ _ hi.2) rfl rfl d k
theorem xok_len (d : decode (xmc M) pc = .ok (.arraylength, 1)) : XOkP M pc (pc + 1) x_len := by
  refine xok_st fun L st G j L' st' G' h => ?_
  unfold x_len at h
  split at h
  · next a r =>
    split at h
    · next hk =>
      cases h
      refine ⟨rfl, rfl, fun hC hT hR _ _ _ _ k => ?_⟩
      obtain ⟨cA, q1, q2, -⟩ := xarr (a := a) (t := Gkd G a % 100) hR (by omega) (by unfold xisA; omega)
      exact W.alen hC.1 hC.2.1 q1 (q2 _ _) (by rw [arrV_size]; rfl) rfl rfl d k
    · cases h
  · cases h
/-! stores -/
def x_ias : XP := fun L st G => match st with
  | .int x :: .int i :: .ref a :: r => if Gkd G a = 100 ∧ xinb i (Gln G a) = true then some (none, L, r, Sai G a i.toNatClampNeg x) else none
  | _ => none
def x_bas : XP := fun L st G => match st with
  | .int x :: .int i :: .ref a :: r => if Gkd G a = 101 ∧ xinb i (Gln G a) = true then some (none, L, r, Sai G a i.toNatClampNeg x.toInt8.toInt32) else none
  | _ => none
def x_zas : XP := fun L st G => match st with
  | .int x :: .int i :: .ref a :: r => if Gkd G a = 102 ∧ xinb i (Gln G a) = true ∧ (x = 0 ∨ x = 1) then some (none, L, r, Sai G a i.toNatClampNeg x) else none
  | _ => none
def x_las : XP := fun L st G => match st with
  | .long x :: .int i :: .ref a :: r => if Gkd G a = 103 ∧ xinb i (Gln G a) = true then some (none, L, r, Sal G a i.toNatClampNeg x) else none
  | _ => none
def xrfk (G : XG) (cs : List Nat) (o : Option Nat) : Bool := match o with
  | none => true
  | some b => decide (Gkd G b ∈ cs)
def x_aas (t : Nat) (cs : List Nat) : XP := fun L st G => match st with
  | v :: .int i :: .ref a :: r => match xunR v with
    | some o => if Gkd G a = 100 + t ∧ xinb i (Gln G a) = true ∧ xrfk G cs o = true then some (none, L, r, Sar G a i.toNatClampNeg o) else none
    | none => none
  | _ => none
theorem xu2_ne {α : Type} {f : Nat → Nat → α} {a b q : Nat} {v : α} (h : q ≠ a) : xu2 f a b v q = f q := by
  funext y
  unfold xu2
  rw [if_neg (fun e => h e.1)]
/-- the store's law -/
theorem xsto {t : Nat} {G G' : XG} {a i : Nat} {v : Value} {cA : ClassId} {H H' : Heap} {D : va_G} {base : Nat} {SV : Nat → Value} {s : State} (hR : XRel D base SV s G H) (ht : t < 100) (hk : Gkd G a = 100 + t)
    (q1 : H[a]? = some (arrV cA (Gln G a) (xav t G a))) (q2 : ArrOfT s cA (xaty t)) (q3 : va_RA s cA (xaty t)) (q4 : base ≤ a)
    (h0 : xav t G' a = updV (xav t G a) i v) (h1 : Gkd G' = Gkd G) (h2 : Gln G' = Gln G) (h3 : Gfi G' = Gfi G) (h4 : Gfr G' = Gfr G) (h5 : ∀ q, q ≠ a → Gai G' q = Gai G q) (h6 : ∀ q, q ≠ a → Gal G' q = Gal G q) (h7 : ∀ q, q ≠ a → Gar G' q = Gar G q) (h8 : Gtp G' = Gtp G) (h9 : Gsv G' = Gsv G)
    (e1 : H'[a]? = some ((arrV cA (Gln G a) (xav t G a)).setSlot i v)) (e2 : H'.size = H.size) (e3 : ∀ q, q ≠ a → H'[q]? = H[q]?) : XRel D base SV s G' H' := by
  refine hR.upd e2 e3 q4 h1 h2 (fun g q _ => by rw [h3]) (fun g q _ => by rw [h4]) h5 h6 h7 h8 h9 ?_
  unfold xcell
  rw [h1, h2, if_neg (by omega), if_pos (by omega)]
  have e : Gkd G a % 100 = t := by omega
  rw [e]
  exact ⟨cA, by rw [e1, arrV_store, h0], q2, q3, fun _ => q4⟩
theorem xsub0 (a : Nat) : a - a = 0 := Nat.sub_self a
theorem xok_iastore (d : decode (xmc M) pc = .ok (.iastore, 1)) : XOkP M pc (pc + 1) x_ias := by
  intro L st G j L' st' G' h
  unfold x_ias at h
  split at h
  · next x i a r =>
    split at h
    · next hc =>
      cases h
      have hi := xinb_sp hc.2
      refine ⟨⟨Nat.le_refl _, Nat.le_refl _, rfl⟩, fun hC hT hR hL hS _ _ _ _ _ k => ?_⟩
      obtain ⟨cA, q1, q2, q3, q4⟩ := xarr (t := 0) hR (by decide) (Or.inl hc.1)
      refine W.iast hC.1 hC.2.1 q1 (q2 _ _) (fun h => by cases h) (by rw [arrV_size]; intro h; rcases h with h | h; exact hi.1 h; omega) rfl rfl d fun H' e1 e2 e3 => ?_
      have k2 := k H' _ _ (xsto hR (by decide) hc.1 q1 q2 q3 (q4 hc.1) (G' := Sai G a i.toNatClampNeg x) (by funext j; simp only [xav, Sai, Gai, updV, xu2]; by_cases e : j = i.toNatClampNeg <;> simp [e]) rfl rfl rfl rfl (fun q hq => xu2_ne hq) (fun _ _ => rfl) (fun _ _ => rfl) rfl rfl e1 e2 e3) hL (hS.put (k := i.toNatClampNeg) e2 e3 (q4 hc.1))
      have e4 : Gtp (Sai G a i.toNatClampNeg x) = Gtp G := rfl
      have e5 : Gus (Sai G a i.toNatClampNeg x) = Gus G := rfl
      rw [e4, e5, Nat.sub_self, Nat.sub_self, Nat.add_zero, Nat.add_zero] at k2
      exact k2
    · cases h
  · cases h
theorem xok_bastore (d : decode (xmc M) pc = .ok (.bastore, 1)) : XOkP M pc (pc + 1) x_bas := by
  intro L st G j L' st' G' h
  unfold x_bas at h
  split at h
  · next x i a r =>
    split at h
    · next hc =>
      cases h
      have hi := xinb_sp hc.2
      refine ⟨⟨Nat.le_refl _, Nat.le_refl _, rfl⟩, fun hC hT hR hL hS _ _ _ _ _ k => ?_⟩
      obtain ⟨cA, q1, q2, q3, q4⟩ := xarr (t := 1) hR (by decide) (Or.inl hc.1)
      refine W.bast hC.1 hC.2.1 q1 (q2 _ _) (fun h => by cases h) (by rw [arrV_size]; intro h; rcases h with h | h; exact hi.1 h; omega) rfl rfl d fun H' e1 e2 e3 => ?_
      have k2 := k H' _ _ (xsto hR (by decide) hc.1 q1 q2 q3 (q4 hc.1) (G' := Sai G a i.toNatClampNeg x.toInt8.toInt32) (v := .int x.toInt8.toInt32) (i := i.toNatClampNeg) (by funext j; simp only [xav, Sai, Gai, updV, xu2]; by_cases e : j = i.toNatClampNeg <;> simp [e]) rfl rfl rfl rfl (fun q hq => xu2_ne hq) (fun _ _ => rfl) (fun _ _ => rfl) rfl rfl (by rw [e1, narrow_byte]) e2 e3) hL (hS.put (k := i.toNatClampNeg) e2 e3 (q4 hc.1))
      have e4 : Gtp (Sai G a i.toNatClampNeg x.toInt8.toInt32) = Gtp G := rfl
      have e5 : Gus (Sai G a i.toNatClampNeg x.toInt8.toInt32) = Gus G := rfl
      rw [e4, e5, Nat.sub_self, Nat.sub_self, Nat.add_zero, Nat.add_zero] at k2
      exact k2
    · cases h
  · cases h
theorem xok_zastore (d : decode (xmc M) pc = .ok (.bastore, 1)) : XOkP M pc (pc + 1) x_zas := by
  intro L st G j L' st' G' h
  unfold x_zas at h
  split at h
  · next x i a r =>
    split at h
    · next hc =>
      cases h
      have hi := xinb_sp hc.2.1
      refine ⟨⟨Nat.le_refl _, Nat.le_refl _, rfl⟩, fun hC hT hR hL hS _ _ _ _ _ k => ?_⟩
      obtain ⟨cA, q1, q2, q3, q4⟩ := xarr (t := 2) hR (by decide) (Or.inl hc.1)
      have hnz : narrow .boolean (.int x) = .int x := by rcases hc.2.2 with e | e <;> rw [e] <;> rfl
      refine W.zast hC.1 hC.2.1 q1 (q2 _ _) (fun h => by cases h) (by rw [arrV_size]; intro h; rcases h with h | h; exact hi.1 h; omega) rfl rfl d fun H' e1 e2 e3 => ?_
      have k2 := k H' _ _ (xsto hR (by decide) hc.1 q1 q2 q3 (q4 hc.1) (G' := Sai G a i.toNatClampNeg x) (v := .int x) (i := i.toNatClampNeg) (by funext j; simp only [xav, Sai, Gai, updV, xu2]; by_cases e : j = i.toNatClampNeg <;> simp [e]) rfl rfl rfl rfl (fun q hq => xu2_ne hq) (fun _ _ => rfl) (fun _ _ => rfl) rfl rfl (by rw [e1, hnz]) e2 e3) hL (hS.put (k := i.toNatClampNeg) e2 e3 (q4 hc.1))
      have e4 : Gtp (Sai G a i.toNatClampNeg x) = Gtp G := rfl
      have e5 : Gus (Sai G a i.toNatClampNeg x) = Gus G := rfl
      rw [e4, e5, Nat.sub_self, Nat.sub_self, Nat.add_zero, Nat.add_zero] at k2
      exact k2
    · cases h
  · cases h
theorem xok_lastore (d : decode (xmc M) pc = .ok (.lastore, 1)) : XOkP M pc (pc + 1) x_las := by
  intro L st G j L' st' G' h
  unfold x_las at h
  split at h
  · next x i a r =>
    split at h
    · next hc =>
      cases h
      have hi := xinb_sp hc.2
      refine ⟨⟨Nat.le_refl _, Nat.le_refl _, rfl⟩, fun hC hT hR hL hS _ _ _ _ _ k => ?_⟩
      obtain ⟨cA, q1, q2, q3, q4⟩ := xarr (t := 3) hR (by decide) (Or.inl hc.1)
      refine W.last hC.1 hC.2.1 q1 (q2 _ _) (fun h => by cases h) (by rw [arrV_size]; intro h; rcases h with h | h; exact hi.1 h; omega) rfl rfl d fun H' e1 e2 e3 => ?_
      have k2 := k H' _ _ (xsto hR (by decide) hc.1 q1 q2 q3 (q4 hc.1) (G' := Sal G a i.toNatClampNeg x) (by funext j; simp only [xav, Sal, Gal, updV, xu2]; by_cases e : j = i.toNatClampNeg <;> simp [e]) rfl rfl rfl rfl (fun _ _ => rfl) (fun q hq => xu2_ne hq) (fun _ _ => rfl) rfl rfl e1 e2 e3) hL (hS.put (k := i.toNatClampNeg) e2 e3 (q4 hc.1))
      have e4 : Gtp (Sal G a i.toNatClampNeg x) = Gtp G := rfl
      have e5 : Gus (Sal G a i.toNatClampNeg x) = Gus G := rfl
      rw [e4, e5, Nat.sub_self, Nat.sub_self, Nat.add_zero, Nat.add_zero] at k2
      exact k2
    · cases h
  · cases h
/-- which kinds fit an array of objects of the class E: E itself, or castable to it -/
def xfit (E : String) (c : Nat) : Prop := 0 < c ∧ c < 100 ∧ ∀ r, (c - 1, r) ∈ xclL → r.1 = E ∨ (r.1, E) ∈ xnC
theorem xok_aastore {t : Nat} {E : String} {cs : List Nat} (ht4 : 4 ≤ t) (ht : t < 100) (hE : xaty t = .object E) (hcs : ∀ c ∈ cs, xfit E c) (d : decode (xmc M) pc = .ok (.aastore, 1)) : XOkP M pc (pc + 1) (x_aas t cs) := by
  intro L st G j L' st' G' h
  unfold x_aas at h
  split at h
  · next v i a r =>
    split at h
    · next o ho =>
      split at h
      · next hc =>
        cases h
        have hi := xinb_sp hc.2.1
        refine ⟨⟨Nat.le_refl _, Nat.le_refl _, rfl⟩, fun {D base SV p l e R s m args below meth c0 H locs cells slots Q ls} hC hT hR hL hS _ _ _ _ _ k => ?_⟩
        obtain ⟨cA, q1, q2, q3, q4⟩ := xarr hR ht (Or.inl hc.1)
        have h0 : xav t (Sar G a i.toNatClampNeg o) a = updV (xav t G a) i.toNatClampNeg (va_rf o) := by
          funext j
          have n3 : ¬ t < 3 := by omega
          have n4 : ¬ t = 3 := by omega
          simp only [xav, Sar, Gar, updV, xu2, n3, n4, if_false]
          by_cases e : j = i.toNatClampNeg
          · simp [e]
          · simp [e]
        have fin : ∀ H' : Heap, H'[a]? = some ((arrV cA (Gln G a) (xav t G a)).setSlot i.toNatClampNeg (va_rf o)) → _ := fun H' e1 e2 e3 => k H' _ _ (xsto hR ht hc.1 q1 q2 q3 (q4 hc.1) (G' := Sar G a i.toNatClampNeg o) h0 rfl rfl rfl rfl (fun _ _ => rfl) (fun _ _ => rfl) (fun q hq => xu2_ne hq) rfl rfl e1 e2 e3) hL (hS.put (k := i.toNatClampNeg) e2 e3 (q4 hc.1))
        have e4 : Gtp (Sar G a i.toNatClampNeg o) = Gtp G := rfl
        have e5 : Gus (Sar G a i.toNatClampNeg o) = Gus G := rfl
        rw [e4, e5] at fin
        simp only [Nat.sub_self, Nat.add_zero] at fin
        rw [xunR_sp ho]
        cases o with
        | none =>
          exact va_WaastN (C := E) hC.1 hC.2.1 q1 (by rw [← hE]; exact q2 _ _) (fun h => by cases h) (by rw [arrV_size]; intro h; rcases h with h | h; exact hi.1 h; omega) rfl rfl d fin
        | some b =>
          have hb := hc.2.2
          simp only [xrfk, decide_eq_true_eq] at hb
          obtain ⟨f1, f2, f3⟩ := hcs _ hb
          obtain ⟨-, hcb⟩ := hR.2.2.2.1 b (by omega)
          unfold xcell at hcb
          rw [if_pos f2] at hcb
          obtain ⟨rr, hr, ⟨cell, g1, g2, g3, g4⟩, -⟩ := hcb
          obtain ⟨-, hfc, kC, hkC, hkind⟩ := hT.1 _ hr
          simp only at hfc hkC
          have q3 := q3
          rw [hE] at q3
          obtain ⟨kA, comp, w1, w2, w3, -⟩ := q3
          have hasg : s.vm.assignable (D.1 (Gkd G b - 1)) comp = true ∧ ∃ kc, s.vm.classes[comp]? = some kc := by
            rcases f3 rr hr with e | e
            · rw [e] at hfc
              cases hfc.symm.trans w3
              exact ⟨va_assign ⟨w3, kC, hkC, hkind⟩, kC, hkC⟩
            · obtain ⟨c0, t0, y1, y2, y3⟩ := Cond.castable_spec (va_Nw.use (A := args) rfl (hT.2.2.2.1 _ e))
              cases hfc.symm.trans y1
              cases w3.symm.trans y2
              refine ⟨y3, ?_⟩
              obtain ⟨k9, h9, -⟩ := Vm.findClass_spec w3
              exact ⟨k9, h9⟩
          obtain ⟨hasg, kc, hkc⟩ := hasg
          exact W.aast hC.1 hC.2.1 q1 (fun q h => by cases h) (fun h => by cases h) w1 w2 rfl hkc ⟨hi.1, by rw [arrV_size]; exact hi.2⟩ g1 (fun q h => by rw [g3] at h; cases h) (by rw [g2]; exact hkC) (by rw [g2]; exact hasg) rfl rfl d fin
      · cases h
    · cases h
  · cases h
/-! new cells -/
def x_new (c n : Nat) : XP := fun L st G => some (none, L, .ref (Gtp G) :: st, Sno G c n)
def x_nwa (t : Nat) : XP := fun L st G => match st with
  | .int n :: r => if ¬ n < 0 ∧ n.toNatClampNeg ≤ 60000000 then some (none, L, .ref (Gtp G) :: r, Sna G t n.toNatClampNeg) else none
  | _ => none
theorem va_S.grow {A : Nat → Prop} {H0 H H1 : Heap} {locs : List Loc} (h : va_S A H0 H locs) (z : H.size ≤ H1.size) (o : ∀ q : Nat, q < H.size → H1[q]? = H[q]?) : va_S A H0 H1 locs :=
  ⟨Nat.le_trans h.1 z, fun q h1 h2 => (o q (Nat.lt_of_lt_of_le h1 h.1)).trans (h.2.1 q h1 h2), h.2.2⟩
/-- a cell is made -/
theorem XRel.new {D : va_G} {base : Nat} {SV : Nat → Value} {s : State} {G G' : XG} {H H1 : Heap} (hR : XRel D base SV s G H) (hz : H1.size = H.size + 1) (ho : ∀ q : Nat, q < H.size → H1[q]? = H[q]?)
    (h1 : ∀ q, q ≠ Gtp G → Gkd G' q = Gkd G q) (h2 : ∀ q, q ≠ Gtp G → Gln G' q = Gln G q) (h3 : ∀ g q, q ≠ Gtp G → Gfi G' g q = Gfi G g q) (h4 : ∀ g q, q ≠ Gtp G → Gfr G' g q = Gfr G g q) (h5 : ∀ q, q ≠ Gtp G → Gai G' q = Gai G q) (h6 : ∀ q, q ≠ Gtp G → Gal G' q = Gal G q) (h7 : ∀ q, q ≠ Gtp G → Gar G' q = Gar G q)
    (h8 : Gtp G' = Gtp G + 1) (h9 : Gsv G' = Gsv G) (hc : xcell D base s G' H1 (Gtp G)) : XRel D base SV s G' H1 := by
  have hbl : ∀ q : Nat, q < H.size → ¬ base ≤ q → H1[q]? = H[q]? := fun q h _ => ho q h
  refine ⟨by rw [hz, h8, hR.1], by rw [hz]; exact Nat.le_succ_of_le hR.2.1, by rw [h9]; exact hR.2.2.1, fun q hq => ?_, fun q hq => va_Z.kept (hR.2.2.2.2 q hq) hbl⟩
  by_cases e : q = Gtp G
  · rw [e]; exact ⟨by rw [h8]; exact Nat.lt_succ_self _, hc⟩
  · rw [h1 q e] at hq
    obtain ⟨k1, k2⟩ := hR.2.2.2.1 q hq
    exact ⟨by rw [h8]; exact Nat.lt_succ_of_lt k1, k2.kept (ho q (by rw [hR.1]; exact k1)) hbl (h1 q e) (h2 q e) (fun g => h3 g q e) (fun g => h4 g q e) (h5 q e) (h6 q e) (h7 q e)⟩
theorem xcl_ne {α : Type} {f : Nat → Nat → α} {a g q : Nat} {v : α} (h : q ≠ a) : xcl f a v g q = f g q := if_neg h
theorem xu1_ne {α : Type} {f : Nat → α} {a q : Nat} {v : α} (h : q ≠ a) : xu1 f a v q = f q := if_neg h
theorem xrw_ne {α : Type} {f : Nat → Nat → α} {a q : Nat} {r : Nat → α} (h : q ≠ a) : xrw f a r q = f q := by
  funext y
  exact if_neg h
theorem xok_new {ix c n : Nat} {r : vw_C} (hr : (c, r) ∈ xclL) (hn : r.2.2 = n) (hc9 : c < 99) (d : decode (xmc M) pc = .ok (.new ix, 3)) (q1 : Cond.classLink (xmy M).cls ix r.1 ∈ lw_all) (q2 : Cond.instantiable r.1 n ∈ lw_all) (q3 : Cond.initialized r.1 ∈ lw_all) : XOkP M pc (pc + 3) (x_new c n) := by
  intro L st G j L' st' G' h
  cases h
  have e1 : Gtp (Sno G c n) = Gtp G + 1 := rfl
  have e2 : Gus (Sno G c n) = Gus G + n := rfl
  refine ⟨⟨by rw [e1]; exact Nat.le_succ _, by rw [e2]; exact Nat.le_add_right _ _, rfl⟩, fun {D base SV p l e R s m args below meth c0 H locs cells slots Q ls} hC hT hR hL hS hb _ _ hcl hsl k => ?_⟩
  rw [e1, e2, Nat.add_sub_cancel_left, Nat.add_sub_cancel_left] at k
  rw [e1, Nat.add_sub_cancel_left] at hcl
  rw [e2, Nat.add_sub_cancel_left] at hsl
  have hts := hC.2.2.2.2.1
  have hKn := hT.1 _ hr
  simp only at hKn
  have hK2 := hKn
  obtain ⟨hSl, hfc, kC0, hkC0, hkind0⟩ := hKn
  refine W.newcK hC.1 hC.2.1 hC.2.2.2.1 (hts _ q1) (hts _ q2) (hts _ q3) rfl d hcl hsl hfc hR.1 fun H1 kC hkC e1 z1 o1 => ?_
  refine k H1 locs ls (hR.new (by rw [z1, hR.1]) (fun q hq => o1 q (by rw [← hR.1]; exact hq)) (fun q hq => xu1_ne hq) (fun _ _ => rfl) (fun g q hq => xcl_ne hq) (fun g q hq => xcl_ne hq) (fun _ _ => rfl) (fun _ _ => rfl) (fun _ _ => rfl) rfl rfl ?_) hL (hS.grow (by rw [z1, hR.1]; exact Nat.le_succ _) (fun q hq => o1 q (by rw [← hR.1]; exact hq)))
  unfold xcell
  have ek : Gkd (Sno G c n) (Gtp G) = c + 1 := by simp [Sno, Gkd, xu1]
  rw [ek, if_pos (by omega)]
  refine ⟨r, hr, ?_, by rw [← hR.1]; exact hR.2.1⟩
  have hborn := u_born (fun k => xgT (xgid c k)) hts (xcl_in _ hr) hK2 hkC e1 (fun k hk => (xcl_g _ hr k hk).2)
  refine hborn.to fun k hk => ?_
  have := xcl_d _ hr k hk
  rw [this]
  unfold xfv
  have e3 : Gfr (Sno G c n) (xgid c k) (Gtp G) = none := by simp [Sno, Gfr, xcl]
  have e4 : Gfi (Sno G c n) (xgid c k) (Gtp G) = 0 := by simp [Sno, Gfi, xcl]
  simp only [Nat.add_sub_cancel]
  rw [e3, e4]
  rfl
theorem xnewa_rel {D : va_G} {base : Nat} {SV : Nat → Value} {s : State} {G : XG} {H H1 : Heap} {t N : Nat} {cA : ClassId} (hR : XRel D base SV s G H) (ht : t < 100) (e1 : H1[Gtp G]? = some (arrV cA N (fun _ => if t < 3 then Value.int 0 else if t = 3 then Value.long 0 else Value.null))) (z1 : H1.size = Gtp G + 1) (o1 : ∀ q, q < Gtp G → H1[q]? = H[q]?) (h1 : ArrOfT s cA (xaty t)) (h2 : va_RA s cA (xaty t)) : XRel D base SV s (Sna G t N) H1 := by
  refine hR.new (by rw [z1, hR.1]) (fun q hq => o1 q (by rw [← hR.1]; exact hq)) (fun q hq => xu1_ne hq) (fun q hq => xu1_ne hq) (fun _ _ _ => rfl) (fun _ _ _ => rfl) (fun q hq => xrw_ne hq) (fun q hq => xrw_ne hq) (fun q hq => xrw_ne hq) rfl rfl ?_
  unfold xcell
  have ek : Gkd (Sna G t N) (Gtp G) = 100 + t := by simp [Sna, Gkd, xu1]
  have el : Gln (Sna G t N) (Gtp G) = N := by simp [Sna, Gln, xu1]
  have em : (100 + t) % 100 = t := by omega
  rw [ek, el, if_neg (by omega), if_pos (by omega), em]
  refine ⟨cA, ?_, h1, h2, fun _ => by rw [← hR.1]; exact hR.2.1⟩
  rw [e1]
  congr 2
  funext j
  simp only [xav, Sna, Gai, Gal, Gar, xrw]
  simp
  split
  · rfl
  · split <;> rfl
theorem xok_newarray {atype : ArrayType} {t : Nat} (ht : t < 4) (hty : newarray.typeOf atype = xaty t) (d : decode (xmc M) pc = .ok (.newarray atype, 2)) (q : Cond.arrayClass (newarray.typeOf atype) ∈ lw_all) : XOkP M pc (pc + 2) (x_nwa t) := by
  intro L st G j L' st' G' h
  unfold x_nwa at h
  split at h
  · next n r =>
    split at h
    · next hn =>
      cases h
      have e1 : Gtp (Sna G t n.toNatClampNeg) = Gtp G + 1 := rfl
      have e2 : Gus (Sna G t n.toNatClampNeg) = Gus G + n.toNatClampNeg := rfl
      refine ⟨⟨by rw [e1]; exact Nat.le_succ _, by rw [e2]; exact Nat.le_add_right _ _, rfl⟩, fun {D base SV p l e R s m args below meth c0 H locs cells slots Q ls} hC hT hR hL hS hb _ _ hcl hsl k => ?_⟩
      rw [e1, e2, Nat.add_sub_cancel_left, Nat.add_sub_cancel_left] at k
      rw [e1, Nat.add_sub_cancel_left] at hcl
      rw [e2, Nat.add_sub_cancel_left] at hsl
      have hcb : componentBytes (newarray.typeOf atype) ≤ 8 := by rw [hty]; rcases (by omega : t = 0 ∨ t = 1 ∨ t = 2 ∨ t = 3) with e | e | e | e <;> rw [e] <;> decide
      refine va_newaK hC.1 hC.2.1 (hC.2.2.2.2.1 _ q) rfl d rfl hn.1 rfl (Nat.le_trans (Nat.mul_le_mul hn.2 hcb) (by decide)) hcl hsl hR.1 fun H1 cA e1 z1 o1 hA hf => ?_
      refine k H1 locs ls (xnewa_rel hR (by omega) ?_ z1 o1 (by rw [← hty]; exact hA) ?_) hL (hS.grow (by rw [z1, hR.1]; exact Nat.le_succ _) (fun q hq => o1 q (by rw [← hR.1]; exact hq)))
      · rw [e1, hty]
        rcases (by omega : t = 0 ∨ t = 1 ∨ t = 2 ∨ t = 3) with e | e | e | e <;> rw [e] <;> rfl
      · have hf2 : s.vm.findClass ("[" ++ (xaty t).toString) = some cA := by rw [← hty]; exact hf
        rcases (by omega : t = 0 ∨ t = 1 ∨ t = 2 ∨ t = 3) with e | e | e | e <;> rw [e] at hf2 ⊢ <;> exact hf2
    · cases h
  · cases h
theorem xok_anewarray {ix t : Nat} {C : String} (ht4 : 4 ≤ t) (ht : t < 100) (hty : xaty t = .object C) (d : decode (xmc M) pc = .ok (.anewarray ix, 3)) (q : Cond.classLink (xmy M).cls ix C ∈ lw_all) (q2 : FieldType.object C ∈ xnA) : XOkP M pc (pc + 3) (x_nwa t) := by
  intro L st G j L' st' G' h
  unfold x_nwa at h
  split at h
  · next n r =>
    split at h
    · next hn =>
      cases h
      have e1 : Gtp (Sna G t n.toNatClampNeg) = Gtp G + 1 := rfl
      have e2 : Gus (Sna G t n.toNatClampNeg) = Gus G + n.toNatClampNeg := rfl
      refine ⟨⟨by rw [e1]; exact Nat.le_succ _, by rw [e2]; exact Nat.le_add_right _ _, rfl⟩, fun {D base SV p l e R s m args below meth c0 H locs cells slots Q ls} hC hT hR hL hS hb _ _ hcl hsl k => ?_⟩
      rw [e1, e2, Nat.add_sub_cancel_left, Nat.add_sub_cancel_left] at k
      rw [e1, Nat.add_sub_cancel_left] at hcl
      rw [e2, Nat.add_sub_cancel_left] at hsl
      refine W.anew hC.1 hC.2.1 hC.2.2.2.1 (hC.2.2.2.2.1 _ q) (hT.2.2.2.2.1 _ q2) rfl d rfl hn.1 (Nat.le_trans (Nat.mul_le_mul_right 4 hn.2) (by decide)) hcl hsl fun cA kA comp f1 f2 f3 f4 => ?_
      generalize hH1 : H.push ({ cls := cA, slots := Array.replicate n.toNatClampNeg .null, vm := .none } : Cell) = H1
      have z1 : H1.size = H.size + 1 := by rw [← hH1, Array.size_push]
      have e1 : H1[H.size]? = some (arrV cA n.toNatClampNeg (fun _ => .null)) := by rw [← hH1, Array.getElem?_push_size, ← arrV_new]
      have o1 : ∀ q : Nat, q < H.size → H1[q]? = H[q]? := fun q hq => by rw [← hH1, Array.getElem?_push, if_neg (Nat.ne_of_lt hq)]
      have hAr : ArrOfT s cA (.object C) := fun N z => ⟨(fun k h => by cases h), kA, f2, comp, f3⟩
      have k2 := k H1 locs ls (xnewa_rel (t := t) (N := n.toNatClampNeg) (cA := cA) hR ht (by rw [← hR.1, e1, if_neg (by omega), if_neg (by omega)]) (by rw [z1, hR.1]) (fun q hq => o1 q (by rw [hR.1]; exact hq)) (by rw [hty]; exact hAr) (by rw [hty]; exact ⟨kA, comp, f2, f3, f4, f1⟩)) hL (hS.grow (by rw [z1]; exact Nat.le_succ _) o1)
      rw [← hR.1] at k2
      exact k2
    · cases h
  · cases h
theorem xok_anewarrayA {ix t : Nat} {C : FieldType} (ht4 : 4 ≤ t) (ht : t < 100) (hty : xaty t = .array C) (d : decode (xmc M) pc = .ok (.anewarray ix, 3)) (q : Cond.classLink (xmy M).cls ix (FieldType.array C).toString ∈ lw_all) (q2 : FieldType.array C ∈ xnA) : XOkP M pc (pc + 3) (x_nwa t) := by
  intro L st G j L' st' G' h
  unfold x_nwa at h
  split at h
  · next n r =>
    split at h
    · next hn =>
      cases h
      have e1 : Gtp (Sna G t n.toNatClampNeg) = Gtp G + 1 := rfl
      have e2 : Gus (Sna G t n.toNatClampNeg) = Gus G + n.toNatClampNeg := rfl
      refine ⟨⟨by rw [e1]; exact Nat.le_succ _, by rw [e2]; exact Nat.le_add_right _ _, rfl⟩, fun {D base SV p l e R s m args below meth c0 H locs cells slots Q ls} hC hT hR hL hS hb _ _ hcl hsl k => ?_⟩
      rw [e1, e2, Nat.add_sub_cancel_left, Nat.add_sub_cancel_left] at k
      rw [e1, Nat.add_sub_cancel_left] at hcl
      rw [e2, Nat.add_sub_cancel_left] at hsl
      refine W.anewA hC.1 hC.2.1 hC.2.2.2.1 (hC.2.2.2.2.1 _ q) (hT.2.2.2.2.1 _ q2) rfl d rfl hn.1 (Nat.le_trans (Nat.mul_le_mul_right 4 hn.2) (by decide)) hcl hsl fun cA kA comp f1 f2 f3 f4 => ?_
      generalize hH1 : H.push ({ cls := cA, slots := Array.replicate n.toNatClampNeg .null, vm := .none } : Cell) = H1
      have z1 : H1.size = H.size + 1 := by rw [← hH1, Array.size_push]
      have e1 : H1[H.size]? = some (arrV cA n.toNatClampNeg (fun _ => .null)) := by rw [← hH1, Array.getElem?_push_size, ← arrV_new]
      have o1 : ∀ q : Nat, q < H.size → H1[q]? = H[q]? := fun q hq => by rw [← hH1, Array.getElem?_push, if_neg (Nat.ne_of_lt hq)]
      have hAr : ArrOfT s cA (.array C) := fun N z => ⟨(fun k h => by cases h), kA, f2, comp, f3⟩
      have k2 := k H1 locs ls (xnewa_rel (t := t) (N := n.toNatClampNeg) (cA := cA) hR ht (by rw [← hR.1, e1, if_neg (by omega), if_neg (by omega)]) (by rw [z1, hR.1]) (fun q hq => o1 q (by rw [hR.1]; exact hq)) (by rw [hty]; exact hAr) (by rw [hty]; exact f1)) hL (hS.grow (by rw [z1]; exact Nat.le_succ _) o1)
      rw [← hR.1] at k2
      exact k2
    · cases h
  · cases h
/-! casts -/
def x_cst (cs : List Nat) : XP := fun L st G => match st with
  | v :: r => match xunR v with
    | some o => if xrfk G cs o = true then some (none, L, va_rf o :: r, G) else none
    | none => none
  | _ => none
theorem xok_checkcast {ix : Nat} {E : String} {cs : List Nat} (d : decode (xmc M) pc = .ok (.checkcast ix, 3)) (q : Cond.classLink (xmy M).cls ix E ∈ lw_all) (hcs : ∀ c ∈ cs, xfit E c) : XOkP M pc (pc + 3) (x_cst cs) := by
  refine xok_st fun L st G j L' st' G' h => ?_
  unfold x_cst at h
  split at h
  · next v r =>
    split at h
    · next o ho =>
      split at h
      · next hc =>
        cases h
        refine ⟨rfl, rfl, fun {D base SV p l e R s m args below meth c0 H locs cells slots Q ls} hC hT hR _ _ _ _ k => ?_⟩
        rw [xunR_sp ho]
        cases o with
        | none => exact lv_castN hC.1 hC.2.1 d k
        | some b =>
          simp only [xrfk, decide_eq_true_eq] at hc
          obtain ⟨f1, f2, f3⟩ := hcs _ hc
          obtain ⟨-, hcb⟩ := hR.2.2.2.1 b (by omega)
          unfold xcell at hcb
          rw [if_pos f2] at hcb
          obtain ⟨rr, hr, ⟨cell, g1, g2, g3, g4⟩, -⟩ := hcb
          obtain ⟨-, hfc, -⟩ := hT.1 _ hr
          simp only at hfc
          have hrec : ∃ cell : Cell, H[b]? = some cell ∧ cell.vm.isStatics = false ∧ s.vm.findClass rr.1 = some cell.cls := ⟨cell, g1, by rw [g3]; rfl, by rw [g2]; exact hfc⟩
          rcases f3 rr hr with e | e
          · rw [e] at hrec
            exact va_castE hC.1 hC.2.1 hC.2.2.2.1 (hC.2.2.2.2.1 _ q) hrec d k
          · exact va_castY hC.1 hC.2.1 hC.2.2.2.1 (hC.2.2.2.2.1 _ q) (hT.2.2.2.1 _ e) hrec d k
      · cases h
    · cases h
  · cases h
/-- Object's constructor -/
def x_obj : XP := fun L st G => match st with
  | .ref _ :: r => if xwt r ≤ 8 then some (none, L, r, G) else none
  | _ => none
theorem xok_objInit {ix : Nat} (d : decode (xmc M) pc = .ok (.invokespecial ix, 3)) (q1 : Cond.methodLink (xmy M).cls ix Lib.objectInit ∈ lw_all) (q2 : Cond.instanceMethod Lib.objectInit ∈ lw_all) (q3 : Cond.code Lib.objectInit ⟨#[0xb1]⟩ 1 none ∈ lw_all) : XOkP M pc (pc + 3) x_obj := by
  refine xok_st fun L st G j L' st' G' h => ?_
  unfold x_obj at h
  split at h
  · next a r =>
    split at h
    · next hw =>
      cases h
      refine ⟨rfl, rfl, fun hC hT hR hL _ hfr hlo k => ?_⟩
      have hts := hC.2.2.2.2.1
      exact W.objInit hC.1 hC.2.1 hC.2.2.2.1 (hts _ q1) (hts _ q2) (hts _ q3) rfl (by rw [hC.2.2.1]; exact hL.2.1) rfl d (by omega) (by show 2 * 0 + xwt st' + 12 ≤ _; omega) k
    · cases h
  · cases h
end XOKS
