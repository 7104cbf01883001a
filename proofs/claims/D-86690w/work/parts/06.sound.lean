/-! calls -/
/-- a callee's words -/
def xws (M : XM) : List Cond := if xmh M = [] then Cond.code (xmy M) (xmc M) (xmL M) (xmr M) :: lw_all else Cond.codeWith (xmy M) (xmc M) (xmL M) (xmr M) (xmh M) :: lw_all
/-- what a call comes to at the machine: back at npc, or the callee's throw over the caller's frame -/
def xRun (p : Program) (l : Launch) (e : Env) (R : Room) (s : State) (m : MethodId) (args : Array Value) (below : List Frame) (meth : Method) (c : Code) (H : Heap) (locs : List Loc) (cells slots mc ms : Nat) (g : JFrame) (npc : Nat) (rest : List Value) (Qa : State → Outcome → State → Prop) (XC9 : String → Addr → State → State → Prop) (free : Addr → Prop) : Prop :=
  ∀ T : State, T.heap = H → Stand p l e R s m args below meth c T locs cells slots →
    (∃ (v : Option Value) (st₀ t T' : State) (L : List Loc), st₀.heap = H ∧ Stand p l e R s m args below meth c T' (locs ++ L) (cells + mc) (slots + ms) ∧ (∀ q ∈ L, free q.base) ∧ T'.heap = t.heap ∧ T'.vm = t.vm ∧ Qa st₀ (.returned v) t ∧
      Goes p e below T g T' { g with pc := npc, stack := v.toList ++ rest }) ∨
    (∃ (q : Addr) (st₀ t T' : State) (L : List Loc) (E : String) (ce : Cell), st₀.heap = H ∧ Stand p l e R s m args below meth c T' (locs ++ L) (cells + mc) (slots + ms) ∧ (∀ z ∈ L, free z.base) ∧ T'.heap = t.heap ∧ T'.vm = t.vm ∧ XC9 E q st₀ t ∧ t.heap[q]? = some ce ∧ ce.vm = .none ∧ s.vm.findClass E = some ce.cls ∧
      Steps p.tables e below (T.setTop g) ((T'.setTop { g with stack := rest }).pushFrame (.throwing q)))
/-- what a call owes: for whatever the callee's contract says -/
def XOkC (ms : Nat → XM) (M : XM) (pc npc : Nat) (q : XQ) : Prop := ∀ (st : List Value) (G : XG) (k' : Nat) (as st' : List Value), q st G = some (k', as, st') → ∀ {D : va_G} {base : Nat} {SV : Nat → Value} {p : Program} {l : Launch} {e : Env} {R : Room} {s : State} {m : MethodId} {args : Array Value} {below : List Frame} {meth : Method} {c : Code} {H : Heap} {locs : List Loc} {cells slots : Nat} {ls : Array Slot}
      {mc mS : Nat} {rm : Room} {Pc : Array Value → State → Prop} {Qc : Array Value → State → Outcome → State → Prop} {XC9 : String → Addr → State → State → Prop} {free : Addr → Prop},
    XCx p s m args meth c M → XTF D SV s → XRel D base SV s G H → ls.size = xmL M → vx_Met l (xmy (ms k')) (xws (ms k')) rm Pc Qc XC9 mc mS free → rm.cells = mc → rm.slots = mS → rm.frames + 1 ≤ R.frames → 8 + (xmL (ms k') + 11) + rm.locals ≤ R.locals →
    FrameBlind Pc → (∀ U : State, U.heap = H → s.WarmedH U.vm → Pc as.toArray U) → xwt st' ≤ 8 → cells + mc ≤ R.cells → slots + mS ≤ R.slots →
    xRun p l e R s m args below meth c H locs cells slots mc mS (F0 m pc ls st) npc st' (Qc as.toArray) XC9 free
/-- returns -/
def XOkR (M : XM) (pc r : Nat) : Prop := match r with
  | 0 => decode (xmc M) pc = .ok (.return_, 1) ∧ xmr M = none
  | 1 => decode (xmc M) pc = .ok (.ireturn, 1) ∧ xmr M = some .int
  | 2 => decode (xmc M) pc = .ok (.lreturn, 1) ∧ xmr M = some .long
  | 3 => decode (xmc M) pc = .ok (.areturn, 1) ∧ ∃ rt, xmr M = some rt ∧ ((∃ n, rt = .object n) ∨ ∃ t, rt = .array t)
  | 4 => decode (xmc M) pc = .ok (.ireturn, 1) ∧ xmr M = some .boolean
  | _ => False
def xhd (es : List (Nat × XI)) : Nat := match es with
  | [] => 0
  | e :: _ => e.1
def XOk1 (ms : Nat → XM) (M : XM) (pc npc : Nat) (x : XI) : Prop := match x with
  | .inl f => XOkP M pc npc f
  | .inr (.inl q) => XOkC ms M pc npc q
  | .inr (.inr (.inl r)) => XOkR M pc r
  | .inr (.inr (.inr _)) => decode (xmc M) pc = .ok (.athrow, 1)
def XOkL (ms : Nat → XM) (M : XM) (es : List (Nat × XI)) : Prop := match es with
  | [] => True
  | e :: r => XOk1 ms M e.1 (xhd r) e.2 ∧ XOkL ms M r
/-- where a throw goes on -/
def XOkH (M : XM) : Prop := ∀ (pc kd : Nat) (c0 : Nat) (r : vw_C), kd = c0 + 1 → xthk kd = true → (c0, r) ∈ xclL →
  (∀ t, xmx M pc kd = some t → ∀ {D : va_G} {SV : Nat → Value} {p : Program} {l : Launch} {e : Env} {R : Room} {s : State} {m : MethodId} {args : Array Value} {below : List Frame} {meth : Method} {c : Code} {H : Heap} {locs : List Loc} {cells slots : Nat} {Q : State → Prop} {ls : Array Slot} {rest : List Value} {ce : Cell} {q : Addr},
    XCx p s m args meth c M → XTF D SV s → H[q]? = some ce → ce.vm = .none → s.vm.findClass r.1 = some ce.cls → W p l e R s m args below meth c H locs cells slots Q (F0 m t ls [.ref q]) → vx_W p l e R s m args below meth c H locs cells slots Q (F0 m pc ls rest) q) ∧
  (xmx M pc kd = none → ∀ {D : va_G} {SV : Nat → Value} {p : Program} {l : Launch} {e : Env} {R : Room} {s : State} {m : MethodId} {args : Array Value} {below : List Frame} {meth : Method} {c : Code} {H : Heap} {locs : List Loc} {cells slots : Nat} {ls : Array Slot} {rest : List Value} {ce : Cell} {q : Addr}
      {Qc : Array Value → State → Outcome → State → Prop} {XC9 : String → Addr → State → State → Prop} {free : Addr → Prop},
    XCx p s m args meth c M → XTF D SV s → H[q]? = some ce → ce.vm = .none → s.vm.findClass r.1 = some ce.cls → (∀ t : State, t.heap = H → s.vm.Alike t.vm → XC9 r.1 q s t) → (∀ z ∈ locs, free z.base) →
      vx_W p l e R s m args below meth c H locs cells slots (vx_MQ below Qc XC9 args s cells slots free) (F0 m pc ls rest) q)
def XOkM (ms : Nat → XM) (M : XM) : Prop := (∀ t, xblk M t ≠ [] → xhd (xblk M t) = t ∧ XOkL ms M (xblk M t)) ∧ XOkH M ∧ plainFor (xmy M) = true ∧ xmL M ≤ 60
theorem xent_len {as : List Value} {n : Nat} (h : (xex as).length ≤ n) : (xent as n).length = n := by
  unfold xent
  rw [List.length_append, List.length_replicate]
  omega
theorem xla_rep (i n : Nat) : xla i (List.replicate n xjk) = [] := by
  induction n generalizing i with
  | zero => rfl
  | succ n ih =>
    rw [List.replicate_succ]
    unfold xla
    rw [if_pos rfl]
    exact ih _
theorem xla_app (i : Nat) (a b : List Value) : xla i (a ++ b) = xla i a ++ xla (i + a.length) b := by
  induction a generalizing i with
  | nil => rfl
  | cons v a ih =>
    show (if v = xjk then xla (i + 1) (a ++ b) else (i, v) :: xla (i + 1) (a ++ b)) = (if v = xjk then xla (i + 1) a else (i, v) :: xla (i + 1) a) ++ xla (i + (a.length + 1)) b
    rw [ih]
    have e : i + 1 + a.length = i + (a.length + 1) := by omega
    rw [e]
    split
    · rfl
    · rfl
theorem xla_ex (i : Nat) (as : List Value) : ∀ q ∈ xla i (xex as), q ∈ lv_args i as := by
  induction as generalizing i with
  | nil => intro q h; cases h
  | cons v as ih =>
    intro q h
    unfold lv_args
    unfold xex at h
    by_cases hc : v.category = 2
    · rw [if_pos hc] at h
      unfold xla at h
      split at h
      · next e => rw [e] at hc; cases hc
      · rcases List.mem_cons.mp h with h | h
        · rw [h]; first | exact List.mem_cons_self | simp
        · unfold xla at h
          rw [if_pos rfl] at h
          have := ih _ q h
          rw [if_pos hc]
          exact List.mem_cons_of_mem _ this
    · rw [if_neg hc] at h
      unfold xla at h
      rw [if_neg hc]
      split at h
      · exact List.mem_cons_of_mem _ (ih _ q h)
      · rcases List.mem_cons.mp h with h | h
        · rw [h]; exact List.mem_cons_self
        · exact List.mem_cons_of_mem _ (ih _ q h)
theorem xex_len (as : List Value) : (xex as).length = xwt as := by
  induction as with
  | nil => rfl
  | cons v as ih =>
    unfold xwt at ih ⊢
    unfold xex
    rw [List.map_cons, List.sum_cons]
    split
    · next h => rw [List.length_cons, List.length_cons, ih, h]; omega
    · next h =>
      rw [List.length_cons, ih]
      rcases lv_cat v with e | e
      · rw [e]; omega
      · exact absurd e h
theorem xsl_len (as : List Value) : (lg_sl as).length = (xex as).length := by
  induction as with
  | nil => rfl
  | cons v as ih =>
    unfold lg_sl at ih ⊢
    unfold xex
    rw [List.flatMap_cons, List.length_append, ih]
    split <;> simp <;> omega
/-- a return at the machine, for a method's contract -/
theorem xret_ok {M : XM} {pc r : Nat} {st : List Value} {v : Option Value} (hk : XOkR M pc r) (hv : xrt r st = some v) {p : Program} {l : Launch} {e : Env} {R : Room} {s : State} {m : MethodId} {args : Array Value} {below : List Frame} {meth : Method} {c : Code} {H : Heap} {locs : List Loc} {cells slots : Nat} {ls : Array Slot}
    {Qc : Array Value → State → Outcome → State → Prop} {free : Addr → Prop} (hC : XCx p s m args meth c M) (hq : ∀ t : State, t.heap = H → s.WarmedH t.vm → Qc args s (.returned v) t) (hf : ∀ q ∈ locs, free q.base) :
    W p l e R s m args below meth c H locs cells slots (MQ below Qc args s cells slots free) (F0 m pc ls st) := by
  have hr := hC.2.2.2.2.2.2.1
  have hlk := hC.2.2.2.2.2.1
  unfold xrt at hv
  split at hv
  · split at hv
    · next h0 =>
      subst h0
      cases hv
      obtain ⟨d, h1⟩ := hk
      exact W.vret hC.1 hC.2.1 (hr.trans h1) hq hf d hlk
    · cases hv
  · split at hv
    · next h0 =>
      subst h0
      cases hv
      obtain ⟨d, h1⟩ := hk
      exact W.iret hC.1 hC.2.1 (hr.trans h1) hq hf d hlk
    · split at hv
      · next h0 =>
        subst h0
        split at hv
        · next h2 =>
          cases hv
          obtain ⟨d, h1⟩ := hk
          exact W.zret hC.1 hC.2.1 (hr.trans h1) (by rcases h2 with e | e <;> rw [e] <;> rfl) hq hf d hlk
        · cases hv
      · cases hv
  · split at hv
    · next h0 =>
      subst h0
      cases hv
      obtain ⟨d, h1⟩ := hk
      exact W.lret hC.1 hC.2.1 (hr.trans h1) hq hf d hlk
    · cases hv
  · split at hv
    · next h0 =>
      obtain ⟨h0, h2⟩ := h0
      subst h0
      cases hv
      obtain ⟨d, rt, h1, h3⟩ := hk
      obtain ⟨o, ho⟩ := Option.isSome_iff_exists.mp h2
      have e := xunR_sp ho
      refine W.aret hC.1 hC.2.1 (hr.trans h1) h3 ?_ hq hf d hlk
      cases o with
      | none => exact Or.inl e
      | some a => exact Or.inr ⟨a, e⟩
    · cases hv
  · cases hv
/-- room for d calls -/
def xrm (d mc mS : Nat) : Room := ({ frames := d + 6, cells := mc, slots := mS, locals := 100 + 80 * d } : Room)
/-- WHAT THE PLAIN MACHINE DOES, THE MACHINE DOES -/
def XSnd (ms : Nat → XM) (n : Nat) : Prop := ∀ (d k : Nat) (es : List (Nat × XI)) (L st : List Value) (G : XG) (o : Option Value ⊕ Nat) (Gf : XG), xrun ms n d k es L st G = some (o, Gf) → XOkL ms (ms k) es →
  (Gtp G ≤ Gtp Gf ∧ Gus G ≤ Gus Gf ∧ Gsv Gf = Gsv G) ∧
  ∀ {D : va_G} {base : Nat} {SV : Nat → Value} {p : Program} {l : Launch} {e : Env} {R : Room} {s : State} {m : MethodId} {args : Array Value} {below : List Frame} {meth : Method} {c : Code} {H : Heap} {locs : List Loc} {cells slots : Nat} {Q : State → Prop} {ls : Array Slot},
    XCx p s m args meth c (ms k) → XTF D SV s → XRel D base SV s G H → XLo (xmL (ms k)) L ls → va_S (fun x => base ≤ x) s.heap H locs → base ≤ s.heap.size → d + 6 ≤ R.frames → 100 + 80 * d ≤ R.locals →
    cells + (Gtp Gf - Gtp G) ≤ R.cells → slots + (Gus Gf - Gus G) ≤ R.slots →
    (∀ (v : Option Value) (pc r : Nat) (st' : List Value) (H' : Heap) (locs' : List Loc) (ls' : Array Slot), o = .inl v → XOkR (ms k) pc r → xrt r st' = some v → XRel D base SV s Gf H' → va_S (fun x => base ≤ x) s.heap H' locs' →
      W p l e R s m args below meth c H' locs' (cells + (Gtp Gf - Gtp G)) (slots + (Gus Gf - Gus G)) Q (F0 m pc ls' st')) →
    (∀ (z pc : Nat) (st' : List Value) (H' : Heap) (locs' : List Loc) (ls' : Array Slot), o = .inr z → xthk (Gkd Gf z) = true → xmx (ms k) pc (Gkd Gf z) = none → XRel D base SV s Gf H' → va_S (fun x => base ≤ x) s.heap H' locs' →
      vx_W p l e R s m args below meth c H' locs' (cells + (Gtp Gf - Gtp G)) (slots + (Gus Gf - Gus G)) Q (F0 m pc ls' st') z) →
    W p l e R s m args below meth c H locs cells slots Q (F0 m (xhd es) ls st)
/-- a thrown object's cell -/
theorem xthr {D : va_G} {base : Nat} {SV : Nat → Value} {s : State} {G : XG} {H : Heap} {z : Nat} (hT : XTF D SV s) (hR : XRel D base SV s G H) (hk : xthk (Gkd G z) = true) : ∃ (c0 : Nat) (r : vw_C) (ce : Cell), Gkd G z = c0 + 1 ∧ (c0, r) ∈ xclL ∧ H[z]? = some ce ∧ ce.vm = .none ∧ s.vm.findClass r.1 = some ce.cls := by
  have h01 : 0 < Gkd G z ∧ Gkd G z < 100 := by
    simp only [xthk, Bool.or_eq_true, beq_iff_eq] at hk
    omega
  obtain ⟨h0, h1⟩ := h01
  obtain ⟨-, hc⟩ := hR.2.2.2.1 z (by omega)
  unfold xcell at hc
  rw [if_pos h1] at hc
  obtain ⟨r, hr, ⟨cell, g1, g2, g3, g4⟩, -⟩ := hc
  obtain ⟨-, hfc, -⟩ := hT.1 _ hr
  exact ⟨Gkd G z - 1, r, cell, by omega, hr, g1, g3, by rw [g2]; exact hfc⟩
/-- what a callee's contract says at its end -/
def xQc (D : va_G) (base : Nat) (SV : Nat → Value) (o : Option Value ⊕ Nat) (Gf : XG) : Array Value → State → Outcome → State → Prop := fun _ st oc t => ∃ v, o = .inl v ∧ oc = .returned v ∧ XRel D base SV t Gf t.heap ∧ va_F (fun x => base ≤ x) st t
def xQx (D : va_G) (base : Nat) (SV : Nat → Value) (o : Option Value ⊕ Nat) (Gf : XG) : String → Addr → State → State → Prop := fun _ q st t => o = .inr q ∧ xthk (Gkd Gf q) = true ∧ XRel D base SV t Gf t.heap ∧ va_F (fun x => base ≤ x) st t
/-- a method's contract out of its run -/
theorem xmet {ms : Nat → XM} (hms : ∀ k, xmb (ms k) ≠ [] → XOkM ms (ms k)) {n : Nat} (ih : XSnd ms n) {d k : Nat} {as : List Value} {G : XG} {o : Option Value ⊕ Nat} {Gf : XG} (hrun : xrun ms n d k (xblk (ms k) 0) (xent as (xmL (ms k))) [] G = some (o, Gf)) (hlen : (xex as).length ≤ xmL (ms k))
    (l : Launch) (D : va_G) (base : Nat) (SV : Nat → Value) :
    vx_Met l (xmy (ms k)) (xws (ms k)) (xrm d (Gtp Gf - Gtp G) (Gus Gf - Gus G)) (va_Pc as (fun U => XTF D SV U ∧ XRel D base SV U G U.heap ∧ base ≤ U.heap.size)) (xQc D base SV o Gf) (xQx D base SV o Gf) (Gtp Gf - Gtp G) (Gus Gf - Gus G) (fun x => base ≤ x) := by
  have hne : xblk (ms k) 0 ≠ [] := by
    intro h
    rw [h] at hrun
    cases n <;> simp [xrun] at hrun
  have hmb : xmb (ms k) ≠ [] := by
    intro h
    exact hne (by unfold xblk; rw [h]; rfl)
  obtain ⟨hbl, hxh, hpn, hml60⟩ := hms k hmb
  obtain ⟨hh0, hokl⟩ := hbl 0 hne
  obtain ⟨-, hsnd⟩ := ih d k _ _ _ _ _ _ hrun hokl
  have body : ∀ (p : Program) (e : Env) (s : State) (m : MethodId) (args : Array Value) (below : List Frame) (meth : Method) (c : Code) (s₁ : State), BodyLoose p l (xmy (ms k)) (headSpec (xws (ms k)) (xrm d (Gtp Gf - Gtp G) (Gus Gf - Gus G))) (xmc (ms k)) (xmL (ms k)) (xmr (ms k)) e s m args below meth c s₁ → c.maxLocals = xmL (ms k) → c.exceptionTable.toList = tableOf (xmh (ms k)) →
      va_Pc as (fun U => XTF D SV U ∧ XRel D base SV U G U.heap ∧ base ≤ U.heap.size) args s →
      W p l e (headSpec (xws (ms k)) (xrm d (Gtp Gf - Gtp G) (Gus Gf - Gus G))).room s m args below meth c s.heap [] 0 0 (vx_MQ below (xQc D base SV o Gf) (xQx D base SV o Gf) args s (Gtp Gf - Gtp G) (Gus Gf - Gus G) (fun x => base ≤ x)) (entryFrame m args (xmL (ms k))) := by
    intro p e s m args below meth c s₁ B hml htab hv
    obtain ⟨rfl, hTF, hRel, hb⟩ := hv
    have hts := atoms_spec (ws := xws (ms k)) B.pre
    have hts : ∀ w ∈ lw_all, w.before as.toArray s = true := fun w h => hts w (by unfold xws; split <;> exact List.mem_cons_of_mem _ h)
    have hown : s.vm.findClass (xmy (ms k)).cls = some m.cls := findClass_of_methodNamed B.named
    have hin : meth.name = (xmy (ms k)).name := (name_of_methodNamed B.named B.method).1
    have hC : XCx p s m as.toArray meth c (ms k) := ⟨B.exec, B.bytes, hml, hown, hts, B.notSynchronized, B.returns, hin, htab⟩
    have hl := lv_entry as (n := xmL (ms k)) (by rw [xsl_len]; exact hlen)
    rw [lg_entry_eq]
    generalize (lg_sl as ++ List.replicate (xmL (ms k) - (lg_sl as).length) Slot.unset).toArray = ls at hl ⊢
    have hLo : XLo (xmL (ms k)) (xent as (xmL (ms k))) ls := XLo.of (xent_len hlen) hl fun q hq => by
      unfold xent at hq
      rw [xla_app, xla_rep, List.append_nil] at hq
      exact xla_ex 0 as q hq
    have k1 := hsnd (H := s.heap) (locs := []) (cells := 0) (slots := 0) (R := (headSpec (xws (ms k)) (xrm d (Gtp Gf - Gtp G) (Gus Gf - Gus G))).room) (Q := vx_MQ below (xQc D base SV o Gf) (xQx D base SV o Gf) as.toArray s (Gtp Gf - Gtp G) (Gus Gf - Gus G) (fun x => base ≤ x)) (l := l) (e := e) (below := below) hC hTF hRel hLo va_S.rf hb (Nat.le_refl _) (Nat.le_refl _) (by rw [Nat.zero_add]; exact Nat.le_refl _) (by rw [Nat.zero_add]; exact Nat.le_refl _) ?_ ?_
    · rw [hh0] at k1
      exact k1
    · intro v pc r st' H' locs' ls' ho hkr hrt hR' hS'
      rw [Nat.zero_add, Nat.zero_add]
      refine vx_ret (xret_ok hkr hrt hC (fun t ht hW => ⟨v, ho, rfl, ?_, ?_⟩) hS'.2.2)
      · rw [ht]; exact hR'.moved hW.alike
      · exact hS'.F ht
    · intro z pc st' H' locs' ls' ho h0 hx hR' hS'
      rw [Nat.zero_add, Nat.zero_add]
      obtain ⟨c0, r, ce, e1, hr, g1, g2, g3⟩ := xthr hTF hR' h0
      exact ((hxh pc (Gkd Gf z) c0 r e1 h0 hr).2 hx) hC hTF g1 g2 g3 (fun t ht hA => ⟨ho, h0, by rw [ht]; exact hR'.moved hA, hS'.F ht⟩) hS'.2.2
  by_cases hh : xmh (ms k) = []
  · refine vx_ofW (ws' := lw_all) (cc := xmc (ms k)) (maxL := xmL (ms k)) (ret := xmr (ms k)) hpn (by unfold xws; rw [if_pos hh]) ?_
    intro p e s m args below meth c s₁ B hml htab hv
    refine body p e s m args below meth c s₁ B hml ?_ hv
    rw [hh]
    cases hct : c.exceptionTable.toList with
    | nil => rfl
    | cons x xs => exact (htab x (by rw [hct]; exact List.mem_cons_self)).elim
  · have hw : xws (ms k) = Cond.codeWith (xmy (ms k)) (xmc (ms k)) (xmL (ms k)) (xmr (ms k)) (xmh (ms k)) :: lw_all := by unfold xws; rw [if_neg hh]
    refine vx_ofWH (ws' := lw_all) (cc := xmc (ms k)) (maxL := xmL (ms k)) (ret := xmr (ms k)) (hh := xmh (ms k)) hpn hw ?_
    intro p e s m args below meth c s₁ B hml hv
    refine body p e s m args below meth c s₁ B hml ?_ hv
    exact vx_table (x := xmy (ms k)) B (atoms_spec (ws := xws (ms k)) B.pre _ (by rw [hw]; exact List.mem_cons_self))
theorem xsound {ms : Nat → XM} (hms : ∀ k, xmb (ms k) ≠ [] → XOkM ms (ms k)) : ∀ n, XSnd ms n := by
  have hblk : ∀ k t, xblk (ms k) t ≠ [] → xhd (xblk (ms k) t) = t ∧ XOkL ms (ms k) (xblk (ms k) t) := by
    intro k t h
    refine (hms k ?_).1 t h
    intro h2
    exact h (by unfold xblk; rw [h2]; rfl)
  intro n
  induction n with
  | zero => intro d k es L st G o Gf h; simp [xrun] at h
  | succ n ih =>
    intro d k es L st G o Gf h hok
    match es, hok with
    | [], _ => simp [xrun] at h
    | (pc, .inl f) :: rest, hok =>
      obtain ⟨hp, hok⟩ := hok
      have hp : XOkP (ms k) pc (xhd rest) f := hp
      simp only [xrun] at h
      cases hf : f L st G with
      | none => rw [hf] at h; cases h
      | some q =>
        obtain ⟨j, L', st', G'⟩ := q
        rw [hf] at h
        obtain ⟨⟨m1, m2, m3⟩, hstep⟩ := hp L st G j L' st' G' hf
        -- where it goes on
        have hrest : ∃ es', xrun ms n d k es' L' st' G' = some (o, Gf) ∧ XOkL ms (ms k) es' ∧ xhd es' = j.getD (xhd rest) := by
          cases j with
          | none => exact ⟨rest, h, hok, rfl⟩
          | some t =>
            have h : xrun ms n d k (xblk (ms k) t) L' st' G' = some (o, Gf) := h
            have hne : xblk (ms k) t ≠ [] := by
              intro e
              rw [e] at h
              cases n <;> simp [xrun] at h
            obtain ⟨b1, b2⟩ := hblk k t hne
            exact ⟨_, h, b2, b1⟩
        obtain ⟨es', h', hok', hhd⟩ := hrest
        obtain ⟨⟨m4, m5, m6⟩, hgo⟩ := ih d k es' L' st' G' o Gf h' hok'
        refine ⟨⟨by omega, by omega, by rw [m6, m3]⟩, ?_⟩
        intro D base SV p l e R s m args below meth c H locs cells slots Q ls hC hT hR hL hS hb hfr hlo hc hs hret hthr
        refine hstep hC hT hR hL hS hb (by omega) (by omega) (by omega) (by omega) fun H' locs' ls' hR' hL' hS' => ?_
        rw [← hhd]
        have e1 : cells + (Gtp G' - Gtp G) + (Gtp Gf - Gtp G') = cells + (Gtp Gf - Gtp G) := by omega
        have e2 : slots + (Gus G' - Gus G) + (Gus Gf - Gus G') = slots + (Gus Gf - Gus G) := by omega
        exact hgo hC hT hR' hL' hS' hb hfr hlo (by omega) (by omega) (by rw [e1, e2]; exact hret) (by rw [e1, e2]; exact hthr)
    | (pc, .inr (.inl q)) :: rest, hok =>
      obtain ⟨hq, hok⟩ := hok
      have hq : XOkC ms (ms k) pc (xhd rest) q := hq
      simp only [xrun] at h
      cases hf : q st G with
      | none => rw [hf] at h; cases h
      | some w =>
        obtain ⟨k', as, st'⟩ := w
        rw [hf] at h
        cases d with
        | zero => simp at h
        | succ d' =>
          simp only at h
          by_cases hw : xwt st' ≤ 8 ∧ xwt as ≤ xmL (ms k')
          · rw [if_pos hw] at h
            cases hcall : xrun ms n d' k' (xblk (ms k') 0) (xent as (xmL (ms k'))) [] G with
            | none => rw [hcall] at h; cases h
            | some w2 =>
              obtain ⟨o1, G1⟩ := w2
              rw [hcall] at h
              have hlen : (xex as).length ≤ xmL (ms k') := by rw [xex_len]; exact hw.2
              have hne : xblk (ms k') 0 ≠ [] := by
                intro h
                rw [h] at hcall
                cases n <;> simp [xrun] at hcall
              obtain ⟨b1, b2⟩ := hblk k' 0 hne
              have hml60 : xmL (ms k') ≤ 60 := (hms k' (fun h2 => hne (by unfold xblk; rw [h2]; rfl))).2.2.2
              obtain ⟨⟨m1, m2, m3⟩, -⟩ := ih d' k' _ _ _ _ _ _ hcall b2
              have hmet := fun (l : Launch) (D : va_G) (base : Nat) (SV : Nat → Value) => xmet hms ih hcall hlen l D base SV
              cases o1 with
              | inl v =>
                have h : xrun ms n (d' + 1) k rest L (v.toList ++ st') G1 = some (o, Gf) := h
                obtain ⟨⟨m4, m5, m6⟩, hgo⟩ := ih (d' + 1) k rest L _ G1 o Gf h hok
                refine ⟨⟨by omega, by omega, by rw [m6, m3]⟩, ?_⟩
                intro D base SV p l e R s m args below meth c H locs cells slots Q ls hC hT hR hL hS hb hfr hlo hc hs hret hthr
                have hrun := hq st G k' as st' hf (l := l) (e := e) (R := R) (below := below) (locs := locs) (cells := cells) (slots := slots) hC hT hR hL.2.1 (hmet l D base SV) rfl rfl (by show d' + 6 + 1 ≤ _; omega) (by show 8 + (xmL (ms k') + 11) + (100 + 80 * d') ≤ _; omega)
                  (fun a U g mk hp => by obtain ⟨p0, p1, p2, p3⟩ := hp; exact ⟨p0, p1.same rfl, p2.moved (Vm.Alike.refl _), p3⟩)
                  (fun U hU hW => ⟨rfl, hT.warm hW, by rw [hU]; exact hR.moved hW.alike, by rw [hU]; exact hR.2.1⟩) hw.1 (by omega) (by omega)
                intro T hTh X
                rcases hrun T hTh X with ⟨v1, st₀, t, T', L1, h0, X', hL1, e1, e2, ⟨v2, w1, w2, w3, w4⟩, st1⟩ | ⟨z, st₀, t, T', L1, E, ce, h0, X', hL1, e1, e2, ⟨w1, -⟩, -⟩
                · cases w1
                  cases w2
                  have hvm : s.vm.Alike t.vm := by rw [← e2]; exact X'.warmed.alike
                  have hS' : va_S (fun x => base ≤ x) s.heap T'.heap (locs ++ L1) := by
                    refine ⟨?_, fun q g1 g2 => ?_, fun z hz => ?_⟩
                    · rw [e1]
                      exact Nat.le_trans hS.1 (by rw [← h0]; exact w4.1)
                    · rw [e1, w4.2 q (by rw [h0]; exact Nat.lt_of_lt_of_le g1 hS.1) g2, h0]
                      exact hS.2.1 q g1 g2
                    · rcases List.mem_append.mp hz with hz | hz
                      · exact hS.2.2 z hz
                      · exact hL1 z hz
                  have a1 : cells + (Gtp G1 - Gtp G) + (Gtp Gf - Gtp G1) = cells + (Gtp Gf - Gtp G) := by omega
                  have a2 : slots + (Gus G1 - Gus G) + (Gus Gf - Gus G1) = slots + (Gus Gf - Gus G) := by omega
                  obtain ⟨t2, z1, z2⟩ := hgo (H := T'.heap) hC hT (by rw [e1]; exact w3.moved hvm.symm) hL hS' hb hfr hlo (by omega) (by omega) (by rw [a1, a2]; exact hret) (by rw [a1, a2]; exact hthr) T' rfl X'
                  exact ⟨t2, st1 t2 z1, z2⟩
                · cases w1
              | inr z =>
                -- a throw comes back
                cases hx : xmx (ms k) pc (Gkd G1 z) with
                | none =>
                  have h : some (Sum.inr z, G1) = some (o, Gf) := by simpa only [hx] using h
                  cases h
                  refine ⟨⟨m1, m2, m3⟩, ?_⟩
                  intro D base SV p l e R s m args below meth c H locs cells slots Q ls hC hT hR hL hS hb hfr hlo hc hs hret hthr
                  have hrun := hq st G k' as st' hf (l := l) (e := e) (R := R) (below := below) (locs := locs) (cells := cells) (slots := slots) hC hT hR hL.2.1 (hmet l D base SV) rfl rfl (by show d' + 6 + 1 ≤ _; omega) (by show 8 + (xmL (ms k') + 11) + (100 + 80 * d') ≤ _; omega)
                    (fun a U g mk hp => by obtain ⟨p0, p1, p2, p3⟩ := hp; exact ⟨p0, p1.same rfl, p2.moved (Vm.Alike.refl _), p3⟩)
                    (fun U hU hW => ⟨rfl, hT.warm hW, by rw [hU]; exact hR.moved hW.alike, by rw [hU]; exact hR.2.1⟩) hw.1 (by omega) (by omega)
                  intro T hTh X
                  rcases hrun T hTh X with ⟨v1, st₀, t, T', L1, h0, X', hL1, e1, e2, ⟨v2, w1, w2, w3, w4⟩, st1⟩ | ⟨z1, st₀, t, T', L1, E, ce, h0, X', hL1, e1, e2, ⟨w1, w2, w5, w6⟩, hce, hcv, hcl, st1⟩
                  · cases w1
                  · cases w1
                    have hvm : s.vm.Alike t.vm := by rw [← e2]; exact X'.warmed.alike
                    have hS' : va_S (fun x => base ≤ x) s.heap T'.heap (locs ++ L1) := by
                      refine ⟨?_, fun q g1 g2 => ?_, fun z hz => ?_⟩
                      · rw [e1]
                        exact Nat.le_trans hS.1 (by rw [← h0]; exact w6.1)
                      · rw [e1, w6.2 q (by rw [h0]; exact Nat.lt_of_lt_of_le g1 hS.1) g2, h0]
                        exact hS.2.1 q g1 g2
                      · rcases List.mem_append.mp hz with hz | hz
                        · exact hS.2.2 z hz
                        · exact hL1 z hz
                    obtain ⟨t2, z1, z2⟩ := hthr z pc st' T'.heap (locs ++ L1) ls rfl w2 hx (by rw [e1]; exact w5.moved hvm.symm) hS' T' rfl X'
                    exact ⟨t2, st1.trans z1, z2⟩
                | some tg =>
                  have h : xrun ms n (d' + 1) k (xblk (ms k) tg) L [.ref z] G1 = some (o, Gf) := by simpa only [hx] using h
                  have hne2 : xblk (ms k) tg ≠ [] := by
                    intro e
                    rw [e] at h
                    cases n <;> simp [xrun] at h
                  obtain ⟨c1, c2⟩ := hblk k tg hne2
                  obtain ⟨⟨m4, m5, m6⟩, hgo⟩ := ih (d' + 1) k _ L _ G1 o Gf h c2
                  refine ⟨⟨by omega, by omega, by rw [m6, m3]⟩, ?_⟩
                  intro D base SV p l e R s m args below meth c H locs cells slots Q ls hC hT hR hL hS hb hfr hlo hc hs hret hthr
                  have hrun := hq st G k' as st' hf (l := l) (e := e) (R := R) (below := below) (locs := locs) (cells := cells) (slots := slots) hC hT hR hL.2.1 (hmet l D base SV) rfl rfl (by show d' + 6 + 1 ≤ _; omega) (by show 8 + (xmL (ms k') + 11) + (100 + 80 * d') ≤ _; omega)
                    (fun a U g mk hp => by obtain ⟨p0, p1, p2, p3⟩ := hp; exact ⟨p0, p1.same rfl, p2.moved (Vm.Alike.refl _), p3⟩)
                    (fun U hU hW => ⟨rfl, hT.warm hW, by rw [hU]; exact hR.moved hW.alike, by rw [hU]; exact hR.2.1⟩) hw.1 (by omega) (by omega)
                  intro T hTh X
                  rcases hrun T hTh X with ⟨v1, st₀, t, T', L1, h0, X', hL1, e1, e2, ⟨v2, w1, w2, w3, w4⟩, st1⟩ | ⟨z1, st₀, t, T', L1, E, ce, h0, X', hL1, e1, e2, ⟨w1, w2, w5, w6⟩, hce, hcv, hcl, st1⟩
                  · cases w1
                  · cases w1
                    have hvm : s.vm.Alike t.vm := by rw [← e2]; exact X'.warmed.alike
                    have hS' : va_S (fun x => base ≤ x) s.heap T'.heap (locs ++ L1) := by
                      refine ⟨?_, fun q g1 g2 => ?_, fun z hz => ?_⟩
                      · rw [e1]
                        exact Nat.le_trans hS.1 (by rw [← h0]; exact w6.1)
                      · rw [e1, w6.2 q (by rw [h0]; exact Nat.lt_of_lt_of_le g1 hS.1) g2, h0]
                        exact hS.2.1 q g1 g2
                      · rcases List.mem_append.mp hz with hz | hz
                        · exact hS.2.2 z hz
                        · exact hL1 z hz
                    have hRt : XRel D base SV s G1 T'.heap := by rw [e1]; exact w5.moved hvm.symm
                    obtain ⟨c0, rr, ce2, f1, hr, g1, g2, g3⟩ := xthr hT hRt w2
                    have hxh := (hms k (fun h2 => hne2 (by unfold xblk; rw [h2]; rfl))).2.1
                    have a1 : cells + (Gtp G1 - Gtp G) + (Gtp Gf - Gtp G1) = cells + (Gtp Gf - Gtp G) := by omega
                    have a2 : slots + (Gus G1 - Gus G) + (Gus Gf - Gus G1) = slots + (Gus Gf - Gus G) := by omega
                    have hW := hgo (l := l) (e := e) (R := R) (below := below) (Q := Q) (ls := ls) (H := T'.heap) (locs := locs ++ L1) (cells := cells + (Gtp G1 - Gtp G)) (slots := slots + (Gus G1 - Gus G)) hC hT hRt hL hS' hb hfr hlo (by omega) (by omega) (by rw [a1, a2]; exact hret) (by rw [a1, a2]; exact hthr)
                    rw [c1] at hW
                    have hv : vx_W p l e R s m args below meth c T'.heap (locs ++ L1) (cells + (Gtp G1 - Gtp G)) (slots + (Gus G1 - Gus G)) Q (F0 m pc ls st') z := (hxh pc (Gkd G1 z) c0 rr f1 w2 hr).1 tg hx hC hT g1 g2 g3 hW
                    obtain ⟨t2, z1, z2⟩ := hv T' rfl X'
                    exact ⟨t2, st1.trans z1, z2⟩
          · rw [if_neg hw] at h; cases h
    | (pc, .inr (.inr (.inl r))) :: rest, hok =>
      obtain ⟨hq, -⟩ := hok
      have hq : XOkR (ms k) pc r := hq
      simp only [xrun] at h
      cases hv : xrt r st with
      | none => rw [hv] at h; cases h
      | some v =>
        rw [hv] at h
        cases h
        refine ⟨⟨Nat.le_refl _, Nat.le_refl _, rfl⟩, ?_⟩
        intro D base SV p l e R s m args below meth c H locs cells slots Q ls hC hT hR hL hS hb hfr hlo hc hs hret hthr
        have k1 := hret v pc r st H locs ls rfl hq hv hR hS
        rw [Nat.sub_self, Nat.sub_self, Nat.add_zero, Nat.add_zero] at k1
        exact k1
    | (pc, .inr (.inr (.inr u))) :: rest, hok =>
      obtain ⟨hq, -⟩ := hok
      have hq : decode (xmc (ms k)) pc = .ok (.athrow, 1) := hq
      simp only [xrun] at h
      match st, h with
      | .ref z :: st2, h =>
        simp only at h
        by_cases hz : xthk (Gkd G z) = true
        · rw [if_pos hz] at h
          cases hx : xmx (ms k) pc (Gkd G z) with
          | none =>
            have h : some (Sum.inr z, G) = some (o, Gf) := by simpa only [hx] using h
            cases h
            refine ⟨⟨Nat.le_refl _, Nat.le_refl _, rfl⟩, ?_⟩
            intro D base SV p l e R s m args below meth c H locs cells slots Q ls hC hT hR hL hS hb hfr hlo hc hs hret hthr
            have k1 := hthr z pc st2 H locs ls rfl hz hx hR hS
            rw [Nat.sub_self, Nat.sub_self, Nat.add_zero, Nat.add_zero] at k1
            exact vx_athrow hC.1 hC.2.1 hq k1
          | some tg =>
            have h : xrun ms n d k (xblk (ms k) tg) L [.ref z] G = some (o, Gf) := by simpa only [hx] using h
            have hne2 : xblk (ms k) tg ≠ [] := by
              intro e
              rw [e] at h
              cases n <;> simp [xrun] at h
            obtain ⟨c1, c2⟩ := hblk k tg hne2
            obtain ⟨⟨m4, m5, m6⟩, hgo⟩ := ih d k _ L _ G o Gf h c2
            refine ⟨⟨m4, m5, m6⟩, ?_⟩
            intro D base SV p l e R s m args below meth c H locs cells slots Q ls hC hT hR hL hS hb hfr hlo hc hs hret hthr
            obtain ⟨c0, rr, ce2, f1, hr, g1, g2, g3⟩ := xthr hT hR hz
            have hxh := (hms k (fun h2 => hne2 (by unfold xblk; rw [h2]; rfl))).2.1
            have hW := hgo (l := l) (e := e) (R := R) (below := below) (Q := Q) (ls := ls) hC hT hR hL hS hb hfr hlo hc hs hret hthr
            rw [c1] at hW
            exact vx_athrow hC.1 hC.2.1 hq (((hxh pc (Gkd G z) c0 rr f1 hz hr).1 tg hx) hC hT g1 g2 g3 hW)
        · rw [if_neg hz] at h; cases h
      | [], h => simp at h
      | .null :: _, h => simp at h
      | .int _ :: _, h => simp at h
      | .long _ :: _, h => simp at h
      | .float _ :: _, h => simp at h
      | .double _ :: _, h => simp at h
      | .retAddr _ :: _, h => simp at h
/-! calls, sort by sort -/
def x_cls (k n : Nat) : XQ := fun st _ => if n ≤ st.length then some (k, (st.take n).reverse, st.drop n) else none
def x_cli (k n : Nat) : XQ := fun st _ => match st.drop n with
  | .ref b :: r => some (k, .ref b :: (st.take n).reverse, r)
  | _ => none
def x_cl1 (n kd k : Nat) : XQ := fun st G => match st.drop n with
  | .ref b :: r => if Gkd G b = kd then some (k, .ref b :: (st.take n).reverse, r) else none
  | _ => none
def xlo (l : List (Nat × Nat)) (k : Nat) : Option Nat := match l with
  | [] => none
  | e :: r => if k = e.1 then some e.2 else xlo r k
def x_clv (n : Nat) (l : List (Nat × Nat)) : XQ := fun st G => match st.drop n with
  | .ref b :: r => match xlo l (Gkd G b) with
    | some k => some (k, .ref b :: (st.take n).reverse, r)
    | none => none
  | _ => none
theorem xlo_mem {l : List (Nat × Nat)} {k v : Nat} (h : xlo l k = some v) : (k, v) ∈ l := by
  induction l with
  | nil => simp [xlo] at h
  | cons e r ih =>
    unfold xlo at h
    split at h
    · next hk => cases h; rw [hk]; exact List.mem_cons_self
    · exact List.mem_cons_of_mem _ (ih h)
theorem xdrop {st r : List Value} {n b : Nat} (h : st.drop n = .ref b :: r) : st = (st.take n).reverse.reverse ++ .ref b :: r ∧ (st.take n).reverse.length = n := by
  refine ⟨by rw [List.reverse_reverse, ← h, List.take_append_drop], ?_⟩
  rw [List.length_reverse, List.length_take]
  have : n < st.length := by
    rcases Nat.lt_or_ge n st.length with q | q
    · exact q
    · rw [List.drop_eq_nil_of_le q] at h; cases h
  omega
theorem xcl1_sp {n kd k : Nat} {st : List Value} {G : XG} {k' : Nat} {as st' : List Value} (h : x_cl1 n kd k st G = some (k', as, st')) : ∃ b, st.drop n = .ref b :: st' ∧ Gkd G b = kd ∧ k' = k ∧ as = .ref b :: (st.take n).reverse := by
  unfold x_cl1 at h
  split at h
  · next b r hb =>
    split at h
    · next hk => cases h; exact ⟨b, hb, hk, rfl, rfl⟩
    · cases h
  · cases h
section XCALLS
variable {ms : Nat → XM} {M M' : XM} {pc npc : Nat}
theorem xokc_list {n : Nat} {l : List (Nat × Nat)} (h : ∀ e ∈ l, XOkC ms M pc npc (x_cl1 n e.1 e.2)) : XOkC ms M pc npc (x_clv n l) := by
  intro st G k' as st' hq
  unfold x_clv at hq
  split at hq
  · next b r hb =>
    split at hq
    · next k hk =>
      cases hq
      exact h _ (xlo_mem hk) st G k' _ st' (by unfold x_cl1; rw [hb]; simp)
    · cases hq
  · cases hq
/-- the receiver's cell -/
theorem xrec {D : va_G} {base : Nat} {SV : Nat → Value} {s : State} {G : XG} {H : Heap} {b c0 : Nat} {r : vw_C} (hT : XTF D SV s) (hR : XRel D base SV s G H) (hk : Gkd G b = c0 + 1) (hr : (c0, r) ∈ xclL) (h9 : c0 < 99) : ∃ cell : Cell, H[b]? = some cell ∧ cell.vm.isStatics = false ∧ s.vm.findClass r.1 = some cell.cls := by
  obtain ⟨-, hc⟩ := hR.2.2.2.1 b (by omega)
  unfold xcell at hc
  rw [if_pos (by omega), hk] at hc
  obtain ⟨r', hr', ⟨cell, g1, g2, g3, g4⟩, -⟩ := hc
  cases xob_uniq hr hr'
  obtain ⟨-, hfc, -⟩ := hT.1 _ hr
  exact ⟨cell, g1, by rw [g3]; rfl, by rw [g2]; exact hfc⟩
theorem xws0 (h : xmh M' = []) : xws M' = Cond.code (xmy M') (xmc M') (xmL M') (xmr M') :: lw_all := by unfold xws; rw [if_pos h]
theorem xws1 (h : xmh M' ≠ []) : xws M' = Cond.codeWith (xmy M') (xmc M') (xmL M') (xmr M') (xmh M') :: lw_all := by unfold xws; rw [if_neg h]

theorem xokc_V {ix n c0 k : Nat} {r : vw_C} (hm : ms k = M') (hr : (c0, r) ∈ xclL) (h9 : c0 < 99) (hh : xmh M' = []) (d : decode (xmc M) pc = .ok (.invokevirtual ix, 3)) (q1 : Cond.methodLink (xmy M).cls ix (xmy M') ∈ lw_all) (q2 : Cond.instanceMethod (xmy M') ∈ lw_all) (q3 : Cond.selects r.1 (xmy M') (xmy M') ∈ lw_all) (q4 : Cond.initialized r.1 ∈ lw_all) (q5 : Cond.code (xmy M') (xmc M') (xmL M') (xmr M') ∈ lw_all)
    (hd : (xmy M').cls = r.1 ∧ (xmy M').cls ≠ "java/lang/invoke/MethodHandle" ∧ (xmy M').cls ≠ "java/lang/invoke/VarHandle" ∧ (parseMethodDescriptor (xmy M').desc).map (fun d => d.parameters.length) = some n) : XOkC ms M pc (pc + 3) (x_cl1 n (c0 + 1) k) := by
  intro st G k' as st' hq D base SV p l e R s m args below meth c H locs cells slots ls mc mS rm Pc Qc XC9 free hC hT hR hls hM e1 e2 hfr hlo hbl hpre hw hc hs
  obtain ⟨b, hb, hk, rfl, rfl⟩ := xcl1_sp hq
  obtain ⟨z1, z2⟩ := xdrop hb
  rw [hm] at hM hlo
  rw [xws0 hh] at hM
  exact vx_runV ⟨hC.1, hC.2.1, hC.2.2.1, hC.2.2.2.1, hC.2.2.2.2.1⟩ hM (cwV n hC.2.2.2.2.1 (lw_V q1 q2 q3 q4 q5) rfl e1 e2 hd ⟨hfr, hlo⟩) ⟨hbl, xrec hT hR hk hr h9, hpre⟩ rfl z2 hls z1 (by show 2 * 0 + xwt st' ≤ 8; omega) d ⟨hc, hs⟩
theorem xokc_VX {ix n c0 k : Nat} {r : vw_C} (hm : ms k = M') (hr : (c0, r) ∈ xclL) (h9 : c0 < 99) (hh : xmh M' ≠ []) (d : decode (xmc M) pc = .ok (.invokevirtual ix, 3)) (q1 : Cond.methodLink (xmy M).cls ix (xmy M') ∈ lw_all) (q2 : Cond.instanceMethod (xmy M') ∈ lw_all) (q3 : Cond.selects r.1 (xmy M') (xmy M') ∈ lw_all) (q4 : Cond.initialized r.1 ∈ lw_all) (q5 : Cond.codeWith (xmy M') (xmc M') (xmL M') (xmr M') (xmh M') ∈ lw_all)
    (hd : (xmy M').cls = r.1 ∧ (xmy M').cls ≠ "java/lang/invoke/MethodHandle" ∧ (xmy M').cls ≠ "java/lang/invoke/VarHandle" ∧ (parseMethodDescriptor (xmy M').desc).map (fun d => d.parameters.length) = some n) : XOkC ms M pc (pc + 3) (x_cl1 n (c0 + 1) k) := by
  intro st G k' as st' hq D base SV p l e R s m args below meth c H locs cells slots ls mc mS rm Pc Qc XC9 free hC hT hR hls hM e1 e2 hfr hlo hbl hpre hw hc hs
  obtain ⟨b, hb, hk, rfl, rfl⟩ := xcl1_sp hq
  obtain ⟨z1, z2⟩ := xdrop hb
  rw [hm] at hM hlo
  rw [xws1 hh] at hM
  exact vx_runVX ⟨hC.1, hC.2.1, hC.2.2.1, hC.2.2.2.1, hC.2.2.2.2.1⟩ hM (vx_cwVW n hC.2.2.2.2.1 (lw_VW q1 q2 q3 q4 q5) rfl e1 e2 hd ⟨hfr, hlo⟩) ⟨hbl, xrec hT hR hk hr h9, hpre⟩ rfl z2 hls z1 (by show 2 * 0 + xwt st' ≤ 8; omega) d ⟨hc, hs⟩
theorem xcls_sp {n k : Nat} {st : List Value} {G : XG} {k' : Nat} {as st' : List Value} (h : x_cls k n st G = some (k', as, st')) : st = as.reverse ++ st' ∧ as.length = n ∧ k' = k := by
  unfold x_cls at h
  split at h
  · next hn =>
    cases h
    refine ⟨by rw [List.reverse_reverse, List.take_append_drop], ?_, rfl⟩
    rw [List.length_reverse, List.length_take]
    omega
  · cases h
theorem xokc_S {ix n k : Nat} (hm : ms k = M') (hh : xmh M' = []) (d : decode (xmc M) pc = .ok (.invokestatic ix, 3)) (q1 : Cond.methodLink (xmy M).cls ix (xmy M') ∈ lw_all) (q2 : Cond.static (xmy M') ∈ lw_all) (q4 : Cond.initialized (xmy M').cls ∈ lw_all) (q5 : Cond.code (xmy M') (xmc M') (xmL M') (xmr M') ∈ lw_all)
    (hd : (xmy M').cls ≠ "java/lang/invoke/MethodHandle" ∧ (xmy M').cls ≠ "java/lang/invoke/VarHandle" ∧ (parseMethodDescriptor (xmy M').desc).map (fun d => d.parameters.length) = some n) : XOkC ms M pc (pc + 3) (x_cls k n) := by
  intro st G k' as st' hq D base SV p l e R s m args below meth c H locs cells slots ls mc mS rm Pc Qc XC9 free hC hT hR hls hM e1 e2 hfr hlo hbl hpre hw hc hs
  obtain ⟨z1, z2, rfl⟩ := xcls_sp hq
  rw [hm] at hM hlo
  rw [xws0 hh] at hM
  exact vx_runS ⟨hC.1, hC.2.1, hC.2.2.1, hC.2.2.2.1, hC.2.2.2.2.1⟩ hM (va_cwS n hC.2.2.2.2.1 (lw_S q1 q2 q4 q5) rfl e1 e2 hd ⟨hfr, hlo⟩) ⟨hbl, hpre⟩ rfl z2 hls z1 (by show 2 * 0 + xwt st' ≤ 8; omega) d ⟨hc, hs⟩
theorem xokc_SN {ix n k : Nat} {host : String} (hm : ms k = M') (hh : xmh M' = []) (d : decode (xmc M) pc = .ok (.invokestatic ix, 3)) (q1 : ((xmy M).cls, ix, xmy M', host) ∈ xnM) (q2 : Cond.static (xmy M') ∈ lw_all) (q4 : Cond.initialized (xmy M').cls ∈ lw_all) (q5 : Cond.code (xmy M') (xmc M') (xmL M') (xmr M') ∈ lw_all)
    (hd : (xmy M').cls ≠ "java/lang/invoke/MethodHandle" ∧ (xmy M').cls ≠ "java/lang/invoke/VarHandle" ∧ (parseMethodDescriptor (xmy M').desc).map (fun d => d.parameters.length) = some n) : XOkC ms M pc (pc + 3) (x_cls k n) := by
  intro st G k' as st' hq D base SV p l e R s m args below meth c H locs cells slots ls mc mS rm Pc Qc XC9 free hC hT hR hls hM e1 e2 hfr hlo hbl hpre hw hc hs
  obtain ⟨z1, z2, rfl⟩ := xcls_sp hq
  rw [hm] at hM hlo
  rw [xws0 hh] at hM
  exact vx_runSN ⟨hC.1, hC.2.1, hC.2.2.1, hC.2.2.2.1, hC.2.2.2.2.1⟩ hM ⟨va_cnB n hC.2.2.2.2.1 (lw_meth q5) rfl e1 e2 (hT.2.2.1 _ q1) (hC.2.2.2.2.1 _ q4) hd ⟨hfr, hlo⟩, hC.2.2.2.2.1 _ q2, trivial⟩ ⟨hbl, hpre⟩ rfl z2 hls z1 (by show 2 * 0 + xwt st' ≤ 8; omega) d ⟨hc, hs⟩
theorem xcli_sp {n k : Nat} {st : List Value} {G : XG} {k' : Nat} {as st' : List Value} (h : x_cli k n st G = some (k', as, st')) : ∃ b, st.drop n = .ref b :: st' ∧ k' = k ∧ as = .ref b :: (st.take n).reverse := by
  unfold x_cli at h
  split at h
  · next b r hb => cases h; exact ⟨b, hb, rfl, rfl⟩
  · cases h
theorem xokc_I {ix n k : Nat} (hm : ms k = M') (hh : xmh M' = []) (hret : xmr M' = none) (d : decode (xmc M) pc = .ok (.invokespecial ix, 3)) (q1 : Cond.methodLink (xmy M).cls ix (xmy M') ∈ lw_all) (q2 : Cond.instanceMethod (xmy M') ∈ lw_all) (q4 : Cond.initialized (xmy M').cls ∈ lw_all) (q5 : Cond.code (xmy M') (xmc M') (xmL M') (xmr M') ∈ lw_all) (hn : (xmy M').name = "<init>")
    (hd : (xmy M').cls ≠ "java/lang/invoke/MethodHandle" ∧ (xmy M').cls ≠ "java/lang/invoke/VarHandle" ∧ (parseMethodDescriptor (xmy M').desc).map (fun d => d.parameters.length) = some n) : XOkC ms M pc (pc + 3) (x_cli k n) := by
  intro st G k' as st' hq D base SV p l e R s m args below meth c H locs cells slots ls mc mS rm Pc Qc XC9 free hC hT hR hls hM e1 e2 hfr hlo hbl hpre hw hc hs
  obtain ⟨b, hb, rfl, rfl⟩ := xcli_sp hq
  obtain ⟨z1, z2⟩ := xdrop hb
  rw [hm] at hM hlo
  rw [xws0 hh] at hM
  rw [hret] at hM q5
  exact vx_runI ⟨hC.1, hC.2.1, hC.2.2.1, hC.2.2.2.1, hC.2.2.2.2.1⟩ hM (cwI n hC.2.2.2.2.1 (lw_meth q5) rfl e1 e2 (hC.2.2.2.2.1 _ q4) (hC.2.2.2.2.1 _ q1) (hC.2.2.2.2.1 _ q2) hn hd ⟨hfr, hlo⟩) ⟨hbl, hpre⟩ rfl z2 hls z1 (by show 2 * 0 + xwt st' ≤ 8; omega) d ⟨hc, hs⟩
theorem xokc_IN {ix n k : Nat} {host : String} (hm : ms k = M') (hh : xmh M' = []) (hret : xmr M' = none) (d : decode (xmc M) pc = .ok (.invokespecial ix, 3)) (q1 : ((xmy M).cls, ix, xmy M', host) ∈ xnM) (q2 : Cond.instanceMethod (xmy M') ∈ lw_all) (q4 : Cond.initialized (xmy M').cls ∈ lw_all) (q5 : Cond.code (xmy M') (xmc M') (xmL M') (xmr M') ∈ lw_all) (hn : (xmy M').name = "<init>")
    (hd : (xmy M').cls ≠ "java/lang/invoke/MethodHandle" ∧ (xmy M').cls ≠ "java/lang/invoke/VarHandle" ∧ (parseMethodDescriptor (xmy M').desc).map (fun d => d.parameters.length) = some n) : XOkC ms M pc (pc + 3) (x_cli k n) := by
  intro st G k' as st' hq D base SV p l e R s m args below meth c H locs cells slots ls mc mS rm Pc Qc XC9 free hC hT hR hls hM e1 e2 hfr hlo hbl hpre hw hc hs
  obtain ⟨b, hb, rfl, rfl⟩ := xcli_sp hq
  obtain ⟨z1, z2⟩ := xdrop hb
  rw [hm] at hM hlo
  rw [xws0 hh] at hM
  rw [hret] at hM q5
  exact vx_runIN ⟨hC.1, hC.2.1, hC.2.2.1, hC.2.2.2.1, hC.2.2.2.2.1⟩ hM ⟨va_cnB n hC.2.2.2.2.1 (lw_meth q5) rfl e1 e2 (hT.2.2.1 _ q1) (hC.2.2.2.2.1 _ q4) hd ⟨hfr, hlo⟩, hn, hC.2.2.2.2.1 _ q2⟩ ⟨hbl, hpre⟩ rfl z2 hls z1 (by show 2 * 0 + xwt st' ≤ 8; omega) d ⟨hc, hs⟩
theorem xokc_VN {ix n c0 k : Nat} {host : String} {r : vw_C} (hm : ms k = M') (hr : (c0, r) ∈ xclL) (h9 : c0 < 99) (hh : xmh M' = []) (d : decode (xmc M) pc = .ok (.invokevirtual ix, 3)) (q1 : ((xmy M).cls, ix, xmy M', host) ∈ xnM) (q2 : Cond.instanceMethod (xmy M') ∈ lw_all) (q3 : Cond.selects r.1 (xmy M') (xmy M') ∈ lw_all) (q4 : Cond.initialized (xmy M').cls ∈ lw_all) (q5 : Cond.code (xmy M') (xmc M') (xmL M') (xmr M') ∈ lw_all)
    (hd : (xmy M').cls ≠ "java/lang/invoke/MethodHandle" ∧ (xmy M').cls ≠ "java/lang/invoke/VarHandle" ∧ (parseMethodDescriptor (xmy M').desc).map (fun d => d.parameters.length) = some n) : XOkC ms M pc (pc + 3) (x_cl1 n (c0 + 1) k) := by
  intro st G k' as st' hq D base SV p l e R s m args below meth c H locs cells slots ls mc mS rm Pc Qc XC9 free hC hT hR hls hM e1 e2 hfr hlo hbl hpre hw hc hs
  obtain ⟨b, hb, hk, rfl, rfl⟩ := xcl1_sp hq
  obtain ⟨z1, z2⟩ := xdrop hb
  rw [hm] at hM hlo
  rw [xws0 hh] at hM
  exact vx_runVN ⟨hC.1, hC.2.1, hC.2.2.1, hC.2.2.2.1, hC.2.2.2.2.1⟩ hM ⟨va_cnB n hC.2.2.2.2.1 (lw_meth q5) rfl e1 e2 (hT.2.2.1 _ q1) (hC.2.2.2.2.1 _ q4) hd ⟨hfr, hlo⟩, hC.2.2.2.2.1 _ q2, hC.2.2.2.2.1 _ q3⟩ ⟨hbl, xrec hT hR hk hr h9, hpre⟩ rfl z2 hls z1 (by show 2 * 0 + xwt st' ≤ 8; omega) d ⟨hc, hs⟩
/-- an inherited method, called by the name of its heir or its owner -/
theorem xokc_U {ix n c0 k : Nat} {r : vw_C} {x : MethodName} (hm : ms k = M') (hr : (c0, r) ∈ xclL) (h9 : c0 < 99) (hh : xmh M' = []) (d : decode (xmc M) pc = .ok (.invokevirtual ix, 3)) (q1 : Cond.methodLink (xmy M).cls ix x ∈ lw_all) (qs : Cond.sameMethod x.cls (xmy M').cls x.name x.desc ∈ lw_all) (q3 : Cond.selects r.1 x (xmy M') ∈ lw_all) (q2 : Cond.instanceMethod (xmy M') ∈ lw_all) (q4 : Cond.initialized (xmy M').cls ∈ lw_all) (q5 : Cond.code (xmy M') (xmc M') (xmL M') (xmr M') ∈ lw_all)
    (hx : xmy M' = ⟨(xmy M').cls, x.name, x.desc⟩) (hd : (xmy M').cls ≠ "java/lang/invoke/MethodHandle" ∧ (xmy M').cls ≠ "java/lang/invoke/VarHandle" ∧ (parseMethodDescriptor x.desc).map (fun d => d.parameters.length) = some n) : XOkC ms M pc (pc + 3) (x_cl1 n (c0 + 1) k) := by
  intro st G k' as st' hq D base SV p l e R s m args below meth c H locs cells slots ls mc mS rm Pc Qc XC9 free hC hT hR hls hM e1 e2 hfr hlo hbl hpre hw hc hs
  obtain ⟨b, hb, hk, rfl, rfl⟩ := xcl1_sp hq
  obtain ⟨z1, z2⟩ := xdrop hb
  rw [hm] at hM hlo
  rw [xws0 hh] at hM
  refine vx_runU (x := x) (owner := (xmy M').cls) ⟨hC.1, hC.2.1, hC.2.2.1, hC.2.2.2.1, hC.2.2.2.2.1⟩ hM (va_cwU n hC.2.2.2.2.1 (lw_app ?_ (lw_meth q5)) rfl e1 e2 hx hd ⟨hfr, hlo⟩) ⟨hbl, xrec hT hR hk hr h9, hpre⟩ rfl z2 hls z1 (by show 2 * 0 + xwt st' ≤ 8; omega) d ⟨hc, hs⟩
  intro w hw
  simp only [List.mem_cons, List.not_mem_nil, or_false] at hw
  rcases hw with e | e | e | e | e <;> rw [e] <;> assumption
/-- one that overrides another, called by the other's name -/
theorem xokc_O {ix n c0 k : Nat} {r : vw_C} {x : MethodName} {owner : String} {b0 : ByteArray} {m0 : Nat} {r0 : Option FieldType} (hm : ms k = M') (hr : (c0, r) ∈ xclL) (h9 : c0 < 99) (hh : xmh M' = []) (d : decode (xmc M) pc = .ok (.invokevirtual ix, 3)) (q1 : Cond.methodLink (xmy M).cls ix x ∈ lw_all) (qs : Cond.sameMethod x.cls owner x.name x.desc ∈ lw_all) (qi : Cond.instanceMethod ⟨owner, x.name, x.desc⟩ ∈ lw_all) (q3 : Cond.selects r.1 x (xmy M') ∈ lw_all) (q2 : Cond.instanceMethod (xmy M') ∈ lw_all) (q4 : Cond.initialized (xmy M').cls ∈ lw_all) (q5 : Cond.code (xmy M') (xmc M') (xmL M') (xmr M') ∈ lw_all)
    (q0 : Cond.code ⟨owner, x.name, x.desc⟩ b0 m0 r0 ∈ lw_all) (hd : owner ≠ "java/lang/invoke/MethodHandle" ∧ owner ≠ "java/lang/invoke/VarHandle" ∧ (parseMethodDescriptor x.desc).map (fun d => d.parameters.length) = some n) : XOkC ms M pc (pc + 3) (x_cl1 n (c0 + 1) k) := by
  intro st G k' as st' hq D base SV p l e R s m args below meth c H locs cells slots ls mc mS rm Pc Qc XC9 free hC hT hR hls hM e1 e2 hfr hlo hbl hpre hw hc hs
  obtain ⟨b, hb, hk, rfl, rfl⟩ := xcl1_sp hq
  obtain ⟨z1, z2⟩ := xdrop hb
  rw [hm] at hM hlo
  rw [xws0 hh] at hM
  refine vx_runU (x := x) (owner := owner) ⟨hC.1, hC.2.1, hC.2.2.1, hC.2.2.2.1, hC.2.2.2.2.1⟩ hM (va_cwO n hC.2.2.2.2.1 (lw_app ?_ (lw_meth q5)) rfl e1 e2 q0 hd ⟨hfr, hlo⟩) ⟨hbl, xrec hT hR hk hr h9, hpre⟩ rfl z2 hls z1 (by show 2 * 0 + xwt st' ≤ 8; omega) d ⟨hc, hs⟩
  intro w hw
  simp only [List.mem_cons, List.not_mem_nil, or_false] at hw
  rcases hw with e | e | e | e | e | e <;> rw [e] <;> assumption
/-- .. the other is abstract -/
theorem xokc_A {ix n c0 k : Nat} {r : vw_C} {x : MethodName} {owner : String} (hm : ms k = M') (hr : (c0, r) ∈ xclL) (h9 : c0 < 99) (hh : xmh M' = []) (d : decode (xmc M) pc = .ok (.invokevirtual ix, 3)) (q1 : Cond.methodLink (xmy M).cls ix x ∈ lw_all) (qs : Cond.sameMethod x.cls owner x.name x.desc ∈ lw_all) (qd : (⟨owner, x.name, x.desc⟩ : MethodName) ∈ xnD) (q3 : Cond.selects r.1 x (xmy M') ∈ lw_all) (q2 : Cond.instanceMethod (xmy M') ∈ lw_all) (q4 : Cond.initialized (xmy M').cls ∈ lw_all) (q5 : Cond.code (xmy M') (xmc M') (xmL M') (xmr M') ∈ lw_all)
    (hd : owner ≠ "java/lang/invoke/MethodHandle" ∧ owner ≠ "java/lang/invoke/VarHandle" ∧ (parseMethodDescriptor x.desc).map (fun d => d.parameters.length) = some n) : XOkC ms M pc (pc + 3) (x_cl1 n (c0 + 1) k) := by
  intro st G k' as st' hq D base SV p l e R s m args below meth c H locs cells slots ls mc mS rm Pc Qc XC9 free hC hT hR hls hM e1 e2 hfr hlo hbl hpre hw hc hs
  obtain ⟨b, hb, hk, rfl, rfl⟩ := xcl1_sp hq
  obtain ⟨z1, z2⟩ := xdrop hb
  rw [hm] at hM hlo
  rw [xws0 hh] at hM
  refine vx_runU (x := x) (owner := owner) ⟨hC.1, hC.2.1, hC.2.2.1, hC.2.2.2.1, hC.2.2.2.2.1⟩ hM (va_cwA n hC.2.2.2.2.1 (lw_app ?_ (lw_meth q5)) rfl e1 e2 (hT.2.2.2.2.2.2.2.2 _ qd) hd ⟨hfr, hlo⟩) ⟨hbl, xrec hT hR hk hr h9, hpre⟩ rfl z2 hls z1 (by show 2 * 0 + xwt st' ≤ 8; omega) d ⟨hc, hs⟩
  intro w hw
  simp only [List.mem_cons, List.not_mem_nil, or_false] at hw
  rcases hw with e | e | e | e | e <;> rw [e] <;> assumption
/-- by an interface -/
theorem xokc_F {ix cnt n c0 k : Nat} {r : vw_C} {x : MethodName} (hm : ms k = M') (hr : (c0, r) ∈ xclL) (h9 : c0 < 99) (hh : xmh M' = []) (d : decode (xmc M) pc = .ok (.invokeinterface ix cnt, 5)) (q1 : Cond.methodLink (xmy M).cls ix x ∈ lw_all) (q3 : Cond.selects r.1 x (xmy M') ∈ lw_all) (q2 : Cond.instanceMethod (xmy M') ∈ lw_all) (q4 : Cond.initialized (xmy M').cls ∈ lw_all) (qF : (r.1, x, xmy M') ∈ xnI) (q5 : Cond.code (xmy M') (xmc M') (xmL M') (xmr M') ∈ lw_all)
    (hd : x.cls ≠ "java/lang/invoke/MethodHandle" ∧ x.cls ≠ "java/lang/invoke/VarHandle" ∧ (parseMethodDescriptor x.desc).map (fun d => d.parameters.length) = some n) : XOkC ms M pc (pc + 5) (x_cl1 n (c0 + 1) k) := by
  intro st G k' as st' hq D base SV p l e R s m args below meth c H locs cells slots ls mc mS rm Pc Qc XC9 free hC hT hR hls hM e1 e2 hfr hlo hbl hpre hw hc hs
  obtain ⟨b, hb, hk, rfl, rfl⟩ := xcl1_sp hq
  obtain ⟨z1, z2⟩ := xdrop hb
  rw [hm] at hM hlo
  rw [xws0 hh] at hM
  refine vx_runF (x := x) (hT.1 _ hr).2 ⟨hC.1, hC.2.1, hC.2.2.1, hC.2.2.2.1, hC.2.2.2.2.1⟩ hM (va_cwF n hC.2.2.2.2.1 (lw_app ?_ (lw_meth q5)) rfl e1 e2 (hT.2.2.2.2.2.1 _ qF) hd ⟨hfr, hlo⟩) ⟨hbl, xrec hT hR hk hr h9, hpre⟩ rfl z2 hls z1 (by show 2 * 0 + xwt st' ≤ 8; omega) d ⟨hc, hs⟩
  intro w hw
  simp only [List.mem_cons, List.not_mem_nil, or_false] at hw
  rcases hw with e | e | e | e <;> rw [e] <;> assumption
theorem xokc_FW {ix cnt n c0 k : Nat} {r : vw_C} {x : MethodName} (hm : ms k = M') (hr : (c0, r) ∈ xclL) (h9 : c0 < 99) (hh : xmh M' ≠ []) (d : decode (xmc M) pc = .ok (.invokeinterface ix cnt, 5)) (q1 : Cond.methodLink (xmy M).cls ix x ∈ lw_all) (q3 : Cond.selects r.1 x (xmy M') ∈ lw_all) (q2 : Cond.instanceMethod (xmy M') ∈ lw_all) (q4 : Cond.initialized (xmy M').cls ∈ lw_all) (qF : (r.1, x, xmy M') ∈ xnI) (q5 : Cond.codeWith (xmy M') (xmc M') (xmL M') (xmr M') (xmh M') ∈ lw_all)
    (hd : x.cls ≠ "java/lang/invoke/MethodHandle" ∧ x.cls ≠ "java/lang/invoke/VarHandle" ∧ (parseMethodDescriptor x.desc).map (fun d => d.parameters.length) = some n) : XOkC ms M pc (pc + 5) (x_cl1 n (c0 + 1) k) := by
  intro st G k' as st' hq D base SV p l e R s m args below meth c H locs cells slots ls mc mS rm Pc Qc XC9 free hC hT hR hls hM e1 e2 hfr hlo hbl hpre hw hc hs
  obtain ⟨b, hb, hk, rfl, rfl⟩ := xcl1_sp hq
  obtain ⟨z1, z2⟩ := xdrop hb
  rw [hm] at hM hlo
  rw [xws1 hh] at hM
  refine vx_runFW (x := x) (hT.1 _ hr).2 ⟨hC.1, hC.2.1, hC.2.2.1, hC.2.2.2.1, hC.2.2.2.2.1⟩ hM (va_cwFW n hC.2.2.2.2.1 (lw_app ?_ (lw_methW q5)) rfl e1 e2 (hT.2.2.2.2.2.1 _ qF) hd ⟨hfr, hlo⟩) ⟨hbl, xrec hT hR hk hr h9, hpre⟩ rfl z2 hls z1 (by show 2 * 0 + xwt st' ≤ 8; omega) d ⟨hc, hs⟩
  intro w hw
  simp only [List.mem_cons, List.not_mem_nil, or_false] at hw
  rcases hw with e | e | e | e <;> rw [e] <;> assumption
end XCALLS
