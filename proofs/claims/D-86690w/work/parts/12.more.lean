set_option maxRecDepth 100000
/-! rows that want more: compares of longs, arraycopy, rows of rows, texts, handlers -/
/-- null into a row of rows (follows the kit's va_aastN0, va_WaastN) -/
theorem xaastN0 {p : Program} {l : Launch} {e : Env} {R : Room} {s : State} {m : MethodId} {args : Array Value} {below : List Frame} {meth : Method} {c : Code} {locs : List Loc} {cells slots : Nat} {T : State} (X : Stand p l e R s m args below meth c T locs cells slots) (hexec : p.tables.exec = Jvm.exec) {a : Addr} {cell : Cell} {C : FieldType} {j : Int32} (hcell : T.heap[a]? = some cell) (harr : s.isArrayOf cell (.array C)) (hknown : cell.vm ≠ .unknown)
    (hin : ¬ (j < 0 ∨ cell.slots.size ≤ j.toNatClampNeg))
    {g : JFrame} (hg : g.method = m) {rest : List Value} (hstack : g.stack = .null :: .int j :: .ref a :: rest) (hdg : decode c.code g.pc = .ok (.aastore, 1)) :
    Stand p l e R s m args below meth c (T.setCell a (cell.setSlot j.toNatClampNeg .null)) (locs ++ [⟨a, j.toNatClampNeg⟩]) cells slots ∧
      ∀ target, Steps p.tables e below ((T.setCell a (cell.setSlot j.toNatClampNeg .null)).setTop { g with pc := g.pc + 1, stack := rest }) target → Steps p.tables e below (T.setTop g) target := by
  have hT := State.isArrayOf_alike X.warmed.alike harr
  have hfit : T.fitsSlot cell.cls cell.vm j.toNatClampNeg .null = true := by
    obtain ⟨hobj, k, hk, comp, hkind⟩ := hT
    cases hvm : cell.vm <;> first | exact absurd hvm (hobj _) | simp [State.fitsSlot, State.slotType?, hk, hkind, fits]
  refine ⟨X.stored hcell _ _, fun target hrest => ?_⟩
  subst hg
  jvm_step X.here [hexec, hdg]
  refine aastore.wp_of_null (c := cell) (t := .array C) X.here.top hstack hcell hT hin hknown (Nat.not_le.mp fun q => hin (Or.inr q)) hfit ?_
  intro acts
  rw [afterInstr_ok]
  exact hrest
theorem xaastN5 {p : Program} {l : Launch} {e : Env} {R : Room} {s : State} {m : MethodId} {args : Array Value} {below : List Frame} {meth : Method} {c : Code} {H : Heap} {locs : List Loc} {cells slots : Nat} {Q : State → Prop} {cc : ByteArray} {pc : Nat} {ls : Array Slot} {rest : List Value} (hexec : p.tables.exec = Jvm.exec) (hb : c.code = cc) {a n : Nat} {cA : ClassId} {f : Nat → Value} {C : FieldType} {j : Int32} (hcell : H[a]? = some (arrV cA n f)) (harr : s.isArrayOf (arrV cA n f) (.array C)) (hin : ¬ j < 0 ∧ j.toNatClampNeg < n)
    (hdg : decode cc pc = .ok (.aastore, 1))
    (kk : ∀ H' : Heap, H'[a]? = some ((arrV cA n f).setSlot j.toNatClampNeg .null) → H'.size = H.size → (∀ q, q ≠ a → H'[q]? = H[q]?) → W p l e R s m args below meth c H' (locs ++ [⟨a, j.toNatClampNeg⟩]) cells slots Q (F0 m (pc + 1) ls rest)) :
    W p l e R s m args below meth c H locs cells slots Q (F0 m pc ls (.null :: .int j :: .ref a :: rest)) := by
  intro T hT X
  have hT' : T.heap[a]? = some (arrV cA n f) := by rw [hT]; exact hcell
  obtain ⟨X', st⟩ := xaastN0 X hexec hT' harr (fun h => by cases h) (by rw [arrV_size]; intro h; rcases h with h | h; exact hin.1 h; omega) (g := F0 m pc ls (.null :: .int j :: .ref a :: rest)) rfl rfl (by rw [hb]; exact hdg)
  have hlt : a < T.heap.size := (Array.getElem?_eq_some_iff.mp hT').1
  obtain ⟨t', a1, b1⟩ := kk _ (heapAt_setCell_self _ hlt) (by rw [size_setCell, hT]) (fun q hq => by rw [heapAt_setCell_ne _ (Ne.symm hq), hT]) (T.setCell a ((arrV cA n f).setSlot j.toNatClampNeg .null)) rfl X'
  exact ⟨t', st t' a1, b1⟩
section XMORE2
variable {M : XM} {pc npc : Nat}
theorem xok_lcmp (d : decode (xmc M) pc = .ok (.lcmp, 1)) : XOkP M pc (pc + 1) x_lcm := by
  refine xok_st fun L st G j L' st' G' hf => ?_
  unfold x_lcm at hf
  split at hf
  · next y x r =>
    cases hf
    exact ⟨rfl, rfl, fun hC _ _ _ _ _ _ k => W.lcmp hC.1 hC.2.1 d k⟩
  · cases hf
theorem xtoInt {z : Int32} (hz : ¬ z < 0) : z.toInt = (z.toNatClampNeg : Int) := by
  have hz0 : (0 : Int) ≤ z.toInt := by
    have := Int32.not_lt.mp hz
    simpa using Int32.le_iff_toInt_le.mp this
  show z.toInt = ((z.toInt.toNat : Nat) : Int)
  omega
/-- a row is written over, whole -/
theorem xrow {t : Nat} {G G' : XG} {b : Nat} {F : Nat → Value} {cB : ClassId} {H H' : Heap} {D : va_G} {base : Nat} {SV : Nat → Value} {s : State} (hR : XRel D base SV s G H) (ht : t < 100) (hk : Gkd G b = 100 + t) (q2 : ArrOfT s cB (xaty t)) (q3 : va_RA s cB (xaty t)) (q4 : base ≤ b)
    (h0 : xav t G' b = F) (h1 : Gkd G' = Gkd G) (h2 : Gln G' = Gln G) (h3 : Gfi G' = Gfi G) (h4 : Gfr G' = Gfr G) (h5 : ∀ q, q ≠ b → Gai G' q = Gai G q) (h6 : ∀ q, q ≠ b → Gal G' q = Gal G q) (h7 : ∀ q, q ≠ b → Gar G' q = Gar G q) (h8 : Gtp G' = Gtp G) (h9 : Gsv G' = Gsv G)
    (e1 : H'[b]? = some (arrV cB (Gln G b) F)) (e2 : H'.size = H.size) (e3 : ∀ q, q ≠ b → H'[q]? = H[q]?) : XRel D base SV s G' H' := by
  refine hR.upd e2 e3 q4 h1 h2 (fun g q _ => by rw [h3]) (fun g q _ => by rw [h4]) h5 h6 h7 h8 h9 ?_
  unfold xcell
  rw [h1, h2, if_neg (by omega), if_pos (by omega)]
  have e : Gkd G b % 100 = t := by omega
  rw [e]
  exact ⟨cB, by rw [e1, h0], q2, q3, fun _ => q4⟩
/-- arraycopy at the machine -/
theorem xcpy {α : Type} {mk : α → Value} {f g : Nat → α} {cA cB : ClassId} {n0 n1 : Nat} {tyA tyB : FieldType} {a b ix : Nat} {sp dp n : Int32} {r : List Value}
    (d : decode (xmc M) pc = .ok (.invokestatic ix, 3)) (q1 : Cond.methodLink (xmy M).cls ix arraycopyName ∈ lw_all) (qn : Cond.native arraycopyName ∈ lw_all) (qs : Cond.static arraycopyName ∈ lw_all) (qi : Cond.initialized "java/lang/System" ∈ lw_all)
    {p : Program} {l : Launch} {e : Env} {R : Room} {s : State} {m : MethodId} {args : Array Value} {below : List Frame} {meth : Method} {c : Code} {H : Heap} {locs : List Loc} {cells slots : Nat} {Q : State → Prop} {ls : Array Slot}
    (hC : XCx p s m args meth c M) (hls : ls.size = xmL M) (hfr : 6 ≤ R.frames) (hlo : 100 ≤ R.locals) (hw : xwt r ≤ 8)
    (hA : H[a]? = some (arrV cA n0 (fun j => mk (f j)))) (hB : H[b]? = some (arrV cB n1 (fun j => mk (g j)))) (hAt : ArrOfT s cA tyA) (hBt : ArrOfT s cB tyB) (hty : ((refKind tyA != refKind tyB) || (!refKind tyA && tyA != tyB)) = false)
    (h1 : ¬ sp < 0) (h2 : ¬ dp < 0) (h3 : ¬ n < 0) (h4 : sp.toNatClampNeg + n.toNatClampNeg ≤ n0) (h5 : dp.toNatClampNeg + n.toNatClampNeg ≤ n1)
    (hel : ∀ (kB : Class) (compB : ClassId), s.vm.classes[cB]? = some kB → kB.kind = .array compB tyB → ∀ (T : State) (vm' : Vm), T.heap = H → s.vm.Alike vm' → ∀ i, i < n.toNatClampNeg → fits tyB (mk (f (sp.toNatClampNeg + i))) = true ∧ (T.setVm vm').takes compB (mk (f (sp.toNatClampNeg + i))))
    (kk : ∀ (H1 : Heap) (locs1 : List Loc), H1[b]? = some (arrV cB n1 (fun j => mk (va_cpy f g sp.toNatClampNeg dp.toNatClampNeg n.toNatClampNeg j))) → H1.size = H.size → (∀ q, q ≠ b → H1[q]? = H[q]?) → (∀ z ∈ locs1, z ∈ locs ∨ z.base = b) → W p l e R s m args below meth c H1 locs1 cells slots Q (F0 m (pc + 3) ls r)) :
    W p l e R s m args below meth c H locs cells slots Q (F0 m pc ls (.int n :: .int dp :: .ref b :: .int sp :: .ref a :: r)) := by
  have hts := hC.2.2.2.2.1
  intro T hT X
  obtain ⟨-, kA, hkA, cmA, hkkA⟩ := hAt n0 (fun j => mk (f j))
  obtain ⟨-, kB, hkB, cmB, hkkB⟩ := hBt n1 (fun j => mk (g j))
  obtain ⟨vm', X', step⟩ := X.arraycopy hC.1 hC.2.2.2.1 (hts _ q1) (hts _ qn) (hts _ qs) (hts _ qi) (src := a) (dst := b) (cs := arrV cA n0 (fun j => mk (f j))) (cd := arrV cB n1 (fun j => mk (g j))) (srcPos := sp) (destPos := dp) (n := n) (by rw [hT]; exact hA) (by rw [hT]; exact hB)
    (fun _ h => by cases h) (fun _ h => by cases h) (fun h => by cases h) (fun h => by cases h) hkA hkB hkkA hkkB hty h1 h2 h3
    (by rw [xtoInt h1, xtoInt h3, arrV_size]; omega)
    (by rw [xtoInt h2, xtoInt h3, arrV_size]; omega)
    (fun vm₁ hal i hi => by
      have e : (arrV cA n0 (fun j => mk (f j))).slots.getD (sp.toNatClampNeg + i) .null = mk (f (sp.toNatClampNeg + i)) := by
        rw [Array.getD_eq_getD_getElem?, arrV_read _ _ (by omega)]
        rfl
      rw [e]
      exact hel kB cmB hkB hkkB T vm₁ hT hal i hi)
    (g := F0 m pc ls (.int n :: .int dp :: .ref b :: .int sp :: .ref a :: r)) rfl (by rw [hC.2.2.1]; exact hls) (rest := r) rfl (by rw [hC.2.1]; exact d) (by omega) (by
      have hw : (r.map fun v => v.category).sum ≤ 8 := hw
      have h11 : nativeFrameWords "java/lang/System" "arraycopy" 5 ≤ 60 := by decide +kernel
      show 2 * 0 + _ + _ ≤ _
      omega)
  have e1 : copied (arrV cA n0 (fun j => mk (f j))) (arrV cB n1 (fun j => mk (g j))) sp dp n = arrV cB n1 (fun j => mk (va_cpy f g sp.toNatClampNeg dp.toNatClampNeg n.toNatClampNeg j)) := va_copied mk cA cB f g h4
  rw [e1] at X' step
  have hl : b < H.size := (Array.getElem?_eq_some_iff.mp hB).1
  obtain ⟨t, a1, b1⟩ := kk (H.setIfInBounds b (arrV cB n1 (fun j => mk (va_cpy f g sp.toNatClampNeg dp.toNatClampNeg n.toNatClampNeg j)))) _ (by simp [Array.getElem?_setIfInBounds, hl]) (by simp) (fun q hq => by simp [Array.getElem?_setIfInBounds, Ne.symm hq]) (fun z hz => by
      rcases List.mem_append.mp hz with h | h
      · exact Or.inl h
      · obtain ⟨y, -, hy⟩ := List.mem_map.mp h
        exact Or.inr (by rw [← hy])) _ (by rw [← hT]; rfl) X'
  exact ⟨t, step t a1, b1⟩
theorem va_S.row {A : Nat → Prop} {H0 H H1 : Heap} {locs locs1 : List Loc} {b : Nat} (h : va_S A H0 H locs) (z : H1.size = H.size) (oq : ∀ q : Nat, q ≠ b → H1[q]? = H[q]?) (hb : A b) (hl : ∀ z ∈ locs1, z ∈ locs ∨ z.base = b) : va_S A H0 H1 locs1 := by
  refine ⟨by rw [z]; exact h.1, fun q h1 h2 => ?_, fun q hq => ?_⟩
  · rw [oq q (fun e => h2 (e ▸ hb))]
    exact h.2.1 q h1 h2
  · rcases hl q hq with e | e
    · exact h.2.2 q e
    · rw [e]; exact hb
theorem xok_cpi {ix : Nat} (d : decode (xmc M) pc = .ok (.invokestatic ix, 3)) (q1 : Cond.methodLink (xmy M).cls ix arraycopyName ∈ lw_all) : XOkP M pc (pc + 3) x_cpi := by
  intro L st G j L' st' G' h
  unfold x_cpi at h
  split at h
  · next n dp b sp a r =>
    split at h
    · next hc =>
      cases h
      obtain ⟨hw, c1, c2, c3, c4, c5, c6, c7⟩ := hc
      refine ⟨⟨Nat.le_refl _, Nat.le_refl _, rfl⟩, fun {D base SV p l e R s m args below meth c0 H locs cells slots Q ls} hC hT hR hL hS _ hfr hlo _ _ k => ?_⟩
      obtain ⟨cA, q1a, q2a, -⟩ := xarr (t := 0) hR (by decide) (Or.inl c6)
      obtain ⟨cB, q1b, q2b, q3b, q4b⟩ := xarr (t := 0) hR (by decide) (Or.inl c7)
      refine xcpy (mk := fun z => .int z) (f := Gai G a) (g := Gai G b) d q1 q1230 q1229 q178 hC hL.2.1 hfr hlo hw q1a q1b q2a q2b rfl c1 c2 c3 c4 c5 (fun _ _ _ _ _ _ _ _ i hi => ⟨rfl, trivial⟩) fun H1 locs1 e1 e2 e3 hz => ?_
      have k2 := k H1 locs1 ls (xrow (G' := Rai G b (va_cpy (Gai G a) (Gai G b) sp.toNatClampNeg dp.toNatClampNeg n.toNatClampNeg)) hR (by decide) c7 q2b q3b (q4b c7) (by funext j; simp [xav, Rai, Gai, xrw]) rfl rfl rfl rfl (fun q hq => xrw_ne hq) (fun _ _ => rfl) (fun _ _ => rfl) rfl rfl e1 e2 e3) hL (hS.row e2 e3 (q4b c7) hz)
      have e4 : Gtp (Rai G b (va_cpy (Gai G a) (Gai G b) sp.toNatClampNeg dp.toNatClampNeg n.toNatClampNeg)) = Gtp G := rfl
      have e5 : Gus (Rai G b (va_cpy (Gai G a) (Gai G b) sp.toNatClampNeg dp.toNatClampNeg n.toNatClampNeg)) = Gus G := rfl
      rw [e4, e5, Nat.sub_self, Nat.sub_self, Nat.add_zero, Nat.add_zero] at k2
      exact k2
    · cases h
  · cases h
/-- what an element must be to be taken -/
theorem xtakes {D : va_G} {base : Nat} {SV : Nat → Value} {s : State} {G : XG} {H : Heap} {E : String} {cs : List Nat} {cB : ClassId} {args : Array Value} (hT : XTF D SV s) (hR : XRel D base SV s G H) (hcs : ∀ c ∈ cs, xfit E c) (h3 : va_RA s cB (.object E)) {kB : Class} {compB : ClassId} (hkB : s.vm.classes[cB]? = some kB) (hkk : kB.kind = .array compB (.object E)) {T : State} {vm' : Vm} (hTh : T.heap = H) (hal : s.vm.Alike vm') {o : Option Nat} (ho : xrfk G cs o = true) : fits (.object E) (va_rf o) = true ∧ (T.setVm vm').takes compB (va_rf o) := by
  cases o with
  | none => exact ⟨rfl, trivial⟩
  | some y =>
    simp only [xrfk, decide_eq_true_eq] at ho
    obtain ⟨f1, f2, f3⟩ := hcs _ ho
    obtain ⟨-, hcb⟩ := hR.2.2.2.1 y (by omega)
    unfold xcell at hcb
    rw [if_pos f2] at hcb
    obtain ⟨rr, hr, ⟨cell, g1, g2, g3, g4⟩, -⟩ := hcb
    obtain ⟨-, hfc, kC, hkC, hkind⟩ := hT.1 _ hr
    simp only at hfc hkC
    obtain ⟨kA, comp, w1, w2, w3, -⟩ := h3
    cases hkB.symm.trans w1
    cases hkk.symm.trans w2
    have hasg : s.vm.assignable (D.1 (Gkd G y - 1)) compB = true := by
      rcases f3 rr hr with e | e
      · rw [e] at hfc
        cases hfc.symm.trans w3
        exact va_asg _ _
      · obtain ⟨c0, t0, y1, y2, y3⟩ := Cond.castable_spec (va_Nw.use (A := args) rfl (hT.2.2.2.1 _ e))
        cases hfc.symm.trans y1
        cases w3.symm.trans y2
        exact y3
    obtain ⟨kE, hkE, -⟩ := Vm.findClass_spec w3
    obtain ⟨kC', hkC', -⟩ := hal.2.2 _ _ hkC
    obtain ⟨kE', hkE', -⟩ := hal.2.2 _ _ hkE
    refine ⟨rfl, cell, (show T.heap[y]? = some cell by rw [hTh]; exact g1), (fun q h => by rw [g3] at h; cases h), ⟨kC', by rw [g2]; exact hkC'⟩, ⟨kE', hkE'⟩, ?_⟩
    show vm'.assignable _ _ = true
    rw [hal.assignable, g2]
    exact hasg
theorem xok_cpq {ix t : Nat} {E : String} {cs : List Nat} (hE : xaty t = .object E) (hcs : ∀ c ∈ cs, xfit E c) (d : decode (xmc M) pc = .ok (.invokestatic ix, 3)) (q1 : Cond.methodLink (xmy M).cls ix arraycopyName ∈ lw_all) (ht4 : 4 ≤ t := by decide) (ht : t < 100 := by decide) : XOkP M pc (pc + 3) (x_cpq t cs) := by
  intro L st G j L' st' G' h
  unfold x_cpq at h
  split at h
  · next n dp b sp a r =>
    split at h
    · next hc =>
      cases h
      obtain ⟨hw, c1, c2, c3, c4, c5, c6, c7, c8⟩ := hc
      refine ⟨⟨Nat.le_refl _, Nat.le_refl _, rfl⟩, fun {D base SV p l e R s m args below meth c0 H locs cells slots Q ls} hC hT hR hL hS _ hfr hlo _ _ k => ?_⟩
      obtain ⟨cA, q1a, q2a, -⟩ := xarr hR ht (Or.inl c6)
      obtain ⟨cB, q1b, q2b, q3b, q4b⟩ := xarr hR ht (Or.inl c7)
      have n3 : ¬ t < 3 := by omega
      have n4 : ¬ t = 3 := by omega
      have ea : ∀ z, xav t G z = fun j => va_rf (Gar G z j) := fun z => by funext j; simp only [xav, n3, n4, if_false]
      rw [ea] at q1a q1b
      refine xcpy (mk := va_rf) (f := Gar G a) (g := Gar G b) d q1 q1230 q1229 q178 hC hL.2.1 hfr hlo hw q1a q1b q2a q2b (by rw [hE]; simp [refKind]) c1 c2 c3 c4 c5 (fun kB compB hkB hkk T vm' hTh hal i hi => ?_) fun H1 locs1 e1 e2 e3 hz => ?_
      · rw [hE] at hkk ⊢
        rw [hE] at q3b
        exact xtakes (args := args) hT hR hcs q3b hkB hkk hTh hal (c8 i hi)
      · have k2 := k H1 locs1 ls (xrow (G' := Rar G b (va_cpy (Gar G a) (Gar G b) sp.toNatClampNeg dp.toNatClampNeg n.toNatClampNeg)) hR ht c7 q2b q3b (q4b c7) (by funext j; simp only [xav, n3, n4, if_false, Rar, Gar, xrw, if_true]) rfl rfl rfl rfl (fun _ _ => rfl) (fun _ _ => rfl) (fun q hq => xrw_ne hq) rfl rfl e1 e2 e3) hL (hS.row e2 e3 (q4b c7) hz)
        have e4 : Gtp (Rar G b (va_cpy (Gar G a) (Gar G b) sp.toNatClampNeg dp.toNatClampNeg n.toNatClampNeg)) = Gtp G := rfl
        have e5 : Gus (Rar G b (va_cpy (Gar G a) (Gar G b) sp.toNatClampNeg dp.toNatClampNeg n.toNatClampNeg)) = Gus G := rfl
        rw [e4, e5, Nat.sub_self, Nat.sub_self, Nat.add_zero, Nat.add_zero] at k2
        exact k2
    · cases h
  · cases h
/-- rows of rows of statements: an element's class is the component -/
theorem xcompA {D : va_G} {SV : Nat → Value} {s : State} {cB : ClassId} (hT : XTF D SV s) (h3 : va_RA s cB (xaty 5)) {kB : Class} {compB : ClassId} {ty : FieldType} (hkB : s.vm.classes[cB]? = some kB) (hkk : kB.kind = .array compB ty) {cE : ClassId} (hE : va_RA s cE (xaty 4)) : compB = cE := by
  have hq : FieldType.array (.object "WaysAtlas$Statement") ∈ xnA := List.mem_of_getElem? (i := 0) rfl
  obtain ⟨comp, c, k, f1, f2, f3, f4, f5⟩ := arrayOverA_spec (hT.2.2.2.2.1 _ hq)
  have h3 : s.vm.findClass ("[" ++ (FieldType.array (.object "WaysAtlas$Statement")).toString) = some cB := h3
  cases h3.symm.trans f5
  cases hkB.symm.trans f3
  cases hkk.symm.trans f4
  obtain ⟨kA, comp2, w1, w2, w3, w4⟩ := hE
  have w4 : s.vm.findClass (FieldType.array (.object "WaysAtlas$Statement")).toString = some cE := w4
  cases f1.symm.trans w4
  rfl
theorem xtakesA {D : va_G} {base : Nat} {SV : Nat → Value} {s : State} {G : XG} {H : Heap} {cB : ClassId} (hT : XTF D SV s) (hR : XRel D base SV s G H) (h3 : va_RA s cB (xaty 5)) {kB : Class} {compB : ClassId} {ty : FieldType} (hkB : s.vm.classes[cB]? = some kB) (hkk : kB.kind = .array compB ty) {T : State} {vm' : Vm} (hTh : T.heap = H) (hal : s.vm.Alike vm') {o : Option Nat} (ho : xrfk G [104] o = true) : fits (xaty 5) (va_rf o) = true ∧ (T.setVm vm').takes compB (va_rf o) := by
  cases o with
  | none => exact ⟨rfl, trivial⟩
  | some y =>
    simp only [xrfk, decide_eq_true_eq, List.mem_cons, List.not_mem_nil, or_false] at ho
    obtain ⟨cE, g1, g2, g3, -⟩ := xarr (t := 4) hR (by decide) (Or.inl ho)
    have e := xcompA hT h3 hkB hkk g3
    subst e
    obtain ⟨kA, comp2, w1, w2, w3, w4⟩ := g3
    obtain ⟨kC', hkC', -⟩ := hal.2.2 _ _ w1
    refine ⟨rfl, _, (show T.heap[y]? = some _ by rw [hTh]; exact g1), (fun q h => by cases h), ⟨kC', hkC'⟩, ⟨kC', hkC'⟩, ?_⟩
    show vm'.assignable _ _ = true
    exact va_asg _ _
theorem xok_cpA {ix : Nat} (d : decode (xmc M) pc = .ok (.invokestatic ix, 3)) (q1 : Cond.methodLink (xmy M).cls ix arraycopyName ∈ lw_all) : XOkP M pc (pc + 3) (x_cpq 5 [104]) := by
  intro L st G j L' st' G' h
  unfold x_cpq at h
  split at h
  · next n dp b sp a r =>
    split at h
    · next hc =>
      cases h
      obtain ⟨hw, c1, c2, c3, c4, c5, c6, c7, c8⟩ := hc
      refine ⟨⟨Nat.le_refl _, Nat.le_refl _, rfl⟩, fun {D base SV p l e R s m args below meth c0 H locs cells slots Q ls} hC hT hR hL hS _ hfr hlo _ _ k => ?_⟩
      obtain ⟨cA, q1a, q2a, -⟩ := xarr (t := 5) hR (by decide) (Or.inl c6)
      obtain ⟨cB, q1b, q2b, q3b, q4b⟩ := xarr (t := 5) hR (by decide) (Or.inl c7)
      have ea : ∀ z, xav 5 G z = fun j => va_rf (Gar G z j) := fun z => by funext j; simp [xav]
      rw [ea] at q1a q1b
      refine xcpy (mk := va_rf) (f := Gar G a) (g := Gar G b) d q1 q1230 q1229 q178 hC hL.2.1 hfr hlo hw q1a q1b q2a q2b rfl c1 c2 c3 c4 c5 (fun kB compB hkB hkk T vm' hTh hal i hi => ?_) fun H1 locs1 e1 e2 e3 hz => ?_
      · exact xtakesA hT hR q3b hkB hkk hTh hal (c8 i hi)
      · have k2 := k H1 locs1 ls (xrow (G' := Rar G b (va_cpy (Gar G a) (Gar G b) sp.toNatClampNeg dp.toNatClampNeg n.toNatClampNeg)) hR (by decide) c7 q2b q3b (q4b c7) (by funext j; simp [xav, Rar, Gar, xrw]) rfl rfl rfl rfl (fun _ _ => rfl) (fun _ _ => rfl) (fun q hq => xrw_ne hq) rfl rfl e1 e2 e3) hL (hS.row e2 e3 (q4b c7) hz)
        have e4 : Gtp (Rar G b (va_cpy (Gar G a) (Gar G b) sp.toNatClampNeg dp.toNatClampNeg n.toNatClampNeg)) = Gtp G := rfl
        have e5 : Gus (Rar G b (va_cpy (Gar G a) (Gar G b) sp.toNatClampNeg dp.toNatClampNeg n.toNatClampNeg)) = Gus G := rfl
        rw [e4, e5, Nat.sub_self, Nat.sub_self, Nat.add_zero, Nat.add_zero] at k2
        exact k2
    · cases h
  · cases h
theorem xok_aastoreA (d : decode (xmc M) pc = .ok (.aastore, 1)) : XOkP M pc (pc + 1) x_aaA := by
  intro L st G j L' st' G' h
  unfold x_aaA at h
  split at h
  · next v i a r =>
    split at h
    · next o ho =>
      split at h
      · next hc =>
        cases h
        have hi := xinb_sp hc.2.1
        refine ⟨⟨Nat.le_refl _, Nat.le_refl _, rfl⟩, fun {D base SV p l e R s m args below meth c0 H locs cells slots Q ls} hC hT hR hL hS _ _ _ _ _ k => ?_⟩
        obtain ⟨cA, q1, q2, q3, q4⟩ := xarr (t := 5) hR (by decide) (Or.inl hc.1)
        have h0 : xav 5 (Sar G a i.toNatClampNeg o) a = updV (xav 5 G a) i.toNatClampNeg (va_rf o) := by
          funext j
          simp only [xav, Sar, Gar, updV, xu2]
          by_cases e : j = i.toNatClampNeg
          · simp [e]
          · simp [e]
        have fin : ∀ H' : Heap, H'[a]? = some ((arrV cA (Gln G a) (xav 5 G a)).setSlot i.toNatClampNeg (va_rf o)) → _ := fun H' e1 e2 e3 => k H' _ _ (xsto hR (by decide) hc.1 q1 q2 q3 (q4 hc.1) (G' := Sar G a i.toNatClampNeg o) h0 rfl rfl rfl rfl (fun _ _ => rfl) (fun _ _ => rfl) (fun q hq => xu2_ne hq) rfl rfl e1 e2 e3) hL (hS.put (k := i.toNatClampNeg) e2 e3 (q4 hc.1))
        have e4 : Gtp (Sar G a i.toNatClampNeg o) = Gtp G := rfl
        have e5 : Gus (Sar G a i.toNatClampNeg o) = Gus G := rfl
        rw [e4, e5] at fin
        simp only [Nat.sub_self, Nat.add_zero] at fin
        rw [xunR_sp ho]
        cases o with
        | none => exact xaastN5 hC.1 hC.2.1 q1 (q2 _ _) hi d fin
        | some b =>
          have hb := hc.2.2
          simp only [xrfk, decide_eq_true_eq, List.mem_cons, List.not_mem_nil, or_false] at hb
          obtain ⟨cE, g1, g2, g3, -⟩ := xarr (t := 4) hR (by decide) (Or.inl hb)
          obtain ⟨-, kA, hkA, compA, hkkA⟩ := q2 (Gln G a) (xav 5 G a)
          have e := xcompA hT q3 hkA hkkA g3
          subst e
          obtain ⟨kE, comp2, w1, w2, w3, w4⟩ := g3
          exact W.aast hC.1 hC.2.1 q1 (fun q h => by cases h) (fun h => by cases h) hkA hkkA rfl w1 ⟨hi.1, by rw [arrV_size]; exact hi.2⟩ g1 (fun q h => by cases h) w1 (va_asg _ _) rfl rfl d fin
      · cases h
    · cases h
  · cases h
end XMORE2
