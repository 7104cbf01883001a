set_option maxRecDepth 100000
/-! handlers: rows (from, to, at, index), each with the kind that it takes (0: any) and its class -/
def xhf (l : List ((Nat × Nat × Nat × Nat) × Nat × String)) (pc kd : Nat) : Option Nat := match l with
  | [] => none
  | h :: r => if (h.1.1 ≤ pc ∧ pc < h.1.2.1) ∧ (h.2.1 = 0 ∨ h.2.1 = kd) then some h.1.2.2.1 else xhf r pc kd
/-- a table row from its four numbers -/
def xent1 (q : Nat × Nat × Nat × Nat) : ExceptionTableEntry := ⟨q.1, q.2.1, q.2.2.1, q.2.2.2⟩
section XHAND
variable {p : Program} {l : Launch} {e : Env} {R : Room} {s : State} {m : MethodId} {args : Array Value} {below : List Frame} {meth : Method} {c : Code} {H : Heap} {locs : List Loc} {cells slots : Nat} {Q : State → Prop} {ls : Array Slot} {rest : List Value}
theorem vx_catchAny {E : String} {ce : Cell} {q : Addr} {pc : Nat} {own : String} (hown : s.vm.findClass own = some m.cls) (pre : List ExceptionTableEntry) (x : ExceptionTableEntry) (suf : List ExceptionTableEntry) (hsplit : c.exceptionTable.toList = pre ++ x :: suf)
    (hpass : ∀ z ∈ pre, covers z pc = false ∨ (z.catchType ≠ 0 ∧ ∃ nm : String, (Cond.classLink own z.catchType nm).before args s = true ∧ va_Nc E nm s)) (hx : covers x pc = true) (h0 : x.catchType = 0)
    (hcell : H[q]? = some ce) (hv : ce.vm = .none) (hcl : s.vm.findClass E = some ce.cls)
    (kk : W p l e R s m args below meth c H locs cells slots Q (F0 m x.handlerPc ls [.ref q])) : vx_W p l e R s m args below meth c H locs cells slots Q (F0 m pc ls rest) q := by
  intro T hT X
  have hpl : e.platform.magicAccessors = ({} : Platform).magicAccessors := by rw [X.admits.platform]
  obtain ⟨vm', X', st⟩ := X.thenCaughtThrough q (g := F0 m pc ls rest) rfl (Steps.refl _) (by rw [hT]; exact hcell) (by rw [hv]; rfl) (by obtain ⟨k9, h9, -⟩ := Vm.findClass_spec hcl; exact ⟨k9, h9⟩) pre x suf hsplit
    (fun z hz => by
      rcases hpass z hz with h | ⟨hz0, nm, hl1, hn1⟩
      · exact Or.inl h
      · obtain ⟨c6, hc6, hcl6⟩ := Cond.classLink_spec hown hl1 e.platform hpl
        obtain ⟨a8, b8, h1, h2, h3⟩ := hn1
        cases Option.some.inj (h1.symm.trans hcl)
        cases Option.some.inj (h2.symm.trans hc6)
        exact Or.inr ⟨hz0, _, hcl6, h3⟩) hx (Or.inl h0)
  obtain ⟨t, a1, b1⟩ := kk (T.setVm vm') hT X'
  exact ⟨t, st.trans a1, b1⟩
end XHAND
/-- the thrown kinds' classes -/
theorem xthc {kd c0 : Nat} {r : vw_C} (e0 : kd = c0 + 1) (ek : xthk kd = true) (hr : (c0, r) ∈ xclL) : (kd = 7 ∧ r.1 = "WaysAtlas$Thrown") ∨ (kd = 8 ∧ r.1 = "WaysAtlas$Spent") ∨ (kd = 11 ∧ r.1 = "WaysAtlas$Fault") := by
  simp only [xthk, Bool.or_eq_true, beq_iff_eq] at ek
  rcases ek with (h | h) | h
  · have : c0 = 6 := by omega
    subst this
    cases xob_uniq hr (show (6, ((RX6, TX6, 7) : vw_C)) ∈ xclL from List.mem_of_getElem? (i := 6) rfl)
    exact Or.inl ⟨h, rfl⟩
  · have : c0 = 7 := by omega
    subst this
    cases xob_uniq hr (show (7, ((RX7, TX7, 6) : vw_C)) ∈ xclL from List.mem_of_getElem? (i := 7) rfl)
    exact Or.inr (Or.inl ⟨h, rfl⟩)
  · have : c0 = 10 := by omega
    subst this
    cases xob_uniq hr (show (10, ((RX10, TX10, 8) : vw_C)) ∈ xclL from List.mem_of_getElem? (i := 10) rfl)
    exact Or.inr (Or.inr ⟨h, rfl⟩)
/-- a handler row is right: it takes all, or just the kind of its class -/
def xhok (M : XM) (h : (Nat × Nat × Nat × Nat) × Nat × String) : Prop := (h.1.2.2.2 = 0 ∧ h.2.1 = 0) ∨ (h.1.2.2.2 ≠ 0 ∧ Cond.classLink (xmy M).cls h.1.2.2.2 h.2.2 ∈ lw_all ∧ ((h.2.1 = 7 ∧ h.2.2 = "WaysAtlas$Thrown") ∨ (h.2.1 = 8 ∧ h.2.2 = "WaysAtlas$Spent") ∨ (h.2.1 = 11 ∧ h.2.2 = "WaysAtlas$Fault")))
theorem xN (a b : String) (h : (a, b) ∈ xnN) : (a, b) ∈ xnN := h
theorem xcNo {D : va_G} {SV : Nat → Value} {s : State} {a b : Nat × String} (hT : XTF D SV s) (ha : (a.1 = 7 ∧ a.2 = "WaysAtlas$Thrown") ∨ (a.1 = 8 ∧ a.2 = "WaysAtlas$Spent") ∨ (a.1 = 11 ∧ a.2 = "WaysAtlas$Fault")) (hb : (b.1 = 7 ∧ b.2 = "WaysAtlas$Thrown") ∨ (b.1 = 8 ∧ b.2 = "WaysAtlas$Spent") ∨ (b.1 = 11 ∧ b.2 = "WaysAtlas$Fault")) (hne : a.1 ≠ b.1) : va_Nc a.2 b.2 s := by
  have key : (a.2, b.2) ∈ xnN := by
    rcases ha with ⟨a1, a2⟩ | ⟨a1, a2⟩ | ⟨a1, a2⟩ <;> rcases hb with ⟨b1, b2⟩ | ⟨b1, b2⟩ | ⟨b1, b2⟩ <;> rw [a2, b2] <;> first | (exact absurd (a1.trans b1.symm) hne) | decide +kernel
  exact hT.2.2.2.2.2.2.1 _ key
theorem xcYes {D : va_G} {SV : Nat → Value} {s : State} {args : Array Value} {a : Nat × String} (hT : XTF D SV s) (ha : (a.1 = 7 ∧ a.2 = "WaysAtlas$Thrown") ∨ (a.1 = 8 ∧ a.2 = "WaysAtlas$Spent") ∨ (a.1 = 11 ∧ a.2 = "WaysAtlas$Fault")) : (Cond.castable a.2 a.2).before args s = true := by
  have key : (a.2, a.2) ∈ xnC := by
    rcases ha with ⟨a1, a2⟩ | ⟨a1, a2⟩ | ⟨a1, a2⟩ <;> rw [a2] <;> decide +kernel
  exact va_Nw.use rfl (hT.2.2.2.1 _ key)
theorem xhand {M : XM} {hs : List ((Nat × Nat × Nat × Nat) × Nat × String)} (hM : xmh M = hs.map (·.1)) (hok : ∀ h ∈ hs, xhok M h) (hx : ∀ pc kd, xmx M pc kd = xhf hs pc kd) : XOkH M := by
  intro pc kd c0 r e0 ek hr
  have hth := xthc e0 ek hr
  -- what the rows that are passed have in common
  have pass : ∀ {D : va_G} {SV : Nat → Value} {s : State} {args : Array Value}, (∀ w ∈ lw_all, w.before args s = true) → XTF D SV s → ∀ h ∈ hs, ¬ ((h.1.1 ≤ pc ∧ pc < h.1.2.1) ∧ (h.2.1 = 0 ∨ h.2.1 = kd)) →
      ∀ z : ExceptionTableEntry, z.startPc = h.1.1 → z.endPc = h.1.2.1 → z.catchType = h.1.2.2.2 → covers z pc = false ∨ (z.catchType ≠ 0 ∧ ∃ nm : String, (Cond.classLink (xmy M).cls z.catchType nm).before args s = true ∧ va_Nc r.1 nm s) := by
    intro D SV s args hts hT h hm hn z z1 z2 z3
    by_cases hc : h.1.1 ≤ pc ∧ pc < h.1.2.1
    · right
      have hk : ¬ (h.2.1 = 0 ∨ h.2.1 = kd) := fun q => hn ⟨hc, q⟩
      rcases hok h hm with ⟨-, k0⟩ | ⟨k0, k1, k2⟩
      · exact absurd (Or.inl k0) hk
      · rw [z3]
        refine ⟨k0, h.2.2, hts _ k1, ?_⟩
        exact xcNo (a := (kd, r.1)) (b := (h.2.1, h.2.2)) hT hth k2 (fun q => hk (Or.inr q.symm))
    · left
      simp only [covers, Bool.and_eq_false_iff, decide_eq_false_iff_not]
      rw [z1, z2]
      omega
  have hmap : ∀ (l : List ((Nat × Nat × Nat × Nat) × Nat × String)), tableOf (l.map (·.1)) = l.map (fun h => xent1 h.1) := by
    intro l
    induction l with
    | nil => rfl
    | cons a l ih => exact congrArg (xent1 a.1 :: ·) ih
  -- the first row that takes it
  have first : ∀ (l : List ((Nat × Nat × Nat × Nat) × Nat × String)) (t : Nat), xhf l pc kd = some t → ∃ (a b : List ((Nat × Nat × Nat × Nat) × Nat × String)) (h : (Nat × Nat × Nat × Nat) × Nat × String), l = a ++ h :: b ∧ (∀ x ∈ a, ¬ ((x.1.1 ≤ pc ∧ pc < x.1.2.1) ∧ (x.2.1 = 0 ∨ x.2.1 = kd))) ∧ ((h.1.1 ≤ pc ∧ pc < h.1.2.1) ∧ (h.2.1 = 0 ∨ h.2.1 = kd)) ∧ h.1.2.2.1 = t := by
    intro l
    induction l with
    | nil => intro t h; simp [xhf] at h
    | cons x l ih =>
      intro t ht
      unfold xhf at ht
      split at ht
      · next hc => cases ht; exact ⟨[], l, x, rfl, fun _ h => (by cases h), hc, rfl⟩
      · next hc =>
        obtain ⟨a, b, h, e1, e2, e3, e4⟩ := ih t ht
        refine ⟨x :: a, b, h, by rw [e1]; rfl, fun y hy => ?_, e3, e4⟩
        rcases List.mem_cons.mp hy with e | e
        · rw [e]; exact hc
        · exact e2 y e
  have none' : ∀ (l : List ((Nat × Nat × Nat × Nat) × Nat × String)), xhf l pc kd = none → ∀ x ∈ l, ¬ ((x.1.1 ≤ pc ∧ pc < x.1.2.1) ∧ (x.2.1 = 0 ∨ x.2.1 = kd)) := by
    intro l
    induction l with
    | nil => intro _ x hx; cases hx
    | cons x l ih =>
      intro hn y hy
      unfold xhf at hn
      split at hn
      · cases hn
      · next hc =>
        rcases List.mem_cons.mp hy with e | e
        · rw [e]; exact hc
        · exact ih hn y e
  constructor
  · intro t ht D SV p l e R s m args below meth c H locs cells slots Q ls rest ce q hC hT hce hv hcl hW
    rw [hx] at ht
    obtain ⟨a, b, h, e1, e2, e3, e4⟩ := first hs t ht
    have htab : c.exceptionTable.toList = a.map (fun h => xent1 h.1) ++ xent1 h.1 :: b.map (fun h => xent1 h.1) := by
      rw [hC.2.2.2.2.2.2.2.2, hM, hmap, e1, List.map_append, List.map_cons]
    have hpass : ∀ z ∈ a.map (fun h => xent1 h.1), covers z pc = false ∨ (z.catchType ≠ 0 ∧ ∃ nm : String, (Cond.classLink (xmy M).cls z.catchType nm).before args s = true ∧ va_Nc r.1 nm s) := by
      intro z hz
      obtain ⟨y, hy, rfl⟩ := List.mem_map.mp hz
      exact pass hC.2.2.2.2.1 hT y (by rw [e1]; exact List.mem_append_left _ hy) (e2 y hy) _ rfl rfl rfl
    have hcov : covers (xent1 h.1) pc = true := by
      simp only [covers, xent1, Bool.and_eq_true]
      exact ⟨decide_eq_true e3.1.1, decide_eq_true e3.1.2⟩
    have hh : h ∈ hs := by rw [e1]; exact List.mem_append_right _ List.mem_cons_self
    rw [← e4] at hW
    rcases hok h hh with ⟨k0, k1⟩ | ⟨k0, k1, k2⟩
    · exact vx_catchAny hC.2.2.2.1 _ (xent1 h.1) _ htab hpass hcov k0 hce hv hcl hW
    · have hk : h.2.1 = kd := by
        rcases e3.2 with z | z
        · rcases k2 with ⟨w, -⟩ | ⟨w, -⟩ | ⟨w, -⟩ <;> omega
        · exact z
      have hE : h.2.2 = r.1 := by
        rcases k2 with ⟨w1, w2⟩ | ⟨w1, w2⟩ | ⟨w1, w2⟩ <;> rcases hth with ⟨y1, y2⟩ | ⟨y1, y2⟩ | ⟨y1, y2⟩ <;> first | (rw [w2, y2]; done) | omega
      refine vx_catch (name := h.2.2) hC.2.2.2.1 _ (xent1 h.1) _ htab hpass hcov k0 (hC.2.2.2.2.1 _ k1) ?_ hce hv hcl hW
      rw [hE]
      exact xcYes (a := (kd, r.1)) hT hth
  · intro hn D SV p l e R s m args below meth c H locs cells slots ls rest ce q Qc XC9 free hC hT hce hv hcl hxc hf
    rw [hx] at hn
    refine vx_outP (mc := cells) (ms := slots) hC.2.2.2.1 hC.2.2.2.2.2.1 ?_ hce hv hcl hxc hf (Nat.le_refl _) (Nat.le_refl _)
    intro z hz
    rw [hC.2.2.2.2.2.2.2.2, hM, hmap] at hz
    obtain ⟨y, hy, rfl⟩ := List.mem_map.mp hz
    exact pass hC.2.2.2.2.1 hT y hy (none' hs hn y hy) _ rfl rfl rfl
