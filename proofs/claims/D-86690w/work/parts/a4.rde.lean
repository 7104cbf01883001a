set_option maxRecDepth 100000
/-! the first of bad checks -/
def oM (a b : Option Nat) : Option Nat := match a, b with
  | none, b => b
  | some x, none => some x
  | some x, some y => some (min x y)
def wM (nm : Nat) (l : List Ck) (w : Option Nat) : Option Nat := match l with
  | [] => w
  | c :: r => wM nm r (if nm ≤ c.2.2 ∧ (w = none ∨ ∃ x, w = some x ∧ c.2.1 < x) then some c.2.1 else w)
theorem wM_some {nm : Nat} : ∀ (l : List Ck) (x : Nat), (∀ c, c ∈ l → x ≤ c.2.1) → wM nm l (some x) = some x := by
  intro l
  induction l with
  | nil => intro x _; rfl
  | cons c r ih =>
    intro x h
    show wM nm r (if _ then _ else _) = _
    rw [if_neg (fun q => ?_)]
    · exact ih x (fun y hy => h y (List.mem_cons_of_mem _ hy))
    · rcases q.2 with e | ⟨y, e1, e2⟩
      · cases e
      · cases e1
        have := h c (List.mem_cons_self ..)
        omega
theorem wN_le {nk x : Nat} : ∀ l : List Ck, (∀ c, c ∈ l → x ≤ c.2.1) → ∀ y, wN nk l = some y → x ≤ y := by
  intro l
  induction l with
  | nil => intro _ y h; cases h
  | cons c r ih =>
    intro h y hy
    unfold wN at hy
    split at hy
    · cases hy
      exact h c (List.mem_cons_self ..)
    · exact ih (fun z hz => h z (List.mem_cons_of_mem _ hz)) y hy
theorem tN_cons {c : Ck} {l : List Ck} : tN (c :: l) = if c.1 = 3 then c :: tN l else tN l := by
  unfold tN
  rw [List.filter_cons]
  by_cases e : c.1 = 3
  · rw [if_pos e, if_pos (by simp [e])]
  · rw [if_neg e, if_neg (by simp [e])]
theorem tN_mem {c : Ck} {l : List Ck} (h : c ∈ tN l) : c ∈ l := (List.mem_filter.mp h).1
theorem fBad_wM {nm nk : Nat} : ∀ l : List Ck, l.Pairwise (fun a b => a.2.1 ≤ b.2.1) → fBad nm nk l = wM nm (tN l) (wN nk l) := by
  intro l
  induction l with
  | nil => intro _; rfl
  | cons c r ih =>
    intro hp
    obtain ⟨h1, h2⟩ := List.pairwise_cons.mp hp
    have ih := ih h2
    have ht : ∀ x, x ∈ tN r → c.2.1 ≤ x.2.1 := fun x hx => h1 x (tN_mem hx)
    unfold fBad
    by_cases e1 : (c.1 = 1 ∧ nk ≤ c.2.2) ∨ c.1 = 4
    · have hw : wN nk (c :: r) = some c.2.1 := if_pos e1
      have h3 : ¬ c.1 = 3 := by omega
      have hb : badC nm nk c = true := by
        unfold badC
        rcases e1 with ⟨e1, e2⟩ | e1
        · simp [e1, e2]
        · simp [e1]
      rw [if_pos hb, hw, tN_cons, if_neg h3, wM_some _ _ ht]
    · have hw : wN nk (c :: r) = wN nk r := if_neg e1
      rw [hw, tN_cons]
      by_cases e3 : c.1 = 3
      · rw [if_pos e3]
        by_cases e4 : nm ≤ c.2.2
        · have hb : badC nm nk c = true := by
            unfold badC
            simp [e3, e4]
          rw [if_pos hb]
          show _ = wM nm (tN r) (if _ then _ else _)
          cases hwr : wN nk r with
          | none => rw [if_pos ⟨e4, .inl rfl⟩, wM_some _ _ ht]
          | some y =>
            have hy := wN_le r h1 y hwr
            by_cases e5 : c.2.1 < y
            · rw [if_pos ⟨e4, .inr ⟨y, rfl, e5⟩⟩, wM_some _ _ ht]
            · have e6 : y = c.2.1 := by omega
              subst e6
              rw [if_neg (fun q => by
                rcases q.2 with e | ⟨z, e7, e8⟩
                · cases e
                · cases e7
                  omega), wM_some _ _ ht]
        · have hb : ¬ badC nm nk c = true := by
            unfold badC
            simp [e3]
            omega
          rw [if_neg hb, ih]
          show _ = wM nm (tN r) (if _ then _ else _)
          rw [if_neg (fun q => e4 q.1)]
      · rw [if_neg e3]
        have hb : ¬ badC nm nk c = true := by
          unfold badC
          simp
          omega
        rw [if_neg hb, ih]
