set_option maxRecDepth 100000
section RUN
variable {r lo hi : Nat} {G G' : XG}
/-- a heap as it was when its top was hi -/
def Tp (hi : Nat) (G : XG) : XG := (G.1, G.2.1, G.2.2.1, G.2.2.2.1, G.2.2.2.2.1, G.2.2.2.2.2.1, G.2.2.2.2.2.2.1, G.2.2.2.2.2.2.2.1, hi, G.2.2.2.2.2.2.2.2.2)
theorem Tp_id : Tp (Gtp G) G = G := rfl
/-- the run lies outside of lo .. hi -/
def OUT (r lo hi : Nat) : Prop := hi ≤ r ∨ r + 66 ≤ lo
theorem OUT.n {a : Nat} (h : OUT r lo hi) (h1 : lo ≤ a) : ¬ (rgn r a ∧ a < hi) := fun q => by
  have := q.1.1
  have := q.1.2
  have := q.2
  unfold OUT at h
  omega
theorem YE.kq (k : YE r G G') : KQ (fun a => rgn r a ∧ a < hi) 0 0 (Tp hi G) (Tp hi G') := by
  obtain ⟨a1, a2, a3, a4, a5, a6, a7, a8, a9, a10, -⟩ := k
  exact ⟨a6, Nat.le_refl _, Nat.le_refl _, Nat.le_of_eq a8, fun a _ => ⟨congrFun a4 a, congrFun a5 a⟩, fun a ha hn => ⟨fun f => ⟨a9 f a (fun q => hn ⟨q, ha⟩), a1 f a (.inr (fun q => hn ⟨q, ha⟩))⟩, fun i => ⟨a10 a i (fun q => hn ⟨q, ha⟩), congrFun (congrFun a3 a) i, congrFun (congrFun a2 a) i⟩⟩⟩
theorem NO.tp (hh : hi ≤ Gtp G) : ∀ f a es, NO (Tp hi G) lo f a es → NO G lo f a es := by
  intro f
  induction f with
  | zero => intro a es h; exact h
  | succ f ih =>
    intro a es h
    obtain ⟨h1, h2, h⟩ := h
    refine ⟨h1, Nat.lt_of_lt_of_le h2 hh, ?_⟩
    rcases h with h | h | h | ⟨h3, b, eb, h4, h5, h6⟩ | ⟨h3, h4, h5, b, eb, h6, h7, h8⟩ | ⟨h3, b, eb, c, ec, k, h4, h5, h6, h7, h8⟩
    · exact .inl h
    · exact .inr (.inl h)
    · exact .inr (.inr (.inl h))
    · exact .inr (.inr (.inr (.inl ⟨h3, b, eb, h4, ih b eb h5, h6⟩)))
    · exact .inr (.inr (.inr (.inr (.inl ⟨h3, h4, h5, b, eb, h6, ih b eb h7, h8⟩))))
    · exact .inr (.inr (.inr (.inr (.inr ⟨h3, b, eb, c, ec, k, h4, h5, ih b eb h6, ih c ec h7, h8⟩))))
/-- a statement's object under a run -/
theorem SO.ye {A : Nat → Nat} {T : Pg} {s : Nat} (h : SO (Tp hi G) lo A T s) (k : YE r G G') (ho : OUT r lo hi) : SO (Tp hi G') lo A T s := SO.kq k.kq (fun _ q => ho.n q) h
theorem PR.ye {p : Nat} (h : PR (Tp hi G) p) (k : YE r G G') (ho : OUT r p hi) : PR (Tp hi G') p := by
  have ht := h.t
  exact h.kq k.kq (fun f _ _ => ((k.kq.2.2.2.2.2 p (Nat.lt_of_lt_of_le (by omega) ht) (ho.n (Nat.le_refl _))).1 f).2)
theorem SA.ye {p n0 n1 : Nat} {A : Nat → Nat} {T : Pg} (h : SA (Tp hi G) (p + 6) p A T n0 n1) (k : YE r G G') (ho : OUT r p hi) : SA (Tp hi G') (p + 6) p A T n0 n1 := fun s h1 h2 => by
  obtain ⟨e1, e2⟩ := h s h1 h2
  refine ⟨?_, e2.ye k ?_⟩
  · have : Gar G' = Gar G := k.2.2.1
    show Gar G' (p + 3) s = _
    rw [this]
    exact e1
  · unfold OUT at ho ⊢
    omega
end RUN
