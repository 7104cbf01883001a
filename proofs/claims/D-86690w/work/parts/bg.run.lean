set_option maxRecDepth 100000
section RUN
variable {r lo hi p n nm nk : Nat} {A mA : Nat → Nat} {T : Pg} {G G' : XG}
/-- a program under a run: p the program, hi its end, A statements, mA methods -/
def RP (r p hi n nm nk : Nat) (A mA : Nat → Nat) (T : Pg) (G : XG) : Prop := OUT r p hi ∧ hi ≤ Gtp G ∧ Gfr G 1029 r = some p ∧ PR (Tp hi G) p ∧ SA (Tp hi G) (p + 6) p A T 0 n ∧ (∀ m, m < nm → Gar G (p + 1) m = some (mA m) ∧ Gkd G (mA m) = 12 ∧ Gfi G 76 (mA m) = nI m ∧ p + 6 ≤ mA m ∧ mA m < hi ∧ BA (Tp hi G) (p + 6) A (Gfr G 1117 (mA m)) (Tm T m)) ∧ AB G p T nk
theorem RP.ye (h : RP r p hi n nm nk A mA T G) (k : YE r G G') : RP r p hi n nm nk A mA T G' := by
  obtain ⟨h1, h2, h3, h4, h5, h6, h7⟩ := h
  have ht : p + 6 ≤ hi := h4.t
  have hx : ∀ a, p ≤ a → a < hi → ¬ rgn r a := fun a q1 q2 q => h1.n q1 ⟨q, q2⟩
  have ar : Gar G' = Gar G := k.2.2.1
  have kd : Gkd G' = Gkd G := k.2.2.2.1
  refine ⟨h1, ?_, (k.1 1029 r (.inl (by decide))).trans h3, h4.ye k h1, h5.ye k h1, fun m hm => ?_, fun x hx' => ?_⟩
  · rw [k.2.2.2.2.2.2.1]
    exact h2
  · obtain ⟨e1, e2, e3, e4, e5, e6⟩ := h6 m hm
    refine ⟨by rw [ar]; exact e1, by rw [kd]; exact e2, (k.2.2.2.2.2.2.2.2.1 76 _ (hx _ (by omega) e5)).trans e3, e4, e5, ?_⟩
    rw [k.1 1117 (mA m) (.inl (by decide))]
    exact e6.kq k.kq (fun a q => h1.n (by omega))
  · rw [k.2.2.2.2.2.2.2.2.2.1 (p + 2) x (hx _ (by omega) (by omega))]
    exact h7 x hx'
/-- a statement under a run -/
theorem RP.so {s : Nat} (h : RP r p hi n nm nk A mA T G) (hs : s < n) : Gar G (p + 3) s = some (A s) ∧ SO (Tp hi G) (p + 6) A T s := h.2.2.2.2.1 s (Nat.zero_le _) hs
theorem RP.out {a : Nat} (h : RP r p hi n nm nk A mA T G) (h1 : p ≤ a) (h2 : a < hi) : ¬ rgn r a := fun q => h.1.n h1 ⟨q, h2⟩
theorem NR.tp {f z : Nat} {es : List En} (hh : hi ≤ Gtp G) (h : NR (Tp hi G) lo f z es) : ∃ b, Gfr G f z = some b ∧ NO G lo 1001 b es := by
  obtain ⟨b, e1, e2⟩ := h
  exact ⟨b, e1, NO.tp hh _ _ _ e2⟩
end RUN
