set_option maxRecDepth 100000
/-! SHAPE of statements -/
/-- what a statement mentions is below n -/
def SM (T : Pg) (s n : Nat) : Prop := (∀ x, x ∈ Tl T s → x < n) ∧ (∀ f, To T s = some f → ∀ x, x ∈ f → x < n) ∧ (∀ c, c ∈ Tc T s → ∀ x, x ∈ c.2 → x < n) ∧ ((Tk T s = 14 ∨ Tk T s = 15) → ∃ m, Tb T s = nI m ∧ (m = 999 ∨ m < n))
theorem SM.up {T T' : Pg} {s n n' : Nat} (h : SM T s n) (hn : n ≤ n') (ht : tS T T' s) : SM T' s n' := by
  obtain ⟨t1, t2, t3, t4, t5, t6, t7, t8⟩ := ht
  unfold SM at *
  rw [t1, t3, t6, t7, t8]
  refine ⟨fun x q => Nat.lt_of_lt_of_le (h.1 x q) hn, fun f hf x q => Nat.lt_of_lt_of_le (h.2.1 f hf x q) hn, fun c hc x q => Nat.lt_of_lt_of_le (h.2.2.1 c hc x q) hn, fun q => ?_⟩
  obtain ⟨m, m1, m2⟩ := h.2.2.2 q
  exact ⟨m, m1, by omega⟩
/-- handlers of a guard -/
def hsK (hs : List (Nat × Int32)) (u : Nat) : List Int32 := (hs.filter (fun h => h.1 == u)).map (·.2)
theorem hsK_app {a b : List (Nat × Int32)} {u : Nat} : hsK (a ++ b) u = hsK a u ++ hsK b u := by
  unfold hsK
  rw [List.filter_append, List.map_append]
theorem hsK_nil {hs : List (Nat × Int32)} {u : Nat} (h : ∀ x, x ∈ hs → x.1 ≠ u) : hsK hs u = [] := by
  unfold hsK
  rw [List.filter_eq_nil_iff.mpr (fun x hx => by simp [h x hx])]
  rfl
theorem hsK_no {hs : List (Nat × Int32)} {u : Nat} (h : hsK hs u = []) : ∀ x, x ∈ hs → x.1 ≠ u := by
  intro x hx e
  unfold hsK at h
  have h2 := List.map_eq_nil_iff.mp h
  have := List.filter_eq_nil_iff.mp h2 x hx
  simp [e] at this
/-- numbers have four digits, places grow -/
def tV (t : Tks) : Prop := (∀ j, zK t j = 7 → zV t j < 10000) ∧ ∀ i j, i ≤ j → zP t i ≤ zP t j
/-- from Z to Z': u a guard that is opn (999: none), ks its kinds that come -/
def Sh (t : Tks) (u : Nat) (ks : List Int32) (Z Z' : Zs) : Prop := zj Z ≤ zj Z' ∧ zn Z ≤ zn Z' ∧ zn Z' ≤ 80 ∧ tF (zT Z) (zT Z') (zn Z) ∧ (∃ cs, zc Z' = zc Z ++ cs ∧ (∀ c, c ∈ cs → zP t (zj Z) ≤ c.2.1 ∧ c.2.1 ≤ zP t (zj Z')) ∧ cs.Pairwise (fun a b => a.2.1 ≤ b.2.1)) ∧ (∃ hs, zh Z' = zh Z ++ hs ∧ (∀ h, h ∈ hs → h.1 = u ∨ (zn Z ≤ h.1 ∧ h.1 < zn Z')) ∧ hsK hs u = ks ∧ ∀ s, zn Z ≤ s → s < zn Z' → hsK hs s = (Tc (zT Z') s).map (·.1)) ∧ (∀ s, zn Z ≤ s → s < zn Z' → SM (zT Z') s (zn Z')) ∧ 2 * (zh Z').length + zj Z ≤ 2 * (zh Z).length + zj Z' ∧ (tN (zc Z')).length + zn Z ≤ (tN (zc Z)).length + zn Z' ∧ zP t (zj Z) ≤ zP t (zj Z')
theorem Sh.trans {t : Tks} {u : Nat} {k1 k2 : List Int32} {Z Z1 Z2 : Zs} (h : Sh t u k1 Z Z1) (k : Sh t u k2 Z1 Z2) (hu : u < zn Z ∨ u = 999) : Sh t u (k1 ++ k2) Z Z2 := by
  obtain ⟨h1, h2, h3, h4, ⟨c1, h5, h5a, h5b⟩, ⟨s1, h6, h7, h8, h9⟩, h10, h11, h12, h13⟩ := h
  obtain ⟨g1, g2, g3, g4, ⟨c2, g5, g5a, g5b⟩, ⟨s2, g6, g7, g8, g9⟩, g10, g11, g12, g13⟩ := k
  refine ⟨by omega, by omega, g3, h4.trans g4 h2, ⟨c1 ++ c2, by rw [g5, h5, List.append_assoc], fun x hx => ?_, List.pairwise_append.mpr ⟨h5b, g5b, fun x hx y hy => Nat.le_trans (h5a x hx).2 (g5a y hy).1⟩⟩, ⟨s1 ++ s2, by rw [g6, h6, List.append_assoc], fun x hx => ?_, by rw [hsK_app, h8, g8], fun s a b => ?_⟩, fun s a b => ?_, by omega, by omega, by omega⟩
  · rcases List.mem_append.mp hx with hx | hx
    · have := h5a x hx
      omega
    · have := g5a x hx
      omega
  · rcases List.mem_append.mp hx with hx | hx
    · have := h7 x hx
      omega
    · have := g7 x hx
      omega
  · rw [hsK_app]
    by_cases c : s < zn Z1
    · rw [hsK_nil (hs := s2) (fun x hx e => by have := g7 x hx; omega), List.append_nil, h9 s a c, (g4.1 s c).2.2.2.2.2.2.2]
    · rw [hsK_nil (hs := s1) (fun x hx e => by have := h7 x hx; omega), List.nil_append]
      exact g9 s (by omega) b
  · by_cases c : s < zn Z1
    · exact (h10 s a c).up g2 (g4.1 s c)
    · exact g10 s (by omega) b
theorem Sh.opn {t : Tks} {u : Nat} {Z Z' : Zs} (h : Sh t 999 [] Z Z') (hu : u < zn Z ∨ u = 999) : Sh t u [] Z Z' := by
  obtain ⟨h1, h2, h3, h4, h5, ⟨hs, h6, h7, h8, h9⟩, h10⟩ := h
  have n9 := hsK_no h8
  have r : ∀ x, x ∈ hs → zn Z ≤ x.1 ∧ x.1 < zn Z' := fun x hx => (h7 x hx).resolve_left (n9 x hx)
  refine ⟨h1, h2, h3, h4, h5, ⟨hs, h6, fun x hx => .inr (r x hx), hsK_nil (fun x hx e => ?_), h9⟩, h10⟩
  have := r x hx
  omega
theorem Sh.tok {t : Tks} {u j : Nat} {Z : Zs} (ht : tV t) (hj : zj Z ≤ j) (hn : zn Z ≤ 80) : Sh t u [] Z (zaj Z j) := ⟨hj, Nat.le_refl _, hn, tF.refl, ⟨[], (List.append_nil _).symm, fun _ q => (List.not_mem_nil q).elim, List.Pairwise.nil⟩, ⟨[], (List.append_nil _).symm, fun _ q => (List.not_mem_nil q).elim, rfl, fun _ a b => absurd (show zn Z < zn Z from Nat.lt_of_le_of_lt a b) (Nat.lt_irrefl _)⟩, fun _ a b => absurd (show zn Z < zn Z from Nat.lt_of_le_of_lt a b) (Nat.lt_irrefl _), by show 2 * (zh Z).length + zj Z ≤ 2 * (zh Z).length + j; omega, Nat.le_refl _, ht.2 _ _ hj⟩
/-- a check of a token i, up to the token j -/
theorem Sh.chk {t : Tks} {u i j how v : Nat} {Z : Zs} (ht : tV t) (hi : zj Z ≤ i) (hj : i ≤ j) (hn : zn Z ≤ 80) (h3 : how ≠ 3) : Sh t u [] Z (zac (zaj Z j) (how, zP t i, v)) := ⟨Nat.le_trans hi hj, Nat.le_refl _, hn, tF.refl, ⟨[(how, zP t i, v)], rfl, fun x hx => by rw [List.mem_singleton.mp hx]; exact ⟨ht.2 _ _ hi, ht.2 _ _ hj⟩, List.pairwise_singleton _ _⟩, ⟨[], (List.append_nil _).symm, fun _ q => (List.not_mem_nil q).elim, rfl, fun _ a b => absurd (show zn Z < zn Z from Nat.lt_of_le_of_lt a b) (Nat.lt_irrefl _)⟩, fun _ a b => absurd (show zn Z < zn Z from Nat.lt_of_le_of_lt a b) (Nat.lt_irrefl _), by show 2 * (zh Z).length + zj Z ≤ 2 * (zh Z).length + j; omega, by
  show (tN (zc Z ++ [(how, zP t i, v)])).length + zn Z ≤ (tN (zc Z)).length + zn Z
  rw [tN_app, if_neg h3]
  exact Nat.le_refl _, ht.2 _ _ (Nat.le_trans hi hj)⟩
/-- a catch's beginning: two tokens, a check, a handler -/
def zcat (Z : Zs) (u : Nat) (p v : Nat) : Zs := zah (zac (zaj Z (zj Z + 2)) (1, p, v)) (u, nI v)
theorem Sh.cat {t : Tks} {u v : Nat} {Z : Zs} (ht : tV t) (hn : zn Z ≤ 80) : Sh t u [nI v] Z (zcat Z u (zP t (zj Z + 1)) v) := ⟨Nat.le_add_right _ _, Nat.le_refl _, hn, tF.refl, ⟨[(1, zP t (zj Z + 1), v)], rfl, fun x hx => by rw [List.mem_singleton.mp hx]; exact ⟨ht.2 _ _ (Nat.le_succ _), ht.2 _ _ (Nat.le_succ _)⟩, List.pairwise_singleton _ _⟩, ⟨[(u, nI v)], rfl, fun x hx => .inl (by rw [List.mem_singleton.mp hx]), by unfold hsK; simp, fun _ a b => absurd (show zn Z < zn Z from Nat.lt_of_le_of_lt a b) (Nat.lt_irrefl _)⟩, fun _ a b => absurd (show zn Z < zn Z from Nat.lt_of_le_of_lt a b) (Nat.lt_irrefl _), by
  show 2 * (zh Z ++ [(u, nI v)]).length + zj Z ≤ 2 * (zh Z).length + (zj Z + 2)
  rw [List.length_append]
  show 2 * ((zh Z).length + 1) + zj Z ≤ _
  omega, by
  show (tN (zc Z ++ [(1, zP t (zj Z + 1), v)])).length + zn Z ≤ (tN (zc Z)).length + zn Z
  rw [tN_app, if_neg (show ¬ (1 : Nat) = 3 by decide)]
  exact Nat.le_refl _, ht.2 _ _ (Nat.le_add_right _ 2)⟩
/-- a statement is made: its own row -/
theorem Sh.own {t : Tks} {S0 Z1 : Zs} {k : Nat} {a b : Int32} {e1 e2 : List En} {l : List Nat} {o : Option (List Nat)} {cs : List (Int32 × List Nat)} (h : Sh t (zn S0) (cs.map (·.1)) (zan S0) Z1) (m1 : ∀ x, x ∈ l → x < zn Z1) (m2 : ∀ f, o = some f → ∀ x, x ∈ f → x < zn Z1) (m3 : ∀ c, c ∈ cs → ∀ x, x ∈ c.2 → x < zn Z1) (m4 : (k = 14 ∨ k = 15) → ∃ m, b = nI m ∧ (m = 999 ∨ m < zn Z1)) : Sh t 999 [] S0 (zaT Z1 (tset (zT Z1) (zn S0) k a b e1 e2 l o cs)) := by
  obtain ⟨h1, h2, h3, h4, h5, ⟨hs, h6, h7, h8, h9⟩, h10, h11, h12, h13⟩ := h
  have hz : zn (zan S0) = zn S0 + 1 := rfl
  rw [hz] at h2 h4 h7 h9 h10 h12
  have hz2 : ∀ T, zn (zaT Z1 T) = zn Z1 := fun _ => rfl
  obtain ⟨q1, q2, q3, q4, q5, q6, q7, q8⟩ := tset_s (T := zT Z1) (s := zn S0) (k := k) (a := a) (b := b) (e1 := e1) (e2 := e2) (l := l) (o := o) (c := cs)
  have hzT : ∀ T, zT (zaT Z1 T) = T := fun _ => rfl
  refine ⟨h1, by rw [hz2]; omega, h3, ?_, h5, ⟨hs, h6, fun x hx => ?_, ?_, fun s a b => ?_⟩, fun s a b => ?_, h11, ?_, h13⟩
  · rw [hzT]
    exact ⟨fun x hx => (h4.1 x (by omega)).trans (tset_o (by omega)), h4.2⟩
  · have := h7 x hx
    rw [hz2]
    omega
  · refine hsK_nil (fun x hx e => ?_)
    have := h7 x hx
    omega
  · rw [hzT]
    by_cases c : s = zn S0
    · rw [c, q8]
      exact h8
    · rw [(tset_o (T := zT Z1) (k := k) (a := _) (b := _) (e1 := e1) (e2 := e2) (l := l) (o := o) (c := cs) c).2.2.2.2.2.2.2]
      exact h9 s (by omega) b
  · rw [hzT, hz2]
    by_cases c : s = zn S0
    · subst c
      unfold SM
      rw [q1, q3, q6, q7, q8]
      exact ⟨m1, m2, m3, m4⟩
    · exact (h10 s (by omega) (by rw [hz2] at b; exact b)).up (Nat.le_refl _) (tset_o c)
  · show (tN (zc Z1)).length + zn S0 ≤ (tN (zc S0)).length + zn Z1
    have : (tN (zc Z1)).length + (zn S0 + 1) ≤ (tN (zc S0)).length + zn Z1 := h12
    omega
/-- a call's: its check, too -/
theorem Sh.ownC {t : Tks} {S0 : Zs} {k i j v : Nat} {a b : Int32} {e1 e2 : List En} (ht : tV t) (hi : zj S0 ≤ i) (hj : i ≤ j) (hn : zn S0 < 80) (hk : k ≠ 14 ∧ k ≠ 15) : Sh t 999 [] S0 (zac (zaT (zaj (zan S0) j) (tset (zT (zan S0)) (zn S0) k a b e1 e2 [] none [])) (3, zP t i, v)) := by
  have h := Sh.own (S0 := S0) (Z1 := zaj (zan S0) j) (k := k) (a := a) (b := b) (e1 := e1) (e2 := e2) (l := []) (o := none) (cs := []) (Sh.tok (u := zn S0) (Z := zan S0) ht (Nat.le_trans hi hj) hn) (fun _ q => (List.not_mem_nil q).elim) (fun _ q => by cases q) (fun _ q => (List.not_mem_nil q).elim) (fun q => by omega)
  obtain ⟨h1, h2, h3, h4, ⟨cs, h5⟩, h6, h7, h8, h9, h10⟩ := h
  refine ⟨h1, h2, h3, h4, ⟨[(3, zP t i, v)], rfl, fun x hx => ?_, List.pairwise_singleton _ _⟩, h6, h7, h8, ?_, h10⟩
  · rw [List.mem_singleton.mp hx]
    exact ⟨ht.2 _ _ hi, ht.2 _ _ hj⟩
  · show (tN (zc S0 ++ [(3, zP t i, v)])).length + zn S0 ≤ (tN (zc S0)).length + (zn S0 + 1)
    rw [tN_app, if_pos rfl, List.length_append]
    show (tN (zc S0)).length + 1 + zn S0 ≤ _
    omega
/-- all checks are passed -/
def gdC (nm nk : Nat) (Z : Zs) : Prop := ∀ c, c ∈ zc Z → badC nm nk c = false
theorem gdC.of {t : Tks} {nm nk u : Nat} {ks : List Int32} {Z Z' : Zs} (h : Sh t u ks Z Z') (g : gdC nm nk Z') : gdC nm nk Z := by
  obtain ⟨-, -, -, -, ⟨cs, h5, -⟩, -⟩ := h
  intro c hc
  exact g c (by rw [h5]; exact List.mem_append_left _ hc)
theorem gdC.k {nm nk p v : Nat} {Z : Zs} (g : gdC nm nk (zac Z (1, p, v))) : v < nk := by
  have h := g (1, p, v) (by show _ ∈ zc Z ++ _; exact List.mem_append_right _ (List.mem_singleton_self _))
  unfold badC at h
  simp at h
  omega
theorem gdC.m {nm nk p v : Nat} {Z : Zs} (g : gdC nm nk (zac Z (3, p, v))) : v < nm := by
  have h := g (3, p, v) (by show _ ∈ zc Z ++ _; exact List.mem_append_right _ (List.mem_singleton_self _))
  unfold badC at h
  simp at h
  omega
theorem gdC.no {nm nk p v : Nat} {Z : Zs} (g : gdC nm nk (zac Z (4, p, v))) : False := by
  have h := g (4, p, v) (by show _ ∈ zc Z ++ _; exact List.mem_append_right _ (List.mem_singleton_self _))
  unfold badC at h
  simp at h
/-- contexts that come up -/
def okC (c : Cx) (Z : Zs) : Prop := (c.1 = 999 ∨ c.1 < zn Z) ∧ c.2.1 ≤ c.2.2 + 1 ∧ c.2.2 ≤ 6 ∧ zn Z ≤ 80
def lIn (l : List Nat) (lo hi : Nat) : Prop := ∀ x, x ∈ l → lo ≤ x ∧ x < hi
