set_option maxRecDepth 100000
section SHAPE
variable {t : Tks}
def BS (t : Tks) (blk : StF) (m : Nat) : Prop := ∀ c Z Z' l, okC c Z → blk c Z = .inr (Z', l) → Sh t 999 [] Z Z' ∧ lIn l (zn Z) (zn Z') ∧ zj Z < zj Z' ∧ c.2.2 < 6 ∧ ∀ nm nk, nk ≤ 16 → gdC nm nk Z' → wB (zT Z') nm m c.1 c.2.1 (5 - c.2.2) l (zn Z) (zn Z')
/-- what a statement comes to -/
def SS1 (t : Tks) (m : Nat) (c : Cx) (S0 Z' : Zs) : Prop := Sh t 999 [] S0 Z' ∧ zn S0 < zn Z' ∧ zj S0 < zj Z' ∧ ∀ nm nk, nk ≤ 16 → gdC nm nk Z' → wS (zT Z') nm (wB (zT Z') nm m) c.1 c.2.1 (6 - c.2.2) (zn S0) (zn Z')
theorem lIn.nil {lo hi : Nat} : lIn [] lo hi := fun _ q => (List.not_mem_nil q).elim
/-- one that has no blocks -/
theorem wS_0 {T : Pg} {nm s k tg lp dp : Nat} {bk : WB} {a b : Int32} {e1 e2 : List En} (hk : k ≠ 9 ∧ k ≠ 10 ∧ k ≠ 16 ∧ k ≠ 17) (h : wP (tset T s k a b e1 e2 [] none []) nm s) (h2 : (k = 11 ∨ k = 12) → ∃ n, a = nI n ∧ 1 ≤ n ∧ n ≤ lp ∧ n < 100) (h3 : (k = 14 ∨ k = 15) → tg < s ∧ tg < 999 ∧ b = nI tg) : wS (tset T s k a b e1 e2 [] none []) nm bk tg lp dp s (s + 1) := by
  obtain ⟨q1, q2, q3, q4, q5, q6, q7, q8⟩ := tset_s (T := T) (s := s) (k := k) (a := a) (b := b) (e1 := e1) (e2 := e2) (l := []) (o := none) (c := [])
  refine ⟨h, ?_⟩
  rw [q1, q2, q3, if_neg hk.1, if_neg hk.2.1, if_neg (fun q => q.elim hk.2.2.1 hk.2.2.2)]
  exact ⟨rfl, h2, h3⟩
theorem wP_i {T : Pg} {nm s k : Nat} {a b : Int32} {e1 e2 : List En} {l : List Nat} {o : Option (List Nat)} {cs : List (Int32 × List Nat)} (h : k ≤ 17 ∧ (k = 0 → ∃ j, a = nI j ∧ j < 10000) ∧ ((k = 1 ∨ k = 2) → ∃ j, a = nI j ∧ j < 6) ∧ ((k = 3 ∨ k = 4 ∨ k = 5 ∨ k = 6) → ∃ j, a = nI j ∧ j < 3) ∧ (k = 5 → ∃ j, b = nI j ∧ j < 3) ∧ ((k = 13 ∨ k = 14) → ∃ j, a = nI j ∧ j < 16) ∧ ((k = 1 ∨ k = 2 ∨ k = 3 ∨ k = 6 ∨ k = 7 ∨ k = 8 ∨ k = 9 ∨ k = 10) → wE e1) ∧ ((k = 2 ∨ k = 6 ∨ k = 7 ∨ k = 9) → wE e2) ∧ ((k = 2 ∨ k = 7) → ∃ mi, b = nI mi ∧ mi < nm) ∧ ∀ c, c ∈ cs → ∃ j, c.1 = nI j ∧ j < 16) : wP (tset T s k a b e1 e2 l o cs) nm s := by
  obtain ⟨q1, q2, q3, q4, q5, q6, q7, q8⟩ := tset_s (T := T) (s := s) (k := k) (a := a) (b := b) (e1 := e1) (e2 := e2) (l := l) (o := o) (c := cs)
  unfold wP
  rw [q1, q2, q3, q4, q5, q8]
  exact h
theorem noM {P : (Int32 × List Nat) → Prop} : ∀ c, c ∈ ([] : List (Int32 × List Nat)) → P c := fun _ q => (List.not_mem_nil q).elim
theorem okC.own {c : Cx} {S0 : Zs} {j : Nat} (h : okC c S0) (h80 : ¬ 80 ≤ zn S0) : okC c (zaj (zan S0) j) := by
  obtain ⟨h1, h2, h3, h4⟩ := h
  have e : zn (zaj (zan S0) j) = zn S0 + 1 := rfl
  refine ⟨?_, h2, h3, ?_⟩
  · rw [e]; omega
  · rw [e]; omega
theorem okC.sh {u : Nat} {ks : List Int32} {c : Cx} {Z Z' : Zs} (h : okC c Z) (k : Sh t u ks Z Z') : okC c Z' := by
  obtain ⟨h1, h2, h3, h4⟩ := h
  have k2 := k.2.1
  exact ⟨by omega, h2, h3, k.2.2.1⟩
/-- one without blocks, all in one -/
theorem SS1.own {m : Nat} {c : Cx} {S0 : Zs} {j k : Nat} {a b : Int32} {e1 e2 : List En} (ht : tV t) (h80 : ¬ 80 ≤ zn S0) (hj : zj S0 < j) (hk : k ≠ 9 ∧ k ≠ 10 ∧ k ≠ 16 ∧ k ≠ 17 ∧ k ≠ 14 ∧ k ≠ 15 ∧ k ≠ 11 ∧ k ≠ 12) (h : ∀ nm, wP (tset (zT (zan S0)) (zn S0) k a b e1 e2 [] none []) nm (zn S0)) : SS1 t m c S0 (zaT (zaj (zan S0) j) (tset (zT (zan S0)) (zn S0) k a b e1 e2 [] none [])) := by
  refine ⟨Sh.own (Z1 := zaj (zan S0) j) (cs := []) (Sh.tok (Z := zan S0) ht (Nat.le_of_lt hj) (by show zn S0 + 1 ≤ 80; omega)) (fun _ q => (List.not_mem_nil q).elim) (fun _ q => by cases q) (fun _ q => (List.not_mem_nil q).elim) (fun q => by omega), Nat.lt_succ_self _, hj, fun nm nk hnk g => wS_0 ⟨hk.1, hk.2.1, hk.2.2.1, hk.2.2.2.1⟩ (h nm) (fun q => by omega) (fun q => by omega)⟩
theorem call_sh {m f : Nat} {c : Cx} {S0 Z' : Zs} {j k : Nat} {a : Int32} (ht : tV t) (h80 : ¬ 80 ≤ zn S0) (hj : zj S0 ≤ j) (hk : k = 2 ∧ (∃ v, a = nI v ∧ v < 6) ∨ k = 7) (h : pCall t f (zn S0) k a (zaj (zan S0) j) = .inr Z') : SS1 t m c S0 Z' := by
  unfold pCall at h
  obtain ⟨-, h⟩ := zN_ok h
  obtain ⟨-, h⟩ := zN_ok h
  obtain ⟨r, h1, h⟩ := zb_ok h
  obtain ⟨-, h⟩ := zN_ok h
  obtain ⟨q, h2, h⟩ := zb_ok h
  obtain ⟨-, h⟩ := zN_ok h
  obtain ⟨-, h⟩ := zN_ok h
  cases h
  obtain ⟨s1, l1⟩ := pSum_sh h1
  obtain ⟨s2, l2⟩ := pSum_sh h2
  have l1 : j + 3 < r.1 := l1
  refine ⟨Sh.ownC (i := j + 1) (j := q.1 + 2) ht (by omega) (by omega) (by omega) (by omega), Nat.lt_succ_self _, by show zj S0 < q.1 + 2; omega, fun nm nk hnk g => wS_0 (by omega) (wP_i ⟨by omega, fun q => by omega, fun q => ?_, fun q => by omega, fun q => by omega, fun q => by omega, fun _ => s1.w, fun _ => s2.w, fun _ => ⟨_, rfl, g.m⟩, noM⟩) (fun q => by omega) (fun q => by omega)⟩
  rcases hk with ⟨-, hk⟩ | hk
  · exact hk
  · omega
theorem cat_sh {m s : Nat} {blk : StF} {c : Cx} (ht : tV t) (hb : BS t blk m) : ∀ g Z l q, okC (s, c.2) Z → s < zn Z → pCat t blk s c g Z l = .inr q → ∃ r, q.2 = l ++ r ∧ Sh t s (r.map (·.1)) Z q.1 ∧ (∀ x, x ∈ r → lIn x.2 (zn Z) (zn q.1)) ∧ ∀ nm nk, nk ≤ 16 → gdC nm nk q.1 → wC (wB (zT q.1) nm m) s c.2.1 (5 - c.2.2) r (zn Z) (zn q.1) ∧ ∀ x, x ∈ r → ∃ j, x.1 = nI j ∧ j < 16 := by
  intro g
  induction g with
  | zero => intro Z l q _ _ h; cases h
  | succ g ih =>
    intro Z l q hc hs h
    unfold pCat at h
    split at h
    · obtain ⟨-, h⟩ := zN_ok h
      obtain ⟨r, h1, h2⟩ := zb_ok h
      have h80 := hc.2.2.2
      have hcat := Sh.cat (u := s) (v := zV t (zj Z + 1)) ht h80
      obtain ⟨b1, b2, b3, b4, b5⟩ := hb (s, c.2) (zcat Z s (zP t (zj Z + 1)) (zV t (zj Z + 1))) r.1 r.2 (hc.sh hcat) h1
      have b1' := b1.opn (u := s) (.inl hs)
      have s1 := hcat.trans b1' (.inl hs)
      have n1 := s1.2.1
      obtain ⟨r2, i1, i2, i3, i4⟩ := ih r.1 _ q (hc.sh s1) (by omega) h2
      have n2 := i2.2.1
      refine ⟨(nI (zV t (zj Z + 1)), r.2) :: r2, by rw [i1, List.append_assoc]; rfl, s1.trans i2 (.inl hs), fun x hx => ?_, fun nm nk hnk g => ?_⟩
      · rcases List.mem_cons.mp hx with hx | hx
        · rw [hx]
          intro y hy
          have := b2 y hy
          exact ⟨this.1, by omega⟩
        · intro y hy
          have := i3 x hx y hy
          omega
      · obtain ⟨k1, k2⟩ := i4 nm nk hnk g
        have g1 := gdC.of i2 g
        have w1 := b5 nm nk hnk g1
        have g2 : gdC nm nk (zac (zaj Z (zj Z + 2)) (1, zP t (zj Z + 1), zV t (zj Z + 1))) := fun x hx => gdC.of b1 g1 x hx
        have := g2.k
        refine ⟨⟨zn r.1, wB_up m m _ _ _ _ _ _ (Nat.le_refl _) (fun x _ hx => i2.2.2.2.1.1 x hx) w1, k1⟩, fun x hx => ?_⟩
        rcases List.mem_cons.mp hx with hx | hx
        · rw [hx]
          exact ⟨_, rfl, by omega⟩
        · exact k2 x hx
    · cases h
      exact ⟨[], (List.append_nil _).symm, Sh.tok (j := zj Z) ht (Nat.le_refl _) hc.2.2.2, fun _ q => (List.not_mem_nil q).elim, fun nm nk _ _ => ⟨rfl, fun _ q => (List.not_mem_nil q).elim⟩⟩
theorem gua_sh {m f res : Nat} {blk : StF} {c : Cx} {S0 Z' : Zs} {j : Nat} (ht : tV t) (hb : BS t blk m) (hc : okC c S0) (h80 : ¬ 80 ≤ zn S0) (hj : zj S0 < j) (hr : res ≤ 3) (h : pGua t f blk (zn S0) res c (zaj (zan S0) j) = .inr Z') : SS1 t m c S0 Z' := by
  unfold pGua at h
  obtain ⟨b, h1, h⟩ := zb_ok h
  obtain ⟨-, h⟩ := zI_ok h
  obtain ⟨q, h2, h⟩ := zb_ok h
  have s0 : Sh t (zn S0) [] (zan S0) (zaj (zan S0) j) := Sh.tok (Z := zan S0) ht (Nat.le_of_lt hj) (by show zn S0 + 1 ≤ 80; omega)
  have hs1 : zn S0 < zn (zan S0) := Nat.lt_succ_self _
  have hs2 : zn S0 < zn (zaj (zan S0) j) := Nat.lt_succ_self _
  have c1 := hc.own (j := j) h80
  obtain ⟨b1, b2, b3, b4, b5⟩ := hb c _ b.1 b.2 c1 h1
  have s1 := s0.trans (b1.opn (u := zn S0) (.inl hs2)) (.inl hs1)
  have hb1 := b1.2.1
  have cc : okC (zn S0, c.2) b.1 := ⟨.inr (by show zn S0 < zn b.1; omega), hc.2.1, hc.2.2.1, b1.2.2.1⟩
  obtain ⟨r, r0, r1, r2, r3⟩ := cat_sh ht hb f b.1 [] q cc (by omega) h2
  have r0 : q.2 = r := r0
  have s2 := s1.trans r1 (.inl hs1)
  have hq1 := r1.2.1
  have e1 : zn (zaj (zan S0) j) = zn S0 + 1 := rfl
  have j1 : zj (zaj (zan S0) j) = j := rfl
  have hjb := b1.1
  have hjq := r1.1
  have hk : ∀ x : Nat, (if res = 0 then 16 else 17) ≠ x ∨ x = 16 ∨ x = 17 := fun x => by split <;> omega
  have k1 : (if res = 0 then 16 else 17 : Nat) = 16 ∨ (if res = 0 then 16 else 17 : Nat) = 17 := by split <;> omega
  have k3 : (if res = 0 then 16 else 17 : Nat) = 17 → 1 ≤ res := by split <;> omega
  generalize (if res = 0 then 16 else 17 : Nat) = k at *
  split at h
  · obtain ⟨z, h3, h⟩ := zb_ok h
    cases h
    have cz : okC c (zaj q.1 (zj q.1 + 1)) := ⟨by show c.1 = 999 ∨ c.1 < zn q.1; have := hc.1; omega, hc.2.1, hc.2.2.1, r1.2.2.1⟩
    obtain ⟨f1, f2, f3, f4, f5⟩ := hb c _ z.1 z.2 cz h3
    have hz1 : zn q.1 ≤ zn z.1 := f1.2.1
    have hz2 : zj q.1 + 1 ≤ zj z.1 := f1.1
    have t1 : Sh t (zn S0) [] q.1 (zaj q.1 (zj q.1 + 1)) := Sh.tok ht (Nat.le_add_right _ _) r1.2.2.1
    have s3 := s2.trans (t1.trans (f1.opn (u := zn S0) (.inl (by show zn S0 < zn q.1; omega))) (.inl (by omega))) (.inl hs1)
    have s3 : Sh t (zn S0) (q.2.map (·.1)) (zan S0) z.1 := by
      rw [r0]
      rw [show ([] ++ [] ++ r.map (·.1) ++ ([] ++ []) : List Int32) = r.map (·.1) from by simp] at s3
      exact s3
    have f2' : ∀ x, x ∈ z.2 → zn q.1 ≤ x ∧ x < zn z.1 := f2
    refine ⟨Sh.own s3 (fun x hx => ?_) (fun g hg x hx => ?_) (fun x hx y hy => ?_) (fun q => by omega), by show zn S0 < zn z.1; omega, by show zj S0 < zj z.1; omega, fun nm nk hnk g => ?_⟩
    · have := b2 x hx
      omega
    · cases hg
      have := f2' x hx
      omega
    · have := r2 x (by rw [← r0]; exact hx) y hy
      omega
    · have g3 : gdC nm nk z.1 := g
      have g2 := gdC.of f1 g3
      have g2 : gdC nm nk q.1 := g2
      have g1 := gdC.of r1 g2
      obtain ⟨w2, w3⟩ := r3 nm nk hnk g2
      have w1 := b5 nm nk hnk g1
      have w4 := f5 nm nk hnk g3
      have w4 : wB (zT z.1) nm m c.1 c.2.1 (5 - c.2.2) z.2 (zn q.1) (zn z.1) := w4
      obtain ⟨q1, q2, q3, q4, q5, q6, q7, q8⟩ := tset_s (T := zT z.1) (s := zn S0) (k := k) (a := nI res) (b := 0) (e1 := []) (e2 := []) (l := b.2) (o := some z.2) (c := q.2)
      have tz : tF (zT q.1) (zT z.1) (zn q.1) := f1.2.2.2.1
      have tq : tF (zT b.1) (zT q.1) (zn b.1) := r1.2.2.2.1
      have d1 : 5 - c.2.2 = 5 - c.2.2 := rfl
      show wS (tset (zT z.1) (zn S0) k (nI res) 0 [] [] b.2 (some z.2) q.2) nm (wB (tset (zT z.1) (zn S0) k (nI res) 0 [] [] b.2 (some z.2) q.2) nm m) c.1 c.2.1 (6 - c.2.2) (zn S0) (zn z.1)
      refine ⟨wP_i ⟨by omega, fun q => by omega, fun q => by omega, fun q => by omega, fun q => by omega, fun q => by omega, fun q => by omega, fun q => by omega, fun q => by omega, by rw [r0]; exact w3⟩, ?_⟩
      rw [q1, q2, q3, q6, q7, q8, if_neg (by omega), if_neg (by omega), if_pos k1]
      refine ⟨5 - c.2.2, zn b.1, zn q.1, by omega, ?_, ?_, ?_, by omega, fun q => ⟨res, rfl, k3 q, hr⟩⟩
      · refine wB_up m m _ _ _ _ _ _ (Nat.le_refl _) (fun x h1 h2 => ?_) w1
        exact ((tq.1 x h2).trans (tz.1 x (by omega))).trans (tset_o (by omega))
      · rw [r0]
        refine wC_up (lo := zn S0 + 1) (hi := zn q.1) (wB_le _ nm m) (fun _ _ _ _ x y hx hy w => wB_up m m _ _ _ _ _ _ (Nat.le_refl _) (fun i h1 h2 => ?_) w) (by omega) (Nat.le_refl _) w2
        exact (tz.1 i (by omega)).trans (tset_o (by omega))
      · exact wB_up m m _ _ _ _ _ _ (Nat.le_refl _) (fun x h1 h2 => tset_o (by omega)) w4
  · cases h
    have s2 : Sh t (zn S0) (q.2.map (·.1)) (zan S0) q.1 := by
      rw [r0]
      rw [show ([] ++ [] ++ r.map (·.1) : List Int32) = r.map (·.1) from by simp] at s2
      exact s2
    refine ⟨Sh.own s2 (fun x hx => ?_) (fun g hg => by cases hg) (fun x hx y hy => ?_) (fun q => by omega), by show zn S0 < zn q.1; omega, by show zj S0 < zj q.1; omega, fun nm nk hnk g => ?_⟩
    · have := b2 x hx
      omega
    · have := r2 x (by rw [← r0]; exact hx) y hy
      omega
    · have g2 : gdC nm nk q.1 := g
      have g1 := gdC.of r1 g2
      obtain ⟨w2, w3⟩ := r3 nm nk hnk g2
      have w1 := b5 nm nk hnk g1
      obtain ⟨q1, q2, q3, q4, q5, q6, q7, q8⟩ := tset_s (T := zT q.1) (s := zn S0) (k := k) (a := nI res) (b := 0) (e1 := []) (e2 := []) (l := b.2) (o := none) (c := q.2)
      have tq : tF (zT b.1) (zT q.1) (zn b.1) := r1.2.2.2.1
      show wS (tset (zT q.1) (zn S0) k (nI res) 0 [] [] b.2 none q.2) nm (wB (tset (zT q.1) (zn S0) k (nI res) 0 [] [] b.2 none q.2) nm m) c.1 c.2.1 (6 - c.2.2) (zn S0) (zn q.1)
      refine ⟨wP_i ⟨by omega, fun q => by omega, fun q => by omega, fun q => by omega, fun q => by omega, fun q => by omega, fun q => by omega, fun q => by omega, fun q => by omega, by rw [r0]; exact w3⟩, ?_⟩
      rw [q1, q2, q3, q6, q7, q8, if_neg (by omega), if_neg (by omega), if_pos k1]
      refine ⟨5 - c.2.2, zn b.1, zn q.1, by omega, ?_, ?_, rfl, by omega, fun q => ⟨res, rfl, k3 q, hr⟩⟩
      · refine wB_up m m _ _ _ _ _ _ (Nat.le_refl _) (fun x h1 h2 => ?_) w1
        exact (tq.1 x h2).trans (tset_o (by omega))
      · rw [r0]
        exact wC_up (lo := zn S0 + 1) (hi := zn q.1) (wB_le _ nm m) (fun _ _ _ _ x y hx hy w => wB_up m m _ _ _ _ _ _ (Nat.le_refl _) (fun i h1 h2 => tset_o (by omega)) w) (by omega) (Nat.le_refl _) w2
end SHAPE
