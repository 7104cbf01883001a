set_option maxRecDepth 100000
section SHAPE2
variable {t : Tks}
theorem zif {α : Type} {c : Prop} [Decidable c] {a b x : α} (h : (if c then a else b) = x) : (c ∧ a = x) ∨ (¬ c ∧ b = x) := by
  by_cases e : c
  · rw [if_pos e] at h
    exact .inl ⟨e, h⟩
  · rw [if_neg e] at h
    exact .inr ⟨e, h⟩
theorem again_sh {m : Nat} {c : Cx} {S0 Z1 : Zs} {k : Nat} {a : Int32} (hc : okC c S0) (h80 : ¬ 80 ≤ zn S0) (hk : k = 14 ∨ k = 15) (hZ : Sh t (zn S0) [] (zan S0) Z1) (hn : zn Z1 = zn S0 + 1) (hT : zT Z1 = zT S0) (hj : zj S0 < zj Z1) (hg : ∀ nm nk, nk ≤ 16 → gdC nm nk Z1 → c.1 ≠ 999 ∧ (k = 14 → ∃ j, a = nI j ∧ j < 16)) : SS1 t m c S0 (zaT Z1 (tset (zT S0) (zn S0) k a (nI c.1) [] [] [] none [])) := by
  obtain ⟨c1, c2, c3, c4⟩ := hc
  rw [← hT]
  refine ⟨Sh.own (cs := []) hZ (fun _ q => (List.not_mem_nil q).elim) (fun _ q => by cases q) (fun _ q => (List.not_mem_nil q).elim) (fun _ => ⟨c.1, rfl, by omega⟩), by show zn S0 < zn Z1; omega, hj, fun nm nk hnk g => ?_⟩
  have g1 : gdC nm nk Z1 := g
  have g2 := (hg nm nk hnk g1).1
  show wS _ nm _ _ _ _ _ (zn Z1)
  rw [hn]
  exact wS_0 (by omega) (wP_i ⟨by omega, fun q => by omega, fun q => by omega, fun q => by omega, fun q => by omega, fun q => (hg nm nk hnk g1).2 (by omega), fun q => by omega, fun q => by omega, fun q => by omega, noM⟩) (fun q => by omega) (fun _ => ⟨by omega, by omega, rfl⟩)
theorem leave_sh {m : Nat} {c : Cx} {S0 Z1 : Zs} {k : Nat} {a : Int32} (hc : okC c S0) (h80 : ¬ 80 ≤ zn S0) (hk : k = 11 ∨ k = 12) (hZ : Sh t (zn S0) [] (zan S0) Z1) (hn : zn Z1 = zn S0 + 1) (hT : zT Z1 = zT S0) (hj : zj S0 < zj Z1) (hg : ∀ nm nk, nk ≤ 16 → gdC nm nk Z1 → ∃ n, a = nI n ∧ 1 ≤ n ∧ n ≤ c.2.1) : SS1 t m c S0 (zaT Z1 (tset (zT S0) (zn S0) k a 0 [] [] [] none [])) := by
  obtain ⟨c1, c2, c3, c4⟩ := hc
  rw [← hT]
  refine ⟨Sh.own (cs := []) hZ (fun _ q => (List.not_mem_nil q).elim) (fun _ q => by cases q) (fun _ q => (List.not_mem_nil q).elim) (fun q => by omega), by show zn S0 < zn Z1; omega, hj, fun nm nk hnk g => ?_⟩
  have g1 : gdC nm nk Z1 := g
  obtain ⟨n, g2, g3, g4⟩ := hg nm nk hnk g1
  show wS _ nm _ _ _ _ _ (zn Z1)
  rw [hn]
  exact wS_0 (by omega) (wP_i ⟨by omega, fun q => by omega, fun q => by omega, fun q => by omega, fun q => by omega, fun q => by omega, fun q => by omega, fun q => by omega, fun q => by omega, noM⟩) (fun _ => ⟨n, g2, g3, g4, by omega⟩) (fun q => by omega)
theorem if_sh {m : Nat} {blk : StF} {c : Cx} {S0 Z2 : Zs} {j k : Nat} {a : Int32} {e1 e2 : List En} {l : List Nat} {o : Option (List Nat)} (ht : tV t) (hc : okC c S0) (h80 : ¬ 80 ≤ zn S0) (hj : zj S0 < j) (hZ : Sh t (zn S0) [] (zaj (zan S0) j) Z2) (hl : lIn l (zn S0 + 1) (zn Z2)) (ho : ∀ f, o = some f → lIn f (zn S0 + 1) (zn Z2)) (hk : k = 9 ∨ k = 10) (w : ∀ nm nk, nk ≤ 16 → gdC nm nk Z2 → (k = 9 → wE e1 ∧ wE e2 ∧ ∃ d x, 6 - c.2.2 = d + 1 ∧ wB (zT Z2) nm m c.1 c.2.1 d l (zn S0 + 1) x ∧ wO (wB (zT Z2) nm m) c.1 c.2.1 d o x (zn Z2)) ∧ (k = 10 → wE e1 ∧ ∃ d, 6 - c.2.2 = d + 1 ∧ wB (zT Z2) nm m c.1 (c.2.1 + 1) d l (zn S0 + 1) (zn Z2))) : SS1 t m c S0 (zaT Z2 (tset (zT Z2) (zn S0) k a 0 e1 e2 l o [])) := by
  have s0 : Sh t (zn S0) [] (zan S0) (zaj (zan S0) j) := Sh.tok (Z := zan S0) ht (Nat.le_of_lt hj) (by show zn S0 + 1 ≤ 80; omega)
  have hs1 : zn S0 < zn (zan S0) := Nat.lt_succ_self _
  have s1 : Sh t (zn S0) (([] : List (Int32 × List Nat)).map (·.1)) (zan S0) Z2 := s0.trans hZ (.inl hs1)
  have hn2 : zn S0 + 1 ≤ zn Z2 := hZ.2.1
  have hj2 : j ≤ zj Z2 := hZ.1
  refine ⟨Sh.own s1 (fun x hx => (hl x hx).2) (fun f hf x hx => (ho f hf x hx).2) (fun _ q => (List.not_mem_nil q).elim) (fun q => by omega), by show zn S0 < zn Z2; omega, by show zj S0 < zj Z2; omega, fun nm nk hnk g => ?_⟩
  have g2 : gdC nm nk Z2 := g
  obtain ⟨q1, q2, q3, q4, q5, q6, q7, q8⟩ := tset_s (T := zT Z2) (s := zn S0) (k := k) (a := a) (b := 0) (e1 := e1) (e2 := e2) (l := l) (o := o) (c := [])
  show wS (tset (zT Z2) (zn S0) k a 0 e1 e2 l o []) nm (wB (tset (zT Z2) (zn S0) k a 0 e1 e2 l o []) nm m) c.1 c.2.1 (6 - c.2.2) (zn S0) (zn Z2)
  refine ⟨wP_i ⟨by omega, fun q => by omega, fun q => by omega, fun q => by omega, fun q => by omega, fun q => by omega, fun q => ?_, fun q => ((w nm nk hnk g2).1 (by omega)).2.1, fun q => by omega, noM⟩, ?_⟩
  · rcases hk with hk | hk
    · exact ((w nm nk hnk g2).1 hk).1
    · exact ((w nm nk hnk g2).2 hk).1
  rw [q1, q2, q3, q6, q7, q8]
  rcases hk with hk | hk
  · rw [if_pos hk]
    obtain ⟨-, -, d, x, h1, h2, h3⟩ := (w nm nk hnk g2).1 hk
    have l1 := wB_le (zT Z2) nm m _ _ _ _ _ _ h2
    have l2 := wO_le (wB_le (zT Z2) nm m) h3
    exact ⟨d, x, h1, wB_up m m _ _ _ _ _ _ (Nat.le_refl _) (fun x h1 h2 => tset_o (by omega)) h2, wO_up (lo := zn S0 + 1) (hi := zn Z2) (fun _ _ _ _ x y hx hy w => wB_up m m _ _ _ _ _ _ (Nat.le_refl _) (fun i h1 h2 => tset_o (by omega)) w) l1 (Nat.le_refl _) h3⟩
  · rw [if_neg (by omega), if_pos hk]
    obtain ⟨-, d, h1, h2⟩ := (w nm nk hnk g2).2 hk
    exact ⟨d, h1, wB_up m m _ _ _ _ _ _ (Nat.le_refl _) (fun x h1 h2 => tset_o (by omega)) h2⟩
theorem stm_sh {m f : Nat} {blk : StF} {c : Cx} {S0 Z' : Zs} (ht : tV t) (hb : BS t blk m) (hc : okC c S0) (hlp : c.2.1 ≤ c.2.2) (h : pStm t f blk c S0 = .inr Z') : SS1 t m c S0 Z' := by
  unfold pStm at h
  obtain ⟨h80, h⟩ := zI_ok h
  have hc1 := hc.1
  have hc2 := hc.2.1
  have hc3 := hc.2.2.1
  have hs1 : zn S0 < zn (zan S0) := Nat.lt_succ_self _
  have n80 : zn (zan S0) ≤ 80 := by show zn S0 + 1 ≤ 80; omega
  rcases zif h with ⟨hx, h⟩ | ⟨hx, h⟩
  · obtain ⟨c6, h⟩ := zI_ok h
    obtain ⟨-, h⟩ := zN_ok h
    rcases zif h with ⟨hx, h⟩ | ⟨hx, h⟩
    · exact call_sh ht h80 (by omega) (.inl ⟨rfl, _, rfl, by omega⟩) h
    · obtain ⟨r, h1, h⟩ := zb_ok h
      obtain ⟨-, h⟩ := zN_ok h
      cases h
      obtain ⟨s1, l1⟩ := pSum_sh h1
      exact SS1.own ht h80 (by omega) (by omega) (fun nm => wP_i ⟨by omega, fun q => by omega, fun _ => ⟨_, rfl, by omega⟩, fun q => by omega, fun q => by omega, fun q => by omega, fun _ => s1.w, fun q => by omega, fun q => by omega, noM⟩)
  rcases zif h with ⟨hx, h⟩ | ⟨hx, h⟩
  · obtain ⟨c3, h⟩ := zI_ok h
    rcases zif h with ⟨hx, h⟩ | ⟨hx, h⟩
    · obtain ⟨r, h1, h⟩ := zb_ok h
      obtain ⟨-, h⟩ := zN_ok h
      obtain ⟨-, h⟩ := zN_ok h
      obtain ⟨q, h2, h⟩ := zb_ok h
      obtain ⟨-, h⟩ := zN_ok h
      cases h
      obtain ⟨s1, l1⟩ := pSum_sh h1
      obtain ⟨s2, l2⟩ := pSum_sh h2
      exact SS1.own ht h80 (by omega) (by omega) (fun nm => wP_i ⟨by omega, fun q => by omega, fun q => by omega, fun _ => ⟨_, rfl, by omega⟩, fun q => by omega, fun q => by omega, fun _ => s1.w, fun _ => s2.w, fun q => by omega, noM⟩)
    obtain ⟨-, h⟩ := zN_ok h
    rcases zif h with ⟨hx, h⟩ | ⟨hx, h⟩
    · obtain ⟨r, h1, h⟩ := zb_ok h
      obtain ⟨-, h⟩ := zN_ok h
      cases h
      obtain ⟨s1, l1⟩ := pSum_sh h1
      exact SS1.own ht h80 (by omega) (by omega) (fun nm => wP_i ⟨by omega, fun q => by omega, fun q => by omega, fun _ => ⟨_, rfl, by omega⟩, fun q => by omega, fun q => by omega, fun _ => s1.w, fun q => by omega, fun q => by omega, noM⟩)
    rcases zif h with ⟨hx, h⟩ | ⟨hx, h⟩
    · obtain ⟨-, h⟩ := zN_ok h
      cases h
      exact SS1.own ht h80 (by omega) (by omega) (fun nm => wP_i ⟨by omega, fun q => by omega, fun q => by omega, fun _ => ⟨_, rfl, by omega⟩, fun q => by omega, fun q => by omega, fun q => by omega, fun q => by omega, fun q => by omega, noM⟩)
    · obtain ⟨-, h⟩ := zN_ok h
      obtain ⟨c4, h⟩ := zI_ok h
      obtain ⟨-, h⟩ := zN_ok h
      cases h
      exact SS1.own ht h80 (by omega) (by omega) (fun nm => wP_i ⟨by omega, fun q => by omega, fun q => by omega, fun _ => ⟨_, rfl, by omega⟩, fun _ => ⟨_, rfl, by omega⟩, fun q => by omega, fun q => by omega, fun q => by omega, fun q => by omega, noM⟩)
  rcases zif h with ⟨hx, h⟩ | ⟨hx, h⟩
  · exact call_sh ht h80 (Nat.le_refl _) (.inr rfl) h
  rcases zif h with ⟨hx, h⟩ | ⟨hx, h⟩
  · obtain ⟨c7, h⟩ := zN_ok h
    obtain ⟨-, h⟩ := zN_ok h
    cases h
    exact SS1.own ht h80 (by omega) (by omega) (fun nm => wP_i ⟨by omega, fun _ => ⟨_, rfl, ht.1 _ c7⟩, fun q => by omega, fun q => by omega, fun q => by omega, fun q => by omega, fun q => by omega, fun q => by omega, fun q => by omega, noM⟩)
  rcases zif h with ⟨hx, h⟩ | ⟨hx, h⟩
  · obtain ⟨r, h1, h⟩ := zb_ok h
    obtain ⟨-, h⟩ := zN_ok h
    cases h
    obtain ⟨s1, l1⟩ := pSum_sh h1
    exact SS1.own ht h80 (by omega) (by omega) (fun nm => wP_i ⟨by omega, fun q => by omega, fun q => by omega, fun q => by omega, fun q => by omega, fun q => by omega, fun _ => s1.w, fun q => by omega, fun q => by omega, noM⟩)
  rcases zif h with ⟨hx, h⟩ | ⟨hx, h⟩
  · obtain ⟨r, h1, h⟩ := zb_ok h
    obtain ⟨-, h⟩ := zI_ok' h
    obtain ⟨q, h2, h⟩ := zb_ok h
    obtain ⟨b, h3, h⟩ := zb_ok h
    obtain ⟨s1, l1⟩ := pSum_sh h1
    obtain ⟨s2, l2⟩ := pSum_sh h2
    have hj : zj S0 < q.1 := by omega
    have cq := hc.own (j := q.1) h80
    obtain ⟨b1, b2, b3, b4, b5⟩ := hb c _ b.1 b.2 cq h3
    have hs2 : zn S0 < zn (zaj (zan S0) q.1) := Nat.lt_succ_self _
    have b1' := b1.opn (u := zn S0) (.inl hs2)
    have b2 : lIn b.2 (zn S0 + 1) (zn b.1) := b2
    have hn1 : zn S0 + 1 ≤ zn b.1 := b1.2.1
    rcases zif h with ⟨hx, h⟩ | ⟨hx, h⟩
    · obtain ⟨z, h4, h⟩ := zb_ok h
      cases h
      have cz := (cq.sh b1).sh (Sh.tok (u := 999) (j := zj b.1 + 1) ht (Nat.le_add_right _ _) b1.2.2.1)
      obtain ⟨f1, f2, f3, f4, f5⟩ := hb c _ z.1 z.2 cz h4
      have t1 : Sh t (zn S0) [] b.1 (zaj b.1 (zj b.1 + 1)) := Sh.tok ht (Nat.le_add_right _ _) b1.2.2.1
      have f2 : lIn z.2 (zn b.1) (zn z.1) := f2
      have hn2 : zn b.1 ≤ zn z.1 := f1.2.1
      have f1' := f1.opn (u := zn S0) (.inl (by show zn S0 < zn b.1; omega))
      have s3 := b1'.trans (t1.trans f1' (.inl (by omega))) (.inl hs2)
      refine if_sh (blk := blk) ht hc h80 hj s3 (fun x hx => ?_) (fun g hg x hx => ?_) (.inl rfl) (fun nm nk hnk g => ⟨fun _ => ⟨s1.w, s2.w, 5 - c.2.2, zn b.1, by omega, ?_, ?_⟩, fun q => by omega⟩)
      · have := b2 x hx
        omega
      · cases hg
        have := f2 x hx
        omega
      · have g1 := gdC.of f1 g
        have w1 := b5 nm nk hnk g1
        exact wB_up m m _ _ _ _ _ _ (Nat.le_refl _) (fun x h1 h2 => f1.2.2.2.1.1 x h2) w1
      · exact f5 nm nk hnk g
    · cases h
      refine if_sh (blk := blk) ht hc h80 hj b1' (fun x hx => ?_) (fun g hg x hx => by cases hg) (.inl rfl) (fun nm nk hnk g => ⟨fun _ => ⟨s1.w, s2.w, 5 - c.2.2, zn b.1, by omega, ?_, rfl⟩, fun q => by omega⟩)
      · exact b2 x hx
      · exact b5 nm nk hnk g
  rcases zif h with ⟨hx, h⟩ | ⟨hx, h⟩
  · obtain ⟨r, h1, h⟩ := zb_ok h
    obtain ⟨b, h3, h⟩ := zb_ok h
    cases h
    obtain ⟨s1, l1⟩ := pSum_sh h1
    have hj : zj S0 < r.1 := by omega
    have cq0 := hc.own (j := r.1) h80
    have cq : okC (c.1, c.2.1 + 1, c.2.2) (zaj (zan S0) r.1) := ⟨cq0.1, by show c.2.1 + 1 ≤ c.2.2 + 1; omega, cq0.2.2.1, cq0.2.2.2⟩
    obtain ⟨b1, b2, b3, b4, b5⟩ := hb _ _ b.1 b.2 cq h3
    have b4 : c.2.2 < 6 := b4
    have hs2 : zn S0 < zn (zaj (zan S0) r.1) := Nat.lt_succ_self _
    exact if_sh (blk := blk) ht hc h80 hj (b1.opn (u := zn S0) (.inl hs2)) b2 (fun g hg => by cases hg) (.inr rfl) (fun nm nk hnk g => ⟨fun q => by omega, fun _ => ⟨s1.w, 5 - c.2.2, by omega, b5 nm nk hnk g⟩⟩)
  rcases zif h with ⟨hx, h⟩ | ⟨hx, h⟩
  · obtain ⟨c7, h⟩ := zN_ok h
    obtain ⟨-, h⟩ := zN_ok h
    cases h
    have hw := hx
    by_cases e : zV t (zj S0 + 1) = 0 ∨ c.2.1 < zV t (zj S0 + 1)
    · rw [if_pos e]
      refine leave_sh (Z1 := zaj (zac (zan S0) (4, zP t (zj S0 + 1), 0)) (zj S0 + 3)) hc h80 hw (Sh.chk (u := zn S0) (Z := zan S0) (i := zj S0 + 1) (j := zj S0 + 3) (how := 4) (v := 0) ht (Nat.le_succ _) (by omega) n80 (by decide)) rfl rfl (by show zj S0 < zj S0 + 3; omega) (fun nm nk hnk g => ?_)
      have g1 : gdC nm nk (zac (zan S0) (4, zP t (zj S0 + 1), 0)) := g
      exact g1.no.elim
    · rw [if_neg e]
      exact leave_sh (Z1 := zaj (zan S0) (zj S0 + 3)) hc h80 hw (Sh.tok (u := zn S0) (Z := zan S0) ht (Nat.le_add_right _ 3) n80) rfl rfl (by show zj S0 < zj S0 + 3; omega) (fun nm nk hnk g => ⟨_, rfl, by omega, by omega⟩)
  rcases zif h with ⟨hx, h⟩ | ⟨hx, h⟩
  · obtain ⟨c3', h⟩ := zN_ok h
    obtain ⟨-, h⟩ := zN_ok h
    cases h
    refine ⟨Sh.own (Z1 := zac (zaj (zan S0) (zj S0 + 3)) (1, zP t (zj S0 + 1), zV t (zj S0 + 1))) (cs := []) (Sh.chk (u := zn S0) (Z := zan S0) (i := zj S0 + 1) (j := zj S0 + 3) (how := 1) ht (Nat.le_succ _) (by omega) n80 (by decide)) (fun _ q => (List.not_mem_nil q).elim) (fun _ q => by cases q) (fun _ q => (List.not_mem_nil q).elim) (fun q => by omega), Nat.lt_succ_self _, by show zj S0 < zj S0 + 3; omega, fun nm nk hnk g => ?_⟩
    have g1 : gdC nm nk (zac (zaj (zan S0) (zj S0 + 3)) (1, zP t (zj S0 + 1), zV t (zj S0 + 1))) := g
    have := g1.k
    exact wS_0 (by omega) (wP_i ⟨by omega, fun q => by omega, fun q => by omega, fun q => by omega, fun q => by omega, fun _ => ⟨_, rfl, by omega⟩, fun q => by omega, fun q => by omega, fun q => by omega, noM⟩) (fun q => by omega) (fun q => by omega)
  rcases zif h with ⟨hx, h⟩ | ⟨hx, h⟩
  · obtain ⟨c3', h⟩ := zN_ok h
    obtain ⟨-, h⟩ := zN_ok h
    cases h
    by_cases e : c.1 = 999
    · rw [if_pos e]
      refine again_sh (Z1 := zac (zaj (zac (zan S0) (4, zP t (zj S0), 0)) (zj S0 + 3)) (1, zP t (zj S0 + 1), zV t (zj S0 + 1))) hc h80 (.inl rfl) ((Sh.chk (u := zn S0) (Z := zan S0) (i := zj S0) (j := zj S0) (how := 4) (v := 0) ht (Nat.le_refl _) (Nat.le_refl _) n80 (by decide)).trans (Sh.chk (Z := zac (zan S0) (4, zP t (zj S0), 0)) (i := zj S0 + 1) (j := zj S0 + 3) (how := 1) (v := zV t (zj S0 + 1)) ht (Nat.le_succ _) (by omega) n80 (by decide)) (.inl hs1)) rfl rfl (by show zj S0 < zj S0 + 3; omega) (fun nm nk hnk g => ?_)
      have g1 : gdC nm nk (zac (zan S0) (4, zP t (zj S0), 0)) := fun x hx => g x (List.mem_append_left _ hx)
      exact g1.no.elim
    · rw [if_neg e]
      refine again_sh (Z1 := zac (zaj (zan S0) (zj S0 + 3)) (1, zP t (zj S0 + 1), zV t (zj S0 + 1))) hc h80 (.inl rfl) (Sh.chk (u := zn S0) (Z := zan S0) (i := zj S0 + 1) (j := zj S0 + 3) (how := 1) (v := zV t (zj S0 + 1)) ht (Nat.le_succ _) (by omega) n80 (by decide)) rfl rfl (by show zj S0 < zj S0 + 3; omega) (fun nm nk hnk g => ?_)
      have := g.k
      exact ⟨e, fun _ => ⟨_, rfl, by omega⟩⟩
  rcases zif h with ⟨hx, h⟩ | ⟨hx, h⟩
  · obtain ⟨-, h⟩ := zN_ok h
    cases h
    by_cases e : c.1 = 999
    · rw [if_pos e]
      refine again_sh (Z1 := zaj (zac (zan S0) (4, zP t (zj S0), 0)) (zj S0 + 2)) hc h80 (.inr rfl) ((Sh.chk (u := zn S0) (Z := zan S0) (i := zj S0) (j := zj S0 + 2) (how := 4) (v := 0) ht (Nat.le_refl _) (by omega) n80 (by decide))) rfl rfl (by show zj S0 < zj S0 + 2; omega) (fun nm nk hnk g => ?_)
      have g1 : gdC nm nk (zac (zan S0) (4, zP t (zj S0), 0)) := g
      exact g1.no.elim
    · rw [if_neg e]
      exact again_sh (Z1 := zaj (zan S0) (zj S0 + 2)) hc h80 (.inr rfl) (Sh.tok (u := zn S0) (Z := zan S0) ht (Nat.le_add_right _ 2) n80) rfl rfl (by show zj S0 < zj S0 + 2; omega) (fun nm nk hnk g => ⟨e, fun q => by omega⟩)
  rcases zif h with ⟨hx, h⟩ | ⟨hx, h⟩
  · exact gua_sh ht hb hc h80 (by omega) (by omega) h
  · obtain ⟨-, h⟩ := zN_ok h
    obtain ⟨c13, h⟩ := zI_ok' h
    exact gua_sh ht hb hc h80 (by omega) c13.2 h
end SHAPE2
