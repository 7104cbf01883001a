set_option maxRecDepth 100000
/-! facts that last, whatever happens to cells own -/
def St (own : List Nat) (l0 : Nat) (F : XG → Nat → Prop) (G : XG) : Prop := ∃ H lo, l0 ≤ lo ∧ F H lo ∧ (∃ c u, KQ (fun a => a < lo) c u H G) ∧ ∀ x, x ∈ own → x < lo ∨ Gtp H ≤ x
theorem St.mk {own : List Nat} {l0 lo : Nat} {F : XG → Nat → Prop} {G : XG} (h : F G lo) (hl : l0 ≤ lo) (ho : ∀ x, x ∈ own → x < lo ∨ Gtp G ≤ x) : St own l0 F G := ⟨G, lo, hl, h, ⟨0, 0, KQ.refl⟩, ho⟩
theorem St.ow {own : List Nat} {l0 c u : Nat} {F : XG → Nat → Prop} {P : Nat → Prop} {G G' : XG} (h : St own l0 F G) (k : KQ P c u G G') (hp : ∀ a, P a → a ∈ own ∨ a < l0) : St own l0 F G' := by
  obtain ⟨H, lo, h1, h2, ⟨c1, u1, h3⟩, h4⟩ := h
  refine ⟨H, lo, h1, h2, ⟨c1 + c, u1 + u, KQ.new ((h3.mono (fun a q => .inl q) (Nat.le_refl _) (Nat.le_refl _)).trans (k.mono (fun a q => ?_) (Nat.le_refl _) (Nat.le_refl _)))⟩, h4⟩
  rcases hp a q with e | e
  · exact h4 a e
  · exact .inl (by omega)
theorem St.grow {own own' : List Nat} {l0 : Nat} {F : XG → Nat → Prop} {G : XG} (h : St own l0 F G) (hp : ∀ x, x ∈ own' → x ∈ own ∨ Gtp G ≤ x) : St own' l0 F G := by
  obtain ⟨H, lo, h1, h2, ⟨c1, u1, h3⟩, h4⟩ := h
  refine ⟨H, lo, h1, h2, ⟨c1, u1, h3⟩, fun x hx => ?_⟩
  have := h3.2.1
  rcases hp x hx with e | e
  · exact h4 x e
  · exact .inr (by omega)
theorem St.imp {own : List Nat} {l0 : Nat} {F F' : XG → Nat → Prop} {G : XG} (h : St own l0 F G) (hi : ∀ H lo, F H lo → F' H lo) : St own l0 F' G := by
  obtain ⟨H, lo, h1, h2, h3⟩ := h
  exact ⟨H, lo, h1, hi _ _ h2, h3⟩
theorem St.no {own : List Nat} {l0 a n : Nat} {es : List En} {G : XG} (h : St own l0 (fun H' lo => NO H' lo n a es) G) : NO G l0 n a es := by
  obtain ⟨H, lo, h1, h2, ⟨c, u, h3⟩, -⟩ := h
  exact NO.lo h1 _ _ _ (NO.kq h3 (fun a h1 h2 => by omega) _ _ _ h2)
theorem St.ba {own : List Nat} {l0 : Nat} {A : Nat → Nat} {o : Option Nat} {l : List Nat} {G : XG} (h : St own l0 (fun H' lo => BA H' lo A o l) G) : BA G l0 A o l := by
  obtain ⟨H, lo, h1, h2, ⟨c, u, h3⟩, -⟩ := h
  exact BA.lo h1 (h2.kq h3 (fun a h1 h2 => by omega))
theorem St.so {own : List Nat} {l0 s : Nat} {A : Nat → Nat} {T : Pg} {G : XG} (h : St own l0 (fun H' lo => SO H' lo A T s) G) : SO G l0 A T s := by
  obtain ⟨H, lo, h1, h2, ⟨c, u, h3⟩, -⟩ := h
  exact SO.lo h1 (h2.kq h3 (fun a h1 h2 => by omega))
theorem SO.T {G : XG} {lo s : Nat} {A : Nat → Nat} {T T' : Pg} (ht : tS T T' s) (h : SO G lo A T s) : SO G lo A T' s := by
  obtain ⟨t1, t2, t3, t4, t5, t6, t7, t8⟩ := ht
  refine ⟨h.1, h.2.1, h.2.2.1, ?_⟩
  have h4 : SK G lo A (A s) (Ta T s) (Tb T s) (T1 T s) (T2 T s) (Tl T s) (To T s) (Tc T s) (Tk T s) := h.2.2.2
  show SK G lo A (A s) (Ta T' s) (Tb T' s) (T1 T' s) (T2 T' s) (Tl T' s) (To T' s) (Tc T' s) (Tk T' s)
  rw [t1, t2, t3, t4, t5, t6, t7, t8]
  exact h4
/-- what reading a block comes to -/
def bS (S R p : Nat) (t : Tks) (J : Nat) (g : Nat → Option Nat) (nk nm : Nat) (A : Nat → Nat) (b : Nat) (c : Cx) (G : XG) (Z : Zs) (r : Zs × List Nat) (o : Option Value ⊕ Nat) (G' : XG) : Prop := ∃ A' z, o = .inl (some (.ref z)) ∧ (∀ x, x < zn Z → A' x = A x) ∧ KQ (rP R p) (10 * (zj r.1 - zj Z)) (400 * (zj r.1 - zj Z)) G G' ∧ kE G G' (p + 3) (zn Z) ∧ kE G G' (R + 1) b ∧ RE G' S R p t J g (zj r.1) ∧ RY G' R p nk nm A' b c r.1 ∧ SA G' (Gtp G) p A' (zT r.1) (zn Z) (zn r.1) ∧ BA G' (Gtp G) A' (some z) r.2
def XBk (S R p : Nat) (t : Tks) (J : Nat) (g : Nat → Option Nat) (nk nm : Nat) (blk : StF) (m : Nat) : Prop := ∀ A b c G D Z Q, RE G S R p t J g (zj Z) → RY G R p nk nm A b c Z → pz b c Z → J < zj Z + m → 45 + 10 * (6 - c.2.2) ≤ D → HC (rP R p) (10 * (J + 1 - zj Z)) (400 * (J + 1 - zj Z)) G (bS S R p t J g nk nm A b c G Z) (blk c Z) Q → XC xms D 65 [.ref R] G Q
/-- a cell is as it was -/
def sameC (H G : XG) (x : Nat) : Prop := Gkd G x = Gkd H x ∧ Gln G x = Gln H x ∧ (∀ f, Gfi G f x = Gfi H f x ∧ Gfr G f x = Gfr H f x) ∧ ∀ i, Gai G x i = Gai H x i ∧ Gar G x i = Gar H x i
theorem sameC.kq {P : Nat → Prop} {c u x : Nat} {H G G' : XG} (h : sameC H G x) (k : KQ P c u G G') (hx : x < Gtp G) (hp : ¬ P x) : sameC H G' x := by
  obtain ⟨h1, h2, h3, h4⟩ := h
  have q := k.2.2.2.2.1 x hx
  have q2 := k.2.2.2.2.2 x hx hp
  exact ⟨q.1.trans h1, q.2.trans h2, fun f => ⟨(q2.1 f).1.trans (h3 f).1, (q2.1 f).2.trans (h3 f).2⟩, fun i => ⟨(q2.2 i).1.trans (h4 i).1, (q2.2 i).2.1.trans (h4 i).2⟩⟩
theorem sameC.refl {G : XG} {x : Nat} : sameC G G x := ⟨rfl, rfl, fun _ => ⟨rfl, rfl⟩, fun _ => ⟨rfl, rfl⟩⟩
/-- on the way, its object z made: own cells as in H; addresses A', nodes, blocks -/
def WH (S R p : Nat) (t : Tks) (J : Nat) (g : Nat → Option Nat) (nk nm : Nat) (A : Nat → Nat) (b : Nat) (c : Cx) (G0 : XG) (S0 : Zs) (rv : Nat) (own : List Nat) (z : Nat) (H : XG) (cx : Cx) (A' : Nat → Nat) (Ns : List (Nat × List En)) (Bs : List (Nat × List Nat)) (G : XG) (Z : Zs) : Prop := C0 G0 S R p t J g nk nm A b c S0 ∧ (∃ c1 u1, KQ (rP R p) c1 u1 G0 G ∧ c1 + rv ≤ 10 * (zj Z - zj S0) ∧ u1 + 50 * rv ≤ 400 * (zj Z - zj S0)) ∧ zj S0 ≤ zj Z ∧ kE G0 G (p + 3) (zn S0) ∧ kE G0 G (R + 1) b ∧ RE G S R p t J g (zj Z) ∧ RY G R p nk nm A' b cx Z ∧ ((∀ x, x < zn S0 → A' x = A x) ∧ A' (zn S0) = z) ∧ (∀ s, zn S0 < s → s < zn Z → Gar G (p + 3) s = some (A' s) ∧ St own (Gtp G0) (fun H' lo => SO H' lo A' (zT Z) s) G) ∧ (∃ ks, Sh t (zn S0) ks (zan S0) Z) ∧ (∀ x, x ∈ own → Gtp G0 ≤ x ∧ x < Gtp G) ∧ (z ∈ own ∧ ∀ x, x ∈ own → sameC H G x) ∧ (∀ x, x ∈ Ns → St own (Gtp G0) (fun H' lo => NO H' lo 1001 x.1 x.2) G) ∧ ∀ y, y ∈ Bs → St own (Gtp G0) (fun H' lo => BA H' lo A' (some y.1) y.2) G ∧ ∀ x, x ∈ y.2 → x < zn Z
section WH
variable {D S R p : Nat} {t : Tks} {j J f nk nm b : Nat} {g : Nat → Option Nat} {A : Nat → Nat} {c : Cx} {S0 Z Z1 : Zs} {G0 G G1 G2 : XG} {rv rv' : Nat} {own : List Nat} {z : Nat} {H : XG} {cx : Cx} {A' : Nat → Nat} {Ns : List (Nat × List En)} {Bs : List (Nat × List Nat)} {r : Ft ⊕ Zs} {Q K : (Option Value ⊕ Nat) → XG → Prop}
theorem WH.re (h : WH S R p t J g nk nm A b c G0 S0 rv own z H cx A' Ns Bs G Z) : RE G S R p t J g (zj Z) := h.2.2.2.2.2.1
theorem WH.ry (h : WH S R p t J g nk nm A b c G0 S0 rv own z H cx A' Ns Bs G Z) : RY G R p nk nm A' b cx Z := h.2.2.2.2.2.2.1
theorem WH.gk (h : WH S R p t J g nk nm A b c G0 S0 rv own z H cx A' Ns Bs G Z) : Gkd G R = 3 := h.re.1.2.1
theorem WH.a (h : WH S R p t J g nk nm A b c G0 S0 rv own z H cx A' Ns Bs G Z) : Gfi G 5 R = nI (zj Z) := h.re.2.2.2.1
theorem WH.lJ (h : WH S R p t J g nk nm A b c G0 S0 rv own z H cx A' Ns Bs G Z) : zj S0 ≤ zj Z ∧ zj Z ≤ J ∧ J ≤ 200 := ⟨h.2.2.1, h.re.2.2.2.2, h.1.2.2.2.1⟩
theorem WH.Rp (h : WH S R p t J g nk nm A b c G0 S0 rv own z H cx A' Ns Bs G Z) : R + 4 ≤ p ∧ p + 6 ≤ Gtp G0 ∧ Gtp G0 ≤ Gtp G := by
  obtain ⟨h1, ⟨c1, u1, h2, -⟩, -⟩ := h
  exact ⟨h1.2.1.2.1, h1.2.1.1.t, h2.2.1⟩
theorem WH.zl (h : WH S R p t J g nk nm A b c G0 S0 rv own z H cx A' Ns Bs G Z) : Gtp G0 ≤ z ∧ z < Gtp G := h.2.2.2.2.2.2.2.2.2.2.1 z h.2.2.2.2.2.2.2.2.2.2.2.1.1
theorem WH.ob (h : WH S R p t J g nk nm A b c G0 S0 rv own z H cx A' Ns Bs G Z) : ∀ x, x ∈ own → sameC H G x := h.2.2.2.2.2.2.2.2.2.2.2.1.2
theorem WH.zo (h : WH S R p t J g nk nm A b c G0 S0 rv own z H cx A' Ns Bs G Z) : z ∈ own := h.2.2.2.2.2.2.2.2.2.2.2.1.1
theorem WH.oz (h : WH S R p t J g nk nm A b c G0 S0 rv own z H cx A' Ns Bs G Z) : sameC H G z := h.ob z h.zo
theorem WH.ol (h : WH S R p t J g nk nm A b c G0 S0 rv own z H cx A' Ns Bs G Z) : ∀ x, x ∈ own → Gtp G0 ≤ x ∧ x < Gtp G := h.2.2.2.2.2.2.2.2.2.2.1
theorem WH.pzz (h : WH S R p t J g nk nm A b c G0 S0 rv own z H cx A' Ns Bs G Z) : pz b c Z := by
  obtain ⟨⟨-, -, g3, -, -, g6, -, -⟩, -, -, -, -, -, -, -, -, ⟨ks, h10⟩, -⟩ := h
  obtain ⟨p1, p2, p3, ⟨p4, p5, p6, p7⟩, p8⟩ := g3
  have g3' : pz b c (zan S0) := ⟨Nat.le_succ_of_le p1, p2, fun x hx => Nat.lt_succ_of_lt (p3 x hx), ⟨by show c.1 = 999 ∨ c.1 < zn S0 + 1; omega, p5, p6, by show zn S0 + 1 ≤ 80; omega⟩, Nat.le_succ_of_le p8⟩
  exact g3'.sh h10 (.inr (Nat.lt_succ_self _)) (fun e => by omega)
/-- something of the reader's is done -/
theorem WH.on {c1 u1 : Nat} (h : WH S R p t J g nk nm A b c G0 S0 rv own z H cx A' Ns Bs G Z) (k : KQ (rP R p) c1 u1 G G1) (hj : zj Z ≤ zj Z1) (hc : c1 + rv' ≤ rv + 10 * (zj Z1 - zj Z)) (hu : u1 + 50 * rv' ≤ 50 * rv + 400 * (zj Z1 - zj Z)) (k3 : kE G G1 (p + 3) (zn Z)) (k1 : kE G G1 (R + 1) b) (hr : RE G1 S R p t J g (zj Z1)) {cy : Cx} (hy : RY G1 R p nk nm A' b cy Z1) (hn : zn Z1 = zn Z) (hT : zT Z1 = zT Z) (hS : ∃ ks, Sh t (zn S0) ks (zan S0) Z1) : WH S R p t J g nk nm A b c G0 S0 rv' own z H cy A' Ns Bs G1 Z1 := by
  have hRp := h.Rp
  have hz := h.zl
  obtain ⟨h1, ⟨c0, u0, h2, h2a, h2b⟩, h3, h4, h5, h6, h7, h8, h9, ⟨ks, h10⟩, h11, ⟨h12, h13⟩, h16, h17⟩ := h
  have hn0 : zn S0 + 1 ≤ zn Z := h10.2.1
  have hp : ∀ a, rP R p a → a ∈ own ∨ a < Gtp G0 := fun a q => .inr (by unfold rP at q; omega)
  refine ⟨h1, ⟨c0 + c1, u0 + u1, h2.trans k, by omega, by omega⟩, by omega, h4.trans k3 (by omega), h5.trans k1 (Nat.le_refl _), hr, hy, h8, fun s a b => ?_, hS, fun x hx => ⟨(h11 x hx).1, Nat.lt_of_lt_of_le (h11 x hx).2 k.2.1⟩, ⟨h12, fun x hx => (h13 x hx).kq k (h11 x hx).2 (fun q => by have := (h11 x hx).1; unfold rP at q; omega)⟩, fun x hx => (h16 x hx).ow k hp, fun y hy => ⟨(h17 y hy).1.ow k hp, by rw [hn]; exact (h17 y hy).2⟩⟩
  rw [hn] at b
  rw [hT]
  exact ⟨(k3 s b).trans (h9 s a b).1, (h9 s a b).2.ow k hp⟩
theorem WH.sk {c1 u1 j' : Nat} (h : WH S R p t J g nk nm A b c G0 S0 rv own z H cx A' Ns Bs G Z) (k : sK R c1 u1 G G1) (hj : zj Z ≤ j') (hc : c1 + rv' ≤ rv + 10 * (j' - zj Z)) (hu : u1 + 50 * rv' ≤ 50 * rv + 400 * (j' - zj Z)) (hr : RE G1 S R p t J g j') : WH S R p t J g nk nm A b c G0 S0 rv' own z H cx A' Ns Bs G1 (zaj Z j') := by
  have hRp := h.Rp
  have h80 := h.pzz.2.2.2.1.2.2.2
  obtain ⟨ks, hS⟩ := h.2.2.2.2.2.2.2.2.2.1
  exact h.on (Z1 := zaj Z j') (k.1.mono (fun x e => .inl ⟨by omega, by omega⟩) (Nat.le_refl _) (Nat.le_refl _)) hj hc hu (kE.sk k (by omega) (by omega)) (kE.sk k (by omega) (by omega)) hr (h.ry.sk k) rfl rfl ⟨ks ++ [], hS.trans (Sh.tok h.1.2.2.2.2.2.2.2 hj h80) (.inl (Nat.lt_succ_self _))⟩
theorem WH.nx (h : WH S R p t J g nk nm A b c G0 S0 rv own z H cx A' Ns Bs G Z) (hk : zK t (zj Z) ≠ 0) : WH S R p t J g nk nm A b c G0 S0 rv own z H cx A' Ns Bs (Sfi G 5 R (nI (zj Z + 1))) (zaj Z (zj Z + 1)) := h.sk (rv' := rv) sK.at (Nat.le_succ _) (by omega) (by omega) (h.re.at (h.re.nx hk))
theorem WH.kq (h : WH S R p t J g nk nm A b c G0 S0 rv own z H cx A' Ns Bs G Z) : ∃ c1 u1, KQ (rP R p) c1 u1 G0 G ∧ c1 + rv ≤ 10 * (zj Z - zj S0) ∧ u1 + 50 * rv ≤ 400 * (zj Z - zj S0) := h.2.1
theorem y_take {k : Nat} (h : WH S R p t J g nk nm A b c G0 S0 rv own z H cx A' Ns Bs G Z) (hD : 5 ≤ D) (hk : 1 < k) (hk2 : k < 256) (hQ : HS S R p t J g nk nm A b c G0 S0 (zN t (zj Z) k r) Q) (hK : ∀ z G', Q (.inr z) G' → K (.inr z) G') (hs : ∀ G', zK t (zj Z) = k → WH S R p t J g nk nm A b c G0 S0 rv own z H cx A' Ns Bs G' (zaj Z (zj Z + 1)) → HS S R p t J g nk nm A b c G0 S0 r Q → K (.inl (some (.int (nI (zV t (zj Z)))))) G') : XC xms D 48 [.ref R, .int (nI k)] G K := by
  have hl := h.lJ
  obtain ⟨c1, u1, k0, k1, k2⟩ := h.kq
  exact w_take h.re hD hk hk2 k0 (by omega) (by omega) hQ hK (fun e1 e2 e3 e4 => hs _ e1 (h.nx (by omega)) e4)
theorem y_sum {F : (Nat × List En) → Ft ⊕ Zs} (h : WH S R p t J g nk nm A b c G0 S0 rv own z H cx A' Ns Bs G Z) (hf : J < f) (hD : 37 ≤ D) (hQ : HS S R p t J g nk nm A b c G0 S0 (zb (pSum t f (zj Z)) F) Q) (hK : ∀ z G', Q (.inr z) G' → K (.inr z) G') (hs : ∀ q a G', zj Z < q.1 → WH S R p t J g nk nm A b c G0 S0 rv own z H cx A' ((a, q.2) :: Ns) Bs G' (zaj Z q.1) → HS S R p t J g nk nm A b c G0 S0 (F q) Q → K (.inl (some (.ref a))) G') : XC xms D 57 [.ref R] G K := by
  have hl := h.lJ
  have hRp := h.Rp
  obtain ⟨c1, u1, k0, k1, k2⟩ := h.kq
  refine w_sum h.re h.ry.2.2.1 (by omega) hD (.inl ⟨Nat.le_refl _, by omega⟩) k0 (by omega) (by omega) hQ hK (fun q a G' hp1 hp2 hp3 hs1 hr1 hn hQ => ?_)
  have h1 := h.sk (rv' := rv) hs1 (by omega) (by omega) (by omega) hr1
  have hown := h.2.2.2.2.2.2.2.2.2.2.1
  refine hs q a G' hp2 ?_ hQ
  obtain ⟨a1, a2, a3, a4, a5, a6, a7, a8, a9, a10, a11, a12, a13, a14⟩ := h1
  refine ⟨a1, a2, a3, a4, a5, a6, a7, a8, a9, a10, a11, a12, fun x hx => ?_, a14⟩
  rcases List.mem_cons.mp hx with hx | hx
  · rw [hx]
    exact St.mk hn hRp.2.2 (fun x hx => .inl (hown x hx).2)
  · exact a13 x hx
/-- a block is read -/
theorem y_block {m m' : Nat} {blk : StF} {F : (Zs × List Nat) → Ft ⊕ Zs} (h : WH S R p t J g nk nm A b c G0 S0 rv own z H cx A' Ns Bs G Z) (hb : XBk S R p t J g nk nm blk m) (hsh : BS t blk m') (hm : J < zj Z + m) (hx : okC cx Z) (hD : 45 + 10 * (6 - cx.2.2) ≤ D) (hQ : HS S R p t J g nk nm A b c G0 S0 (zb (blk cx Z) F) Q) (hK : ∀ z G', Q (.inr z) G' → K (.inr z) G') (hs : ∀ r A'' y G', (∀ x, x < zn Z → A'' x = A' x) → WH S R p t J g nk nm A b c G0 S0 rv own z H cx A'' Ns ((y, r.2) :: Bs) G' r.1 → zj Z < zj r.1 → Sh t 999 [] Z r.1 → lIn r.2 (zn Z) (zn r.1) → HS S R p t J g nk nm A b c G0 S0 (F r) Q → K (.inl (some (.ref y))) G') : XC xms D 65 [.ref R] G K := by
  have hl := h.lJ
  have hRp := h.Rp
  have hpz := h.pzz
  have hz := h.zl
  obtain ⟨c1, u1, k0, k1, k2⟩ := h.kq
  refine hb A' b cx G D Z K h.re h.ry ⟨hpz.1, hpz.2.1, hpz.2.2.1, hx, hpz.2.2.2.2⟩ hm hD (fun o G' ho => ?_)
  cases hp : blk cx Z with
  | inl e =>
    rw [hp] at ho hQ
    obtain ⟨k3, y, rfl, k4⟩ := ho
    exact hK _ _ (hQ _ _ ⟨(k0.trans k3).mono (fun _ q => q) (by omega) (by omega), y, rfl, k4⟩)
  | inr r =>
    rw [hp] at ho hQ
    obtain ⟨A'', y, rfl, b1, b2, b3, b4, b5, b6, b7, b8⟩ := ho
    obtain ⟨q1, q2, q3, q4, -⟩ := hsh cx Z r.1 r.2 hx hp
    obtain ⟨h1, -, h3, h4, h5, h6, h7, ⟨h8, h8z⟩, h9, ⟨ks, h10⟩, h11, ⟨h12, h13⟩, h16, h17⟩ := h
    have hn0 : zn S0 + 1 ≤ zn Z := h10.2.1
    have hn1 := q1.2.1
    have tf := q1.2.2.2.1
    have hn80 := h10.2.2.1
    have hpp : ∀ a, rP R p a → a ∈ own ∨ a < Gtp G0 := fun a q => .inr (by unfold rP at q; omega)
    refine hs r A'' y G' b1 ⟨h1, ⟨_, _, k0.trans b2, by omega, by omega⟩, by omega, h4.trans b3 (by omega), h5.trans b4 (Nat.le_refl _), b5, b6, ⟨fun x hx => (b1 x (by omega)).trans (h8 x hx), (b1 _ (by omega)).trans h8z⟩, fun s a bb => ?_, ⟨ks ++ [], h10.trans (q1.opn (.inl (by omega))) (.inl (Nat.lt_succ_self _))⟩, fun x hx => ⟨(h11 x hx).1, Nat.lt_of_lt_of_le (h11 x hx).2 b2.2.1⟩, ⟨h12, fun x hx => (h13 x hx).kq b2 (h11 x hx).2 (fun q => by have := (h11 x hx).1; unfold rP at q; omega)⟩, fun x hx => (h16 x hx).ow b2 hpp, fun w hw => ?_⟩ q3 q1 q2 hQ
    · by_cases e : s < zn Z
      · obtain ⟨e1, e2⟩ := h9 s a e
        refine ⟨by rw [b3 s e, e1, b1 s e], (e2.ow b2 hpp).imp (fun _ _ q => ?_)⟩
        exact SO.A (h10.2.2.2.2.2.2.1 s a e) (by omega) e b1 (tf.1 s e) q
      · obtain ⟨e1, e2⟩ := b7 s (by omega) bb
        exact ⟨e1, St.mk e2 hRp.2.2 (fun x hx => .inl (h11 x hx).2)⟩
    · rcases List.mem_cons.mp hw with hw | hw
      · rw [hw]
        exact ⟨St.mk b8 hRp.2.2 (fun x hx => .inl (h11 x hx).2), fun x hx => (q2 x hx).2⟩
      · obtain ⟨e1, e2⟩ := h17 w hw
        exact ⟨(e1.ow b2 hpp).imp (fun _ _ q => q.A (fun x hx => b1 x (e2 x hx))), fun x hx => by have := e2 x hx; omega⟩
/-- its own cells are changed, new ones are made -/
theorem WH.ow {c1 u1 : Nat} {P : Nat → Prop} {own' : List Nat} (h : WH S R p t J g nk nm A b c G0 S0 rv own z H cx A' Ns Bs G Z) (k : KQ P c1 u1 G G1) (hp : ∀ a, P a → a ∈ own) (hc : c1 + rv' ≤ rv) (hu : u1 + 50 * rv' ≤ 50 * rv) (ho : ∀ x, x ∈ own' → x ∈ own ∨ (Gtp G ≤ x ∧ x < Gtp G1)) (hz : z ∈ own') : WH S R p t J g nk nm A b c G0 S0 rv' own' z G1 cx A' Ns Bs G1 Z := by
  have hRp := h.Rp
  have hzz := h.zl
  obtain ⟨g1, ⟨c0, u0, g2, g2a, g2b⟩, g3, g4, g5, g6, g7, g8, g9, g10, g11, ⟨g12, g13⟩, g16, g17⟩ := h
  have hlo : ∀ a, P a → Gtp G0 ≤ a := fun a q => (g11 a (hp a q)).1
  have kG : KQ (rP R p) (c0 + c1) (u0 + u1) G0 G1 := KQ.new ((g2.mono (fun a q => .inl q) (Nat.le_refl _) (Nat.le_refl _)).trans (k.mono (fun a q => .inr (hlo a q)) (Nat.le_refl _) (Nat.le_refl _)))
  have r1 := (k.2.2.2.2.2 (p + 3) (by omega) (fun q => by have := hlo _ q; omega)).2
  have r2 := (k.2.2.2.2.2 (R + 1) (by omega) (fun q => by have := hlo _ q; omega)).2
  have hgr : ∀ x, x ∈ own ++ own' → x ∈ own ∨ Gtp G ≤ x := fun x hx => by
    rcases List.mem_append.mp hx with hx | hx
    · exact .inl hx
    · exact (ho x hx).imp id (fun q => q.1)
  have hpp : ∀ a, P a → a ∈ own ++ own' ∨ a < Gtp G0 := fun a q => .inl (List.mem_append_left _ (hp a q))
  have hsh : ∀ F : XG → Nat → Prop, St (own ++ own') (Gtp G0) F G1 → St own' (Gtp G0) F G1 := fun F q => q.grow (fun x hx => .inl (List.mem_append_right _ hx))
  refine ⟨g1, ⟨_, _, kG, by omega, by omega⟩, g3, fun i hi => ((r1 i).2.1).trans (g4 i hi), fun i hi => ((r2 i).2.1).trans (g5 i hi), g6.kq k (fun a h1 _ q => by have := hlo _ q; omega), g7.kf k (fun a q => by have := hlo _ q; omega), g8, fun s a b => ⟨((r1 s).2.1).trans (g9 s a b).1, hsh _ (((g9 s a b).2.grow hgr).ow k hpp)⟩, g10, fun x hx => (ho x hx).elim (fun q => ⟨(g11 x q).1, Nat.lt_of_lt_of_le (g11 x q).2 k.2.1⟩) (fun q => ⟨by omega, q.2⟩), ⟨hz, fun _ _ => sameC.refl⟩, fun x hx => hsh _ (((g16 x hx).grow hgr).ow k hpp), fun y hy => ⟨hsh _ (((g17 y hy).1.grow hgr).ow k hpp), (g17 y hy).2⟩⟩
/-- the snapshot is of now -/
theorem WH.rb (h : WH S R p t J g nk nm A b c G0 S0 rv own z H cx A' Ns Bs G Z) : WH S R p t J g nk nm A b c G0 S0 rv own z G cx A' Ns Bs G Z := by
  obtain ⟨g1, g2, g3, g4, g5, g6, g7, g8, g9, g10, g11, ⟨g12, g13⟩, g16, g17⟩ := h
  exact ⟨g1, g2, g3, g4, g5, g6, g7, g8, g9, g10, g11, ⟨g12, fun _ _ => sameC.refl⟩, g16, g17⟩
theorem WH.bk (h : WH S R p t J g nk nm A b c G0 S0 rv own z H cx A' Ns Bs G Z) {y : Nat} {l : List Nat} (hy : (y, l) ∈ Bs) : Gkd G y = 104 ∧ y < Gtp G := by
  obtain ⟨y', ey, y1, y2, y3, -⟩ := (h.2.2.2.2.2.2.2.2.2.2.2.2.2 (y, l) hy).1.ba
  cases ey
  exact ⟨y3, y2⟩
theorem WH.lk {pl v how : Nat} (h : WH S R p t J g nk nm A b c G0 S0 rv own z H cx A' Ns Bs G Z) (hp : pl < 2000) (h3 : how ≠ 3) (hS : ∃ ks, Sh t (zn S0) ks (zan S0) (zac Z (how, pl, v))) : WH S R p t J g nk nm A b c G0 S0 rv own z H cx A' Ns Bs (Sfi G 9 R (lkV (lkN (wN nk (zc Z)) ((how = 1 ∧ nk ≤ v) ∨ how = 4) pl))) (zac Z (how, pl, v)) := by
  have hRp := h.Rp
  exact h.on (rv' := rv) (Z1 := zac Z (how, pl, v)) (KQ.fi (.inl ⟨Nat.le_refl _, by omega⟩)) (Nat.le_refl _) (by omega) (by omega) kE.refl kE.refl (h.re.f (by decide)) (h.ry.lk hp h3) rfl rfl hS
theorem y_kindName (h : WH S R p t J g nk nm A b c G0 S0 rv own z H cx A' Ns Bs G Z) (hD : 6 ≤ D) (hQ : HS S R p t J g nk nm A b c G0 S0 (zN t (zj Z) 3 r) Q) (hK : ∀ z G', Q (.inr z) G' → K (.inr z) G') (hs : ∀ G', zK t (zj Z) = 3 → WH S R p t J g nk nm A b c G0 S0 (rv + 8) own z H cx A' Ns Bs G' (zac (zaj Z (zj Z + 1)) (1, zP t (zj Z), zV t (zj Z))) → HS S R p t J g nk nm A b c G0 S0 r Q → K (.inl (some (.int (nI (zV t (zj Z)))))) G') : XC xms D 47 [.ref R] G K := by
  have hl := h.lJ
  have hy := h.ry
  have hnk := h.1.2.2.2.2.1
  obtain ⟨c1, u1, k0, k1, k2⟩ := h.kq
  refine w_kindName h.re hD hy.1.1 hy.2.2.2.2.2.2.2.2.2.2.1 (by omega) hy.2.2.2.2.2.2.1 hy.2.2.2.2.2.2.2.2.2.2.2.2.2 k0 (by omega) (by omega) hQ hK (fun e1 e2 e3 e4 => hs _ e1 ?_ e4)
  have := (h.sk (rv' := rv + 8) (sK.at (v := nI (zj Z + 1))) (Nat.le_succ _) (by omega) (by omega) (h.re.at (h.re.nx (by omega)))).lk (pl := zP t (zj Z)) (v := zV t (zj Z)) (how := 1) h.re.pl (by decide) (by
    obtain ⟨ks, hS⟩ := h.2.2.2.2.2.2.2.2.2.1
    exact ⟨ks ++ [], hS.trans (Sh.chk (i := zj Z) (j := zj Z + 1) (how := 1) (v := zV t (zj Z)) h.1.2.2.2.2.2.2.2 (Nat.le_refl _) (Nat.le_succ _) h.pzz.2.2.2.1.2.2.2 (by decide)) (.inl (Nat.lt_succ_self _))⟩)
  rw [lkN_c (Q := nk ≤ zV t (zj Z)) (by constructor <;> intro q <;> omega)] at this
  exact this
/-- its object is made -/
theorem WA.mk {c2 u2 : Nat} (h : WA S R p t J g nk nm A b c G0 S0 Ns G Z) (hj : zj S0 < zj Z) (hc2 : c2 ≤ 3) (hu2 : u2 ≤ 90) (k : KQ (fun _ => False) c2 u2 G G1) (hz : Gtp G < Gtp G1) (hS : Sh t (zn S0) [] (zan S0) Z) (ho : ∀ x, x ∈ own → Gtp G ≤ x ∧ x < Gtp G1) (hzo : Gtp G ∈ own) : WH S R p t J g nk nm A b c G0 S0 6 own (Gtp G) G1 c (up A (zn S0) (Gtp G)) Ns [] G1 Z := by
  have hRp := h.Rp
  obtain ⟨h1, h2, h3, h4, h5, h6, h7, h8, h9, h10, h11⟩ := h
  have up1 : ∀ x, x < zn S0 → up A (zn S0) (Gtp G) x = A x := fun x hx => if_neg (by omega)
  have r1 := (k.2.2.2.2.2 (p + 3) (by omega) (fun q => q)).2
  have r2 := (k.2.2.2.2.2 (R + 1) (by omega) (fun q => q)).2
  have hpz := h1.2.2.1
  refine ⟨h1, ⟨_, _, h2.trans (k.mono (fun _ q => q.elim) (Nat.le_refl _) (Nat.le_refl _)), by omega, by omega⟩, h3, fun i hi => ((r1 i).2.1).trans (h4 i hi), fun i hi => ((r2 i).2.1).trans (h5 i hi), h6.kq k (fun _ _ _ q => q), (h7.kf k (fun _ q => q.elim)).A up1 (by have := hpz.2.2.2.1.1; omega) (fun x hx => hpz.2.2.1 x (by rw [← h9]; exact hx)), ⟨up1, if_pos rfl⟩, fun s a b => by omega, ⟨[], hS⟩, fun x hx => ⟨by have := (ho x hx).1; omega, (ho x hx).2⟩, ⟨hzo, fun _ _ => sameC.refl⟩, fun x hx => ⟨G, Gtp G0, Nat.le_refl _, h11 x hx, ⟨_, _, k.mono (fun _ q => q.elim) (Nat.le_refl _) (Nat.le_refl _)⟩, fun y hy => .inr (ho y hy).1⟩, fun y hy => (List.not_mem_nil hy).elim⟩
/-- a statement with blocks is made -/
theorem WH.fin {k : Nat} {a b' : Int32} {e1 e2 : List En} {l : List Nat} {o : Option (List Nat)} {cs : List (Int32 × List Nat)} (h : WH S R p t J g nk nm A b c G0 S0 rv own z H c A' Ns Bs G Z) (h82 : Gfi G 82 z = nI (zn S0)) (hsk : (∀ x, x ∈ Ns → NO G (Gtp G0) 1001 x.1 x.2) → (∀ y, y ∈ Bs → BA G (Gtp G0) A' (some y.1) y.2) → SK G (Gtp G0) A' z a b' e1 e2 l o cs k) : oZ S R p t J g nk nm A b c G0 S0 (zaT Z (tset (zT Z) (zn S0) k a b' e1 e2 l o cs)) (.inl (some (.ref z))) G := by
  have hz := h.zl
  obtain ⟨g1, ⟨c0, u0, g2, g2a, g2b⟩, g3, g4, g5, g6, g7, ⟨g8, g8z⟩, g9, g10, g11, ⟨g12, g13⟩, g16, g17⟩ := h
  have hsk := hsk (fun x hx => (g16 x hx).no) (fun y hy => (g17 y hy).1.ba)
  obtain ⟨t1, t2, t3, t4, t5, t6, t7, t8⟩ := tset_s (T := zT Z) (s := zn S0) (k := k) (a := a) (b := b') (e1 := e1) (e2 := e2) (l := l) (o := o) (c := cs)
  refine ⟨A', z, g8, g8z, g2.mono (fun _ q => q) (by show _ ≤ 10 * (zj Z - zj S0); omega) (by show _ ≤ 400 * (zj Z - zj S0); omega), g4, g5, g6, g7, fun s a b => ?_, rfl, ?_⟩
  · have b : s < zn Z := b
    obtain ⟨e1, e2⟩ := g9 s a b
    exact ⟨e1, SO.T (tset_o (by omega)) e2.so⟩
  · refine ⟨by rw [g8z]; exact hz.1, by rw [g8z]; exact hz.2, by rw [g8z]; exact h82, ?_⟩
    show SK G (Gtp G0) _ _ (Ta (tset (zT Z) (zn S0) k a b' e1 e2 l o cs) (zn S0)) (Tb (tset (zT Z) (zn S0) k a b' e1 e2 l o cs) (zn S0)) (T1 (tset (zT Z) (zn S0) k a b' e1 e2 l o cs) (zn S0)) (T2 (tset (zT Z) (zn S0) k a b' e1 e2 l o cs) (zn S0)) (Tl (tset (zT Z) (zn S0) k a b' e1 e2 l o cs) (zn S0)) (To (tset (zT Z) (zn S0) k a b' e1 e2 l o cs) (zn S0)) (Tc (tset (zT Z) (zn S0) k a b' e1 e2 l o cs) (zn S0)) (Tk (tset (zT Z) (zn S0) k a b' e1 e2 l o cs) (zn S0))
    rw [g8z, t1, t2, t3, t4, t5, t6, t7, t8]
    exact hsk
end WH
