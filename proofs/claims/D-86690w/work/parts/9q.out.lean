set_option maxRecDepth 100000
theorem zj_zaj {Z : Zs} {j : Nat} : zj (zaj Z j) = j := rfl
theorem zj_zan {Z : Zs} : zj (zan Z) = zj Z := rfl
theorem zj_zac {Z : Zs} {c : Ck} : zj (zac Z c) = zj Z := rfl
/-! OUTCOMES: a fault's, told from G0 on; else what S tells -/
def OC {α : Type} (P : Nat → Prop) (c u : Nat) (G0 : XG) (Sc : α → (Option Value ⊕ Nat) → XG → Prop) (r : Ft ⊕ α) (o : Option Value ⊕ Nat) (G' : XG) : Prop := match r with
  | .inl e => KQ P c u G0 G' ∧ ∃ z, o = .inr z ∧ FT G' z e.1 e.2
  | .inr a => Sc a o G'
def HC {α : Type} (P : Nat → Prop) (c u : Nat) (G0 : XG) (Sc : α → (Option Value ⊕ Nat) → XG → Prop) (r : Ft ⊕ α) (Q : (Option Value ⊕ Nat) → XG → Prop) : Prop := ∀ o G', OC P c u G0 Sc r o G' → Q o G'
theorem zN_1 {α : Type} {t : Tks} {j k : Nat} {r : Ft ⊕ α} (h : zK t j = k) : zN t j k r = r := if_pos h
theorem zN_0 {α : Type} {t : Tks} {j k : Nat} {r : Ft ⊕ α} (h : ¬ zK t j = k) : zN t j k r = .inl (1, zP t j) := if_neg h
section OUT
variable {α : Type} {D S R p : Nat} {t : Tks} {j J f : Nat} {g : Nat → Option Nat} {G0 G : XG} {P : Nat → Prop} {c u c0 u0 : Nat} {Sc : α → (Option Value ⊕ Nat) → XG → Prop} {r : Ft ⊕ α} {Q K : (Option Value ⊕ Nat) → XG → Prop}
theorem w_flt {k pl : Nat} (hQ : HC P c u G0 Sc r Q) (e : r = .inl (k, pl)) (k0 : KQ P c0 u0 G0 G) (hc : c0 + 1 ≤ c) (hu : u0 + 8 ≤ u) : Q (.inr (Gtp G)) (fG g G k pl) := hQ _ _ (by
  subst e
  exact ⟨(k0.trans fG_kq).mono (fun _ q => q) hc hu, _, rfl, fG_ft⟩)
theorem HC.k (hQ : HC P c u G0 Sc r Q) (h1 : ∀ z G', Q (.inr z) G' → K (.inr z) G') (h2 : ∀ a o G', r = .inr a → Sc a o G' → Q o G' → K o G') : HC P c u G0 Sc r K := by
  intro o G' h
  have q := hQ o G' h
  cases r with
  | inl e =>
    obtain ⟨k1, z, rfl, k2⟩ := h
    exact h1 _ _ q
  | inr a => exact h2 a o G' rfl h q
theorem w_take {k : Nat} (h : RE G S R p t J g j) (hD : 5 ≤ D) (hk : 1 < k) (hk2 : k < 256) (k0 : KQ P c0 u0 G0 G) (hc : c0 + 1 ≤ c) (hu : u0 + 8 ≤ u) (hQ : HC P c u G0 Sc (zN t j k r) Q) (hK : ∀ z G', Q (.inr z) G' → K (.inr z) G') (hs : zK t j = k → j + 1 ≤ J → RE (Sfi G 5 R (nI (j + 1))) S R p t J g (j + 1) → HC P c u G0 Sc r Q → K (.inl (some (.int (nI (zV t j))))) (Sfi G 5 R (nI (j + 1)))) : XC xms D 48 [.ref R, .int (nI k)] G K := by
  rw [d_take h hD hk hk2]
  by_cases e : zK t j = k
  · rw [qN_1 e]
    have hj := h.nx (show zK t j ≠ 0 by omega)
    rw [zN_1 e] at hQ
    exact hs e hj (h.at hj) hQ
  · rw [qN_0 e]
    exact hK _ _ (w_flt hQ (zN_0 e) k0 hc hu)
theorem w_name {k m : Nat} (h : RE G S R p t J g j) (hD : 6 ≤ D) (hk : 1 < k) (hk2 : k < 256) (hm : m < 256) (k0 : KQ P c0 u0 G0 G) (hc : c0 + 1 ≤ c) (hu : u0 + 8 ≤ u) (hQ : HC P c u G0 Sc (zN t j k (if m ≤ zV t j then zF t 2 j else r)) Q) (hK : ∀ z G', Q (.inr z) G' → K (.inr z) G') (hs : zK t j = k → zV t j < m → j + 1 ≤ J → RE (Sfi G 5 R (nI (j + 1))) S R p t J g (j + 1) → HC P c u G0 Sc r Q → K (.inl (some (.int (nI (zV t j))))) (Sfi G 5 R (nI (j + 1)))) : XC xms D 55 [.ref R, .int (nI k), .int (nI m)] G K := by
  rw [d_name h hD hk hk2 hm]
  by_cases e : zK t j = k
  · rw [qN_1 e]
    rw [zN_1 e] at hQ
    by_cases e2 : zV t j < m
    · rw [qN_1 e2]
      have hj := h.nx (show zK t j ≠ 0 by omega)
      rw [if_neg (by omega)] at hQ
      exact hs e e2 hj (h.at hj) hQ
    · rw [qN_0 e2]
      exact hK _ _ (w_flt hQ (if_pos (by omega)) k0 hc hu)
  · rw [qN_0 e]
    exact hK _ _ (w_flt hQ (zN_0 e) k0 hc hu)
theorem w_sum {F : (Nat × List En) → Ft ⊕ α} (h : RE G S R p t J g j) (h7 : Gfi G 7 R = nI 0) (hf : J < j + f) (hD : 37 ≤ D) (hP : P R) (k0 : KQ P c0 u0 G0 G) (hc : c0 + (J + 1 - j) ≤ c) (hu : u0 + (3 * (J - j) + 8) ≤ u) (hQ : HC P c u G0 Sc (zb (pSum t f j) F) Q) (hK : ∀ z G', Q (.inr z) G' → K (.inr z) G') (hs : ∀ q a G', pSum t f j = .inr q → j < q.1 → q.1 ≤ J → sK R (q.1 - j) (3 * (q.1 - j)) G G' → RE G' S R p t J g q.1 → NO G' (Gtp G) 1001 a q.2 → HC P c u G0 Sc (F q) Q → K (.inl (some (.ref a))) G') : XC xms D 57 [.ref R] G K := by
  refine (c_sum h h7 hf hD).mono (fun o G' hh => ?_)
  cases hp : pSum t f j with
  | inl e =>
    rw [hp] at hh hQ
    obtain ⟨k1, z, rfl, k2⟩ := hh
    exact hK _ _ (hQ _ _ ⟨(k0.trans (k1.mono (fun a q => by rw [q]; exact hP) (Nat.le_refl _) (Nat.le_refl _))).mono (fun _ q => q) hc hu, z, rfl, k2⟩)
  | inr q =>
    rw [hp] at hh hQ
    obtain ⟨k1, a, rfl, k2, k3, k4⟩ := hh
    have hq := k2.2.2.2.2
    have hJ := h.2.1.1
    exact hs q a G' hp k4 hq k1 k2 (NO.mono _ _ _ _ (by omega) k3) hQ
theorem w_kindName {nk : Nat} {w : Option Nat} (h : RE G S R p t J g j) (hD : 6 ≤ D) (hp : Gkd G p = 4) (hnk : Gfi G 13 p = nI nk) (hnk2 : nk < 100) (hw : Gfi G 9 R = lkV w) (hx : ∀ x, w = some x → x < 2000) (k0 : KQ P c0 u0 G0 G) (hc : c0 + 1 ≤ c) (hu : u0 + 8 ≤ u) (hQ : HC P c u G0 Sc (zN t j 3 r) Q) (hK : ∀ z G', Q (.inr z) G' → K (.inr z) G') (hs : zK t j = 3 → j + 1 ≤ J → RE (Sfi (Sfi G 5 R (nI (j + 1))) 9 R (lkV (lkN w (nk ≤ zV t j) (zP t j)))) S R p t J g (j + 1) → HC P c u G0 Sc r Q → K (.inl (some (.int (nI (zV t j))))) (Sfi (Sfi G 5 R (nI (j + 1))) 9 R (lkV (lkN w (nk ≤ zV t j) (zP t j))))) : XC xms D 47 [.ref R] G K := by
  rw [c_kindName h hD hp hnk hnk2 hw hx]
  by_cases e : zK t j = 3
  · rw [qN_1 e]
    have hj := h.nx (show zK t j ≠ 0 by omega)
    rw [zN_1 e] at hQ
    exact hs e hj ((h.at hj).f (by omega)) hQ
  · rw [qN_0 e]
    exact hK _ _ (w_flt hQ (zN_0 e) k0 hc hu)
theorem d_need1 (h : RE G S R p t J g j) (hD : 1 ≤ D) : XC xms D 46 [.ref R, .int (nI 1)] G Q = Q (.inl none) G := by
  obtain ⟨d, rfl⟩ : ∃ d, D = d + 1 := ⟨D - 1, by omega⟩
  exact c_need1 h
theorem d_need0 (h : RE G S R p t J g j) (hD : 4 ≤ D) : XC xms D 46 [.ref R, .int (nI 0)] G Q = Q (.inr (Gtp G)) (fG g G 1 (zP t j)) := by
  obtain ⟨d, rfl⟩ : ∃ d, D = d + 1 + 1 + 1 + 1 := ⟨D - 4, by omega⟩
  exact c_need0 h
theorem d_room1 (h : RE G S R p t J g j) (hD : 1 ≤ D) : XC xms D 43 [.ref R, .int (nI 1)] G Q = Q (.inl none) G := by
  obtain ⟨d, rfl⟩ : ∃ d, D = d + 1 := ⟨D - 1, by omega⟩
  exact c_room1 h
theorem d_room0 (h : RE G S R p t J g j) (hD : 4 ≤ D) : XC xms D 43 [.ref R, .int (nI 0)] G Q = Q (.inr (Gtp G)) (fG g G 2 (zP t j)) := by
  obtain ⟨d, rfl⟩ : ∃ d, D = d + 1 + 1 + 1 + 1 := ⟨D - 4, by omega⟩
  exact c_room0 h
theorem RE.ai {a i : Nat} {v : Int32} (h : RE G S R p t J g j) (ha : R < a) : RE (Sai G a i v) S R p t J g j := by
  obtain ⟨h1, ⟨h2, h3, h4⟩, h5⟩ := h
  have e1 : S + 5 ≤ R := h1.2.2.2.2.2.2.2.2.2.2.2.2.2.1
  refine ⟨h1, ⟨h2, h3, fun k hk => ?_⟩, h5⟩
  have q : ∀ b, b < R → ∀ m, Gai (Sai G a i v) b m = Gai G b m := fun b hb m => if_neg (fun q => by omega)
  rw [q (S + 2) (by omega), q (S + 3) (by omega), q (S + 4) (by omega)]
  exact h4 k hk
theorem RE.ar {a i : Nat} {v : Option Nat} (h : RE G S R p t J g j) : RE (Sar G a i v) S R p t J g j := h
theorem RE.fr {a : Nat} {v : Option Nat} (h : RE G S R p t J g j) : RE (Sfr G 1016 a v) S R p t J g j := by
  obtain ⟨⟨q, a1, a2, a3, a4, a5, a6, a7, a8, a9, a10, a11, a12, a13⟩, h2, h3, h4⟩ := h
  have fo : ∀ f b, f ≠ 1016 → Gfr (Sfr G 1016 a v) f b = Gfr G f b := fun f b e => if_neg (fun q => e q.1)
  refine ⟨⟨?_, a1, (fo 1014 R (by decide)).trans a2, (fo 1015 R (by decide)).trans a3, (fo 1017 R (by decide)).trans a4, a5, a6, (fo 1018 R (by decide)).trans a7, a8, a9, (fo 1019 R (by decide)).trans a10, a11, a12, a13⟩, h2, h3, h4⟩
  unfold SL at q ⊢
  rw [fo 1010 S (by decide), fo 1011 S (by decide), fo 1012 S (by decide), fo 1013 S (by decide)]
  exact q
theorem RE.pl (h : RE G S R p t J g j) : zP t j < 2000 := (h.2.1.2.2 j h.2.2.2.2).2.2.2.2.1
theorem RE.lJ (h : RE G S R p t J g j) : j ≤ J := h.2.2.2.2
/-- a new object's fields are set -/
theorem sK.mk {cl nf : Nat} {G2 : XG} (hR : R < Gtp G) (k : KQ (fun a => a = Gtp G) 0 0 (Sno G cl nf) G2) : sK R 1 nf G G2 := (sK.no hR sK.refl).nw (Nat.le_refl _) hR k
theorem nr {G2 : XG} {lo cc uu a f z : Nat} {es : List En} (h : NO G lo 1001 a es) (k : sK R cc uu G G2) (hR : R < lo) (hl : Gtp G0 ≤ lo) (hf : Gfr G2 f z = some a) : NR G2 (Gtp G0) f z es := ⟨a, hf, NO.lo hl _ _ _ (NO.kq k.1 (fun x hx e => by omega) _ _ _ h)⟩
end OUT
/-! statements: what is kept, the start, the end -/
def kE (G G' : XG) (a m : Nat) : Prop := ∀ i, i < m → Gar G' a i = Gar G a i
theorem kE.refl {G : XG} {a m : Nat} : kE G G a m := fun _ _ => rfl
theorem kE.trans {G G' G'' : XG} {a m m' : Nat} (h : kE G G' a m) (k : kE G' G'' a m') (hm : m ≤ m') : kE G G'' a m := fun i hi => (k i (by omega)).trans (h i hi)
theorem kE.sk {G G' : XG} {R c u a m : Nat} (k : sK R c u G G') (ha : a < Gtp G) (h : a ≠ R) : kE G G' a m := fun i _ => ((k.1.2.2.2.2.2 a ha h).2 i).2.1
/-- what holds of a state between statements -/
def pz (b : Nat) (c : Cx) (Z : Zs) : Prop := (tN (zc Z)).length ≤ zn Z ∧ 2 * (zh Z).length ≤ zj Z ∧ (∀ h, h ∈ zh Z → h.1 < zn Z) ∧ okC c Z ∧ b ≤ zn Z
theorem pz.sh {t : Tks} {b : Nat} {c : Cx} {u : Nat} {ks : List Int32} {Z Z' : Zs} (h : pz b c Z) (k : Sh t u ks Z Z') (hu : u = 999 ∨ u < zn Z) (h9 : u = 999 → ks = []) : pz b c Z' := by
  obtain ⟨h1, h2, h3, h4, h5⟩ := h
  have k' := k
  obtain ⟨k1, k2, k3, k4, k5, ⟨hs, k6, k7, k8, k9⟩, k10, k11, k12, k13⟩ := k
  refine ⟨by omega, by omega, fun x hx => ?_, h4.sh k', by omega⟩
  rw [k6] at hx
  rcases List.mem_append.mp hx with hx | hx
  · have := h3 x hx
    omega
  · rcases k7 x hx with e | e
    · rcases hu with q | q
      · rw [h9 q] at k8
        exact absurd e (hsK_no k8 x hx)
      · omega
    · exact e.2
/-- a statement's start -/
def C0 (G0 : XG) (S R p : Nat) (t : Tks) (J : Nat) (g : Nat → Option Nat) (nk nm : Nat) (A : Nat → Nat) (b : Nat) (c : Cx) (S0 : Zs) : Prop := RE G0 S R p t J g (zj S0) ∧ RY G0 R p nk nm A b c (zan S0) ∧ pz b c S0 ∧ J ≤ 200 ∧ nk ≤ 16 ∧ zn S0 < 80 ∧ c.2.1 ≤ c.2.2 ∧ tV t
/-- .. and its end: the object z -/
def oZ (S R p : Nat) (t : Tks) (J : Nat) (g : Nat → Option Nat) (nk nm : Nat) (A : Nat → Nat) (b : Nat) (c : Cx) (G0 : XG) (S0 Z' : Zs) (o : Option Value ⊕ Nat) (G' : XG) : Prop := ∃ A' z, (∀ x, x < zn S0 → A' x = A x) ∧ A' (zn S0) = z ∧ KQ (rP R p) (10 * (zj Z' - zj S0)) (400 * (zj Z' - zj S0)) G0 G' ∧ kE G0 G' (p + 3) (zn S0) ∧ kE G0 G' (R + 1) b ∧ RE G' S R p t J g (zj Z') ∧ RY G' R p nk nm A' b c Z' ∧ SA G' (Gtp G0) p A' (zT Z') (zn S0 + 1) (zn Z') ∧ o = .inl (some (.ref z)) ∧ SO G' (Gtp G0) A' (zT Z') (zn S0)
/-- on the way, before its object is made: nodes Ns -/
def WA (S R p : Nat) (t : Tks) (J : Nat) (g : Nat → Option Nat) (nk nm : Nat) (A : Nat → Nat) (b : Nat) (c : Cx) (G0 : XG) (S0 : Zs) (Ns : List (Nat × List En)) (G : XG) (Z : Zs) : Prop := C0 G0 S R p t J g nk nm A b c S0 ∧ KQ (rP R p) (zj Z - zj S0) (3 * (zj Z - zj S0)) G0 G ∧ zj S0 ≤ zj Z ∧ kE G0 G (p + 3) (zn S0) ∧ kE G0 G (R + 1) b ∧ RE G S R p t J g (zj Z) ∧ RY G R p nk nm A b c Z ∧ zn Z = zn S0 + 1 ∧ zh Z = zh S0 ∧ zT Z = zT S0 ∧ ∀ x, x ∈ Ns → NO G (Gtp G0) 1001 x.1 x.2
section WA
variable {D S R p : Nat} {t : Tks} {j J f nk nm b : Nat} {g : Nat → Option Nat} {A : Nat → Nat} {c : Cx} {S0 Z Z1 : Zs} {G0 G G1 G2 : XG} {Ns : List (Nat × List En)} {r : Ft ⊕ Zs} {Q K : (Option Value ⊕ Nat) → XG → Prop}
abbrev HS (S R p : Nat) (t : Tks) (J : Nat) (g : Nat → Option Nat) (nk nm : Nat) (A : Nat → Nat) (b : Nat) (c : Cx) (G0 : XG) (S0 : Zs) (r : Ft ⊕ Zs) (Q : (Option Value ⊕ Nat) → XG → Prop) : Prop := HC (rP R p) (10 * (J + 1 - zj S0)) (400 * (J + 1 - zj S0)) G0 (oZ S R p t J g nk nm A b c G0 S0) r Q
theorem WA.C (h : WA S R p t J g nk nm A b c G0 S0 Ns G Z) : C0 G0 S R p t J g nk nm A b c S0 := h.1
theorem WA.re (h : WA S R p t J g nk nm A b c G0 S0 Ns G Z) : RE G S R p t J g (zj Z) := h.2.2.2.2.2.1
theorem WA.ry (h : WA S R p t J g nk nm A b c G0 S0 Ns G Z) : RY G R p nk nm A b c Z := h.2.2.2.2.2.2.1
theorem WA.gk (h : WA S R p t J g nk nm A b c G0 S0 Ns G Z) : Gkd G R = 3 := h.re.1.2.1
theorem WA.a (h : WA S R p t J g nk nm A b c G0 S0 Ns G Z) : Gfi G 5 R = nI (zj Z) := h.re.2.2.2.1
theorem WA.lJ (h : WA S R p t J g nk nm A b c G0 S0 Ns G Z) : zj S0 ≤ zj Z ∧ zj Z ≤ J ∧ J ≤ 200 := ⟨h.2.2.1, h.re.2.2.2.2, h.1.2.2.2.1⟩
theorem WA.Rp (h : WA S R p t J g nk nm A b c G0 S0 Ns G Z) : R + 4 ≤ p ∧ p + 6 ≤ Gtp G0 ∧ Gtp G0 ≤ Gtp G := ⟨h.ry.2.1, h.1.2.1.1.t, h.2.1.2.1⟩
theorem C0.start (h : C0 G0 S R p t J g nk nm A b c S0) : WA S R p t J g nk nm A b c G0 S0 [] G0 (zan S0) := ⟨h, KQ.refl.mono (fun _ q => q) (Nat.zero_le _) (Nat.zero_le _), Nat.le_refl _, kE.refl, kE.refl, h.1, h.2.1, rfl, rfl, rfl, fun _ q => (List.not_mem_nil q).elim⟩
/-- something of the reader's is done -/
theorem WA.on {c1 u1 : Nat} (h : WA S R p t J g nk nm A b c G0 S0 Ns G Z) (k : KQ (rP R p) c1 u1 G G1) (hj : zj Z ≤ zj Z1) (hc : c1 ≤ zj Z1 - zj Z) (hu : u1 ≤ 3 * (zj Z1 - zj Z)) (k3 : kE G G1 (p + 3) (zn S0)) (k1 : kE G G1 (R + 1) b) (hr : RE G1 S R p t J g (zj Z1)) (hy : RY G1 R p nk nm A b c Z1) (hn : zn Z1 = zn Z) (hh : zh Z1 = zh Z) (hT : zT Z1 = zT Z) : WA S R p t J g nk nm A b c G0 S0 Ns G1 Z1 := by
  have hRp := h.Rp
  obtain ⟨h1, h2, h3, h4, h5, h6, h7, h8, h9, h10, h11⟩ := h
  exact ⟨h1, (h2.trans k).mono (fun _ q => q) (by omega) (by omega), by omega, h4.trans k3 (Nat.le_refl _), h5.trans k1 (Nat.le_refl _), hr, hy, hn.trans h8, hh.trans h9, hT.trans h10, fun x hx => NO.kq k (fun a h1 e => by unfold rP at e; omega) _ _ _ (h11 x hx)⟩
theorem WA.sk {c1 u1 j' : Nat} (h : WA S R p t J g nk nm A b c G0 S0 Ns G Z) (k : sK R c1 u1 G G1) (hj : zj Z ≤ j') (hc : c1 ≤ j' - zj Z) (hu : u1 ≤ 3 * (j' - zj Z)) (hr : RE G1 S R p t J g j') : WA S R p t J g nk nm A b c G0 S0 Ns G1 (zaj Z j') := by
  have hRp := h.Rp
  exact h.on (Z1 := zaj Z j') (k.1.mono (fun x e => .inl ⟨by omega, by omega⟩) (Nat.le_refl _) (Nat.le_refl _)) hj hc hu (kE.sk k (by omega) (by omega)) (kE.sk k (by omega) (by omega)) hr (h.ry.sk k) rfl rfl rfl
theorem WA.at {j' : Nat} (h : WA S R p t J g nk nm A b c G0 S0 Ns G Z) (hj : zj Z ≤ j') (hJ : j' ≤ J) : WA S R p t J g nk nm A b c G0 S0 Ns (Sfi G 5 R (nI j')) (zaj Z j') := h.sk sK.at hj (Nat.zero_le _) (Nat.zero_le _) (h.re.at hJ)
theorem WA.nx (h : WA S R p t J g nk nm A b c G0 S0 Ns G Z) (hk : zK t (zj Z) ≠ 0) : WA S R p t J g nk nm A b c G0 S0 Ns (Sfi G 5 R (nI (zj Z + 1))) (zaj Z (zj Z + 1)) := h.at (Nat.le_succ _) (h.re.nx hk)
theorem x_take {k : Nat} (h : WA S R p t J g nk nm A b c G0 S0 Ns G Z) (hD : 5 ≤ D) (hk : 1 < k) (hk2 : k < 256) (hQ : HS S R p t J g nk nm A b c G0 S0 (zN t (zj Z) k r) Q) (hK : ∀ z G', Q (.inr z) G' → K (.inr z) G') (hs : ∀ G', zK t (zj Z) = k → WA S R p t J g nk nm A b c G0 S0 Ns G' (zaj Z (zj Z + 1)) → HS S R p t J g nk nm A b c G0 S0 r Q → K (.inl (some (.int (nI (zV t (zj Z)))))) G') : XC xms D 48 [.ref R, .int (nI k)] G K := by
  have hl := h.lJ
  exact w_take h.re hD hk hk2 h.2.1 (by omega) (by omega) hQ hK (fun e1 e2 e3 e4 => hs _ e1 (h.nx (by omega)) e4)
theorem x_name {k m : Nat} (h : WA S R p t J g nk nm A b c G0 S0 Ns G Z) (hD : 6 ≤ D) (hk : 1 < k) (hk2 : k < 256) (hm : m < 256) (hQ : HS S R p t J g nk nm A b c G0 S0 (zN t (zj Z) k (if m ≤ zV t (zj Z) then zF t 2 (zj Z) else r)) Q) (hK : ∀ z G', Q (.inr z) G' → K (.inr z) G') (hs : ∀ G', zK t (zj Z) = k → zV t (zj Z) < m → WA S R p t J g nk nm A b c G0 S0 Ns G' (zaj Z (zj Z + 1)) → HS S R p t J g nk nm A b c G0 S0 r Q → K (.inl (some (.int (nI (zV t (zj Z)))))) G') : XC xms D 55 [.ref R, .int (nI k), .int (nI m)] G K := by
  have hl := h.lJ
  exact w_name h.re hD hk hk2 hm h.2.1 (by omega) (by omega) hQ hK (fun e1 e0 e2 e3 e4 => hs _ e1 e0 (h.nx (by omega)) e4)
theorem x_sum {F : (Nat × List En) → Ft ⊕ Zs} (h : WA S R p t J g nk nm A b c G0 S0 Ns G Z) (hf : J < f) (hD : 37 ≤ D) (hQ : HS S R p t J g nk nm A b c G0 S0 (zb (pSum t f (zj Z)) F) Q) (hK : ∀ z G', Q (.inr z) G' → K (.inr z) G') (hs : ∀ q a G', zj Z < q.1 → WA S R p t J g nk nm A b c G0 S0 ((a, q.2) :: Ns) G' (zaj Z q.1) → HS S R p t J g nk nm A b c G0 S0 (F q) Q → K (.inl (some (.ref a))) G') : XC xms D 57 [.ref R] G K := by
  have hl := h.lJ
  have hRp := h.Rp
  refine w_sum h.re h.ry.2.2.1 (by omega) hD (.inl ⟨Nat.le_refl _, by omega⟩) h.2.1 (by omega) (by omega) hQ hK (fun q a G' hp1 hp2 hp3 hs1 hr1 hn hQ => ?_)
  have h1 := h.sk hs1 (by omega) (Nat.le_refl _) (Nat.le_refl _) hr1
  refine hs q a G' hp2 ?_ hQ
  obtain ⟨a1, a2, a3, a4, a5, a6, a7, a8, a9, a10, a11⟩ := h1
  refine ⟨a1, a2, a3, a4, a5, a6, a7, a8, a9, a10, fun x hx => ?_⟩
  rcases List.mem_cons.mp hx with hx | hx
  · rw [hx]
    exact NO.lo (by omega) _ _ _ hn
  · exact a11 x hx
/-- what there is not is noted -/
theorem RY.lk {pl v how : Nat} (h : RY G R p nk nm A b c Z) (hp : pl < 2000) (h3 : how ≠ 3) : RY (Sfi G 9 R (lkV (lkN (wN nk (zc Z)) ((how = 1 ∧ nk ≤ v) ∨ how = 4) pl))) R p nk nm A b c (zac Z (how, pl, v)) := by
  obtain ⟨h1, h2, h3', h4, h5, h6, h7, h8, h9, h10, h11, h12, h13, h14⟩ := h
  have hw : wN nk (zc (zac Z (how, pl, v))) = lkN (wN nk (zc Z)) ((how = 1 ∧ nk ≤ v) ∨ how = 4) pl := wN_app (zc Z)
  have ht : tN (zc (zac Z (how, pl, v))) = tN (zc Z) := (tN_app (zc Z)).trans (if_neg h3)
  have fo : ∀ f a, f ≠ 9 → Gfi (Sfi G 9 R (lkV (lkN (wN nk (zc Z)) ((how = 1 ∧ nk ≤ v) ∨ how = 4) pl))) f a = Gfi G f a := fun f a e => if_neg (fun q => e q.1)
  refine ⟨h1, h2, (fo 7 R (by decide)).trans h3', (fo 6 R (by decide)).trans h4, (fo 8 R (by decide)).trans h5, h6, ?_, ⟨?_, ?_⟩, (fo 10 R (by decide)).trans h9, (fo 12 p (by decide)).trans h10, (fo 13 p (by decide)).trans h11, (fo 14 p (by decide)).trans h12, ⟨(fo 15 p (by decide)).trans h13.1, h13.2⟩, ?_⟩
  · rw [hw]
    exact if_pos ⟨rfl, rfl⟩
  · rw [ht]
    exact (fo 11 R (by decide)).trans h8.1
  · rw [ht]
    exact h8.2
  · rw [hw]
    intro x hx
    unfold lkN at hx
    split at hx
    · split at hx
      · cases hx
        exact hp
      · next e =>
        cases hx
        exact h14 _ e
    · exact h14 x hx
theorem lkN_f {w : Option Nat} {c : Prop} [Decidable c] {pl : Nat} (h : ¬ c) : lkN w c pl = w := if_neg h
theorem lkN_c {w : Option Nat} {P Q : Prop} [Decidable P] [Decidable Q] {pl : Nat} (h : P ↔ Q) : lkN w P pl = lkN w Q pl := by
  unfold lkN
  by_cases e : P
  · rw [if_pos e, if_pos (h.mp e)]
  · rw [if_neg e, if_neg (fun q => e (h.mpr q))]
theorem WA.lk {pl v how : Nat} (h : WA S R p t J g nk nm A b c G0 S0 Ns G Z) (hp : pl < 2000) (h3 : how ≠ 3) : WA S R p t J g nk nm A b c G0 S0 Ns (Sfi G 9 R (lkV (lkN (wN nk (zc Z)) ((how = 1 ∧ nk ≤ v) ∨ how = 4) pl))) (zac Z (how, pl, v)) := by
  have hRp := h.Rp
  exact h.on (Z1 := zac Z (how, pl, v)) (KQ.fi (.inl ⟨Nat.le_refl _, by omega⟩)) (Nat.le_refl _) (Nat.zero_le _) (Nat.zero_le _) kE.refl kE.refl (h.re.f (by decide)) (h.ry.lk hp h3) rfl rfl rfl
theorem x_kindName (h : WA S R p t J g nk nm A b c G0 S0 Ns G Z) (hD : 6 ≤ D) (hQ : HS S R p t J g nk nm A b c G0 S0 (zN t (zj Z) 3 r) Q) (hK : ∀ z G', Q (.inr z) G' → K (.inr z) G') (hs : ∀ G', zK t (zj Z) = 3 → WA S R p t J g nk nm A b c G0 S0 Ns G' (zac (zaj Z (zj Z + 1)) (1, zP t (zj Z), zV t (zj Z))) → HS S R p t J g nk nm A b c G0 S0 r Q → K (.inl (some (.int (nI (zV t (zj Z)))))) G') : XC xms D 47 [.ref R] G K := by
  have hl := h.lJ
  have hy := h.ry
  have hnk := h.1.2.2.2.2.1
  refine w_kindName h.re hD hy.1.1 hy.2.2.2.2.2.2.2.2.2.2.1 (by omega) hy.2.2.2.2.2.2.1 hy.2.2.2.2.2.2.2.2.2.2.2.2.2 h.2.1 (by omega) (by omega) hQ hK (fun e1 e2 e3 e4 => hs _ e1 ?_ e4)
  have := (h.nx (by omega)).lk (pl := zP t (zj Z)) (v := zV t (zj Z)) (how := 1) h.re.pl (by decide)
  rw [lkN_c (Q := nk ≤ zV t (zj Z)) (by constructor <;> intro q <;> omega)] at this
  exact this
theorem x_lacks {B : Prop} [Decidable B] {pl : Nat} (h : WA S R p t J g nk nm A b c G0 S0 Ns G Z) (hD : 1 ≤ D) (hp : pl < 2000) (hs : ∀ G', WA S R p t J g nk nm A b c G0 S0 Ns G' (if B then zac Z (4, pl, 0) else Z) → K (.inl none) G') : XC xms D 49 [.ref R, .int (if B then nI 1 else nI 0), .int (nI pl)] G K := by
  have hy := h.ry
  rw [d_lacks hD h.gk hy.2.2.2.2.2.2.1 hy.2.2.2.2.2.2.2.2.2.2.2.2.2]
  by_cases e : B
  · refine hs _ ?_
    rw [if_pos e]
    have := h.lk (pl := pl) (v := 0) (how := 4) hp (by decide)
    rw [lkN_c (Q := B) (by constructor <;> intro q <;> simp [e])] at this
    exact this
  · refine hs _ ?_
    rw [if_neg e, lkN_f e, ← hy.2.2.2.2.2.2.1, Sfi_i rfl]
    exact h
/-- a statement without blocks is made -/
theorem WA.fin {k c2 u2 : Nat} {a b' : Int32} {e1 e2 : List En} (h : WA S R p t J g nk nm A b c G0 S0 Ns G Z) (hj : zj S0 < zj Z) (hc2 : c2 ≤ 9) (hu2 : u2 ≤ 300) (hzt : Gtp G < Gtp G2) (hk : KQ (fun a => Gtp G ≤ a) c2 u2 G G2) (h82 : Gfi G2 82 (Gtp G) = nI (zn S0)) (hsk : (∀ x, x ∈ Ns → NO G2 (Gtp G0) 1001 x.1 x.2) → SK G2 (Gtp G0) (up A (zn S0) (Gtp G)) (Gtp G) a b' e1 e2 [] none [] k) : oZ S R p t J g nk nm A b c G0 S0 (zaT Z (tset (zT (zan S0)) (zn S0) k a b' e1 e2 [] none [])) (.inl (some (.ref (Gtp G)))) G2 := by
  have hRp := h.Rp
  obtain ⟨hC, kq, hj0, q3, q1, hr, hy, hn, hh, hT, hNs⟩ := h
  obtain ⟨g1, g2, g3, g4, g5, g6, g7⟩ := hC
  have kf : KQ (fun _ => False) c2 u2 G G2 := KQ.new (hk.mono (fun a q => .inr q) (Nat.le_refl _) (Nat.le_refl _))
  have fR := (kf.2.2.2.2.2 R (by omega) (fun q => q)).1
  have sm : sK R c2 u2 G G2 := ⟨kf.mono (fun _ q => q.elim) (Nat.le_refl _) (Nat.le_refl _), fun f _ => (fR f).1, fun f => (fR f).2⟩
  have up1 : ∀ x, x < zn S0 → up A (zn S0) (Gtp G) x = A x := fun x hx => if_neg (by omega)
  have up2 : up A (zn S0) (Gtp G) (zn S0) = Gtp G := if_pos rfl
  obtain ⟨t1, t2, t3, t4, t5, t6, t7, t8⟩ := tset_s (T := zT (zan S0)) (s := zn S0) (k := k) (a := a) (b := b') (e1 := e1) (e2 := e2) (l := []) (o := none) (c := [])
  have kr : KQ (rP R p) c2 u2 G G2 := sm.1.mono (fun x e => .inl ⟨by omega, by omega⟩) (Nat.le_refl _) (Nat.le_refl _)
  have hsk := hsk (fun x hx => NO.kq kr (fun a h1 e => by unfold rP at e; omega) _ _ _ (hNs x hx))
  refine ⟨up A (zn S0) (Gtp G), Gtp G, up1, up2, (kq.trans kr).mono (fun _ q => q) (by show _ ≤ 10 * (zj Z - zj S0); omega) (by show _ ≤ 400 * (zj Z - zj S0); omega), q3.trans (kE.sk (m := zn S0) sm (by omega) (by omega)) (Nat.le_refl _), q1.trans (kE.sk (m := b) sm (by omega) (by omega)) (Nat.le_refl _), hr.kq kf (fun _ _ _ q => q), (hy.sk sm).A up1 (by have := g3.2.2.2.1.1; omega) (fun x hx => g3.2.2.1 x (by rw [← hh]; exact hx)), fun s a b => ?_, rfl, ?_⟩
  · have b : s < zn Z := b
    omega
  · refine ⟨by rw [up2]; exact kq.2.1, by rw [up2]; exact hzt, by rw [up2]; exact h82, ?_⟩
    show SK G2 (Gtp G0) _ _ (Ta (tset (zT (zan S0)) (zn S0) k a b' e1 e2 [] none []) (zn S0)) (Tb (tset (zT (zan S0)) (zn S0) k a b' e1 e2 [] none []) (zn S0)) (T1 (tset (zT (zan S0)) (zn S0) k a b' e1 e2 [] none []) (zn S0)) (T2 (tset (zT (zan S0)) (zn S0) k a b' e1 e2 [] none []) (zn S0)) (Tl (tset (zT (zan S0)) (zn S0) k a b' e1 e2 [] none []) (zn S0)) (To (tset (zT (zan S0)) (zn S0) k a b' e1 e2 [] none []) (zn S0)) (Tc (tset (zT (zan S0)) (zn S0) k a b' e1 e2 [] none []) (zn S0)) (Tk (tset (zT (zan S0)) (zn S0) k a b' e1 e2 [] none []) (zn S0))
    rw [up2, t1, t2, t3, t4, t5, t6, t7, t8]
    exact hsk
theorem WA.fin1 {k cl nf : Nat} {a b' : Int32} {e1 e2 : List En} (h : WA S R p t J g nk nm A b c G0 S0 Ns G Z) (hj : zj S0 < zj Z) (hnf : nf ≤ 10) (hk : KQ (fun a => a = Gtp G) 0 0 (Sno G cl nf) G2) (h82 : Gfi G2 82 (Gtp G) = nI (zn S0)) (hsk : (∀ x, x ∈ Ns → NO G2 (Gtp G0) 1001 x.1 x.2) → SK G2 (Gtp G0) (up A (zn S0) (Gtp G)) (Gtp G) a b' e1 e2 [] none [] k) : oZ S R p t J g nk nm A b c G0 S0 (zaT Z (tset (zT (zan S0)) (zn S0) k a b' e1 e2 [] none [])) (.inl (some (.ref (Gtp G)))) G2 := by
  have k0 : KQ (fun a => Gtp G ≤ a) 1 nf G (Sno G cl nf) := KQ.no
  exact h.fin (c2 := 1) (u2 := nf) hj (by omega) (by omega) (Nat.lt_of_lt_of_le (Nat.lt_succ_self _) hk.2.1) (k0.trans (hk.mono (fun a e => by omega) (Nat.le_refl _) (Nat.le_refl _))) h82 hsk
theorem oZ.o {Z' : Zs} {o : Option Value ⊕ Nat} {G' : XG} (h : oZ S R p t J g nk nm A b c G0 S0 Z' o G') : ∃ z, o = .inl (some (.ref z)) := by
  obtain ⟨A', z, -, -, -, -, -, -, -, -, h, -⟩ := h
  exact ⟨z, h⟩
end WA
