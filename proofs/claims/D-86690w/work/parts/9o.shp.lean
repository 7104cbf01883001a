set_option maxRecDepth 100000
section SHAPE3
variable {t : Tks}
theorem stms_sh {f0 : Nat} (ht : tV t) : ∀ f, (∀ c Z Z' l, okC c Z → c.2.1 ≤ c.2.2 → pStms t f0 f c Z = .inr (Z', l) → Sh t 999 [] Z Z' ∧ lIn l (zn Z) (zn Z') ∧ ∀ nm nk, nk ≤ 16 → gdC nm nk Z' → wB (zT Z') nm f c.1 c.2.1 (6 - c.2.2) l (zn Z) (zn Z')) ∧ BS t (pBlk t (pStms t f0 f)) f := by
  intro f
  have blk : (∀ c Z Z' l, okC c Z → c.2.1 ≤ c.2.2 → pStms t f0 f c Z = .inr (Z', l) → Sh t 999 [] Z Z' ∧ lIn l (zn Z) (zn Z') ∧ ∀ nm nk, nk ≤ 16 → gdC nm nk Z' → wB (zT Z') nm f c.1 c.2.1 (6 - c.2.2) l (zn Z) (zn Z')) → BS t (pBlk t (pStms t f0 f)) f := by
    intro hs c Z Z' l hc h
    unfold pBlk at h
    obtain ⟨-, h⟩ := zN_ok h
    obtain ⟨c6, h⟩ := zI_ok h
    obtain ⟨r, h1, h⟩ := zb_ok h
    obtain ⟨-, h⟩ := zN_ok h
    cases h
    obtain ⟨c1, c2, c3, c4⟩ := hc
    have t1 : Sh t 999 [] Z (zaj Z (zj Z + 1)) := Sh.tok ht (Nat.le_add_right _ _) c4
    obtain ⟨s1, s2, s3⟩ := hs (c.1, c.2.1, c.2.2 + 1) (zaj Z (zj Z + 1)) r.1 r.2 ⟨c1, by show c.2.1 ≤ c.2.2 + 1 + 1; omega, by show c.2.2 + 1 ≤ 6; omega, c4⟩ c2 h1
    have t2 : Sh t 999 [] r.1 (zaj r.1 (zj r.1 + 1)) := Sh.tok ht (Nat.le_add_right _ _) s1.2.2.1
    have hj : zj Z + 1 ≤ zj r.1 := s1.1
    refine ⟨(t1.trans s1 (.inr rfl)).trans t2 (.inr rfl), s2, by show zj Z < zj r.1 + 1; omega, by omega, fun nm nk hnk g => ?_⟩
    have := s3 nm nk hnk g
    rw [show 6 - (c.2.2 + 1) = 5 - c.2.2 by omega] at this
    exact this
  induction f with
  | zero => exact ⟨fun c Z Z' l _ _ h => (by cases h), blk (fun c Z Z' l _ _ h => (by cases h))⟩
  | succ f ih =>
    suffices hs : _ from ⟨hs, blk hs⟩
    intro c Z Z' l hc hlp h
    have ih := ih (fun hs c Z Z' l hc h => by
      unfold pBlk at h
      obtain ⟨-, h⟩ := zN_ok h
      obtain ⟨c6, h⟩ := zI_ok h
      obtain ⟨r, h1, h⟩ := zb_ok h
      obtain ⟨-, h⟩ := zN_ok h
      cases h
      obtain ⟨c1, c2, c3, c4⟩ := hc
      have t1 : Sh t 999 [] Z (zaj Z (zj Z + 1)) := Sh.tok ht (Nat.le_add_right _ _) c4
      obtain ⟨s1, s2, s3⟩ := hs (c.1, c.2.1, c.2.2 + 1) (zaj Z (zj Z + 1)) r.1 r.2 ⟨c1, by show c.2.1 ≤ c.2.2 + 1 + 1; omega, by show c.2.2 + 1 ≤ 6; omega, c4⟩ c2 h1
      have t2 : Sh t 999 [] r.1 (zaj r.1 (zj r.1 + 1)) := Sh.tok ht (Nat.le_add_right _ _) s1.2.2.1
      have hj : zj Z + 1 ≤ zj r.1 := s1.1
      refine ⟨(t1.trans s1 (.inr rfl)).trans t2 (.inr rfl), s2, by show zj Z < zj r.1 + 1; omega, by omega, fun nm nk hnk g => ?_⟩
      have := s3 nm nk hnk g
      rw [show 6 - (c.2.2 + 1) = 5 - c.2.2 by omega] at this
      exact this)
    unfold pStms at h
    split at h
    · obtain ⟨S1, h1, h⟩ := zb_ok h
      obtain ⟨r, h2, h⟩ := zb_ok h
      cases h
      obtain ⟨m1, m2, m3, m4⟩ := stm_sh ht ih.2 hc hlp h1
      obtain ⟨i1, i2, i3⟩ := ih.1 c S1 r.1 r.2 (hc.sh m1) hlp h2
      refine ⟨m1.trans i1 (.inr rfl), fun x hx => ?_, fun nm nk hnk g => ?_⟩
      · have hn := i1.2.1
        rcases List.mem_cons.mp hx with hx | hx
        · rw [hx]
          exact ⟨Nat.le_refl _, by omega⟩
        · have := i2 x hx
          omega
      · have g1 := gdC.of i1 g
        have tr : tF (zT S1) (zT r.1) (zn S1) := i1.2.2.2.1
        refine ⟨rfl, zn S1, m2, wS_up (wB_le _ nm f) (tr.1 _ m2) (fun tg lp dp ss x y hx hy w => wB_up f f _ _ _ _ _ _ (Nat.le_refl _) (fun i h1 h2 => tr.1 i (by omega)) w) (m4 nm nk hnk g1), i3 nm nk hnk g⟩
    · cases h
      exact ⟨Sh.tok (j := zj Z) ht (Nat.le_refl _) hc.2.2.2, lIn.nil, fun nm nk _ _ => rfl⟩
/-! a program -/
/-- checks by their places -/
def srtC (t : Tks) (Z : Zs) : Prop := (zc Z).Pairwise (fun a b => a.2.1 ≤ b.2.1) ∧ ∀ c, c ∈ zc Z → c.2.1 ≤ zP t (zj Z)
theorem srtC.sh {t : Tks} {u : Nat} {ks : List Int32} {Z Z' : Zs} (h : srtC t Z) (k : Sh t u ks Z Z') : srtC t Z' := by
  obtain ⟨-, -, -, -, ⟨cs, h5, h5a, h5b⟩, -, -, -, -, h13⟩ := k
  refine ⟨?_, fun c hc => ?_⟩
  · rw [h5]
    exact List.pairwise_append.mpr ⟨h.1, h5b, fun x hx y hy => Nat.le_trans (h.2 x hx) (h5a y hy).1⟩
  · rw [h5] at hc
    rcases List.mem_append.mp hc with hc | hc
    · exact Nat.le_trans (h.2 c hc) h13
    · exact (h5a c hc).2
def okP (t : Tks) (nk : Nat) (X : Zp) : Prop := srtC t X.1 ∧ zn X.1 ≤ 80 ∧ nk = X.2.2 ∧ 7 ≤ X.2.2 ∧ X.2.2 ≤ 16 ∧ X.2.1 ≤ 8 ∧ (∀ h, h ∈ zh X.1 → h.1 < zn X.1) ∧ (∀ s, s < zn X.1 → hsK (zh X.1) s = (Tc (zT X.1) s).map (·.1)) ∧ (∀ s, s < zn X.1 → SM (zT X.1) s (zn X.1)) ∧ 2 * (zh X.1).length ≤ zj X.1 ∧ (tN (zc X.1)).length ≤ zn X.1 ∧ ∀ nm, gdC nm nk X.1 → ∀ mi, mi < X.2.1 → ∃ mw lo hi, wB (zT X.1) nm mw 999 0 6 (Tm (zT X.1) mi) lo hi ∧ hi ≤ zn X.1
theorem mth_sh {f nk : Nat} {X Y : Zp} (ht : tV t) (hX : okP t nk X) (h : pMth t f X = .inr Y) : okP t nk Y ∧ Y.2.1 = X.2.1 + 1 ∧ Y.2.2 = X.2.2 ∧ zj X.1 < zj Y.1 ∧ zn X.1 ≤ zn Y.1 ∧ Tu (zT Y.1) = Tu (zT X.1) ∧ (∀ mi, mi < X.2.1 → Tm (zT Y.1) mi = Tm (zT X.1) mi) ∧ (∀ s, s < zn X.1 → tS (zT X.1) (zT Y.1) s) ∧ lIn (Tm (zT Y.1) X.2.1) (zn X.1) (zn Y.1) := by
  unfold pMth at h
  obtain ⟨-, h⟩ := zI_ok' h
  obtain ⟨c8, h⟩ := zI_ok h
  obtain ⟨-, h⟩ := zN_ok h
  obtain ⟨r, h1, h⟩ := zb_ok h
  obtain ⟨-, h⟩ := zN_ok h
  cases h
  obtain ⟨x0, x1, x2, x3, x4, x5, x6, x7, x8, x9, x10, x11⟩ := hX
  have t1 : Sh t 999 [] X.1 (zaj X.1 (zj X.1 + 2)) := Sh.tok ht (Nat.le_add_right _ _) x1
  obtain ⟨s1, s2, s3⟩ := (stms_sh (f0 := f) ht f).1 (999, 0, 0) (zaj X.1 (zj X.1 + 2)) r.1 r.2 ⟨.inl rfl, by decide, by decide, x1⟩ (Nat.le_refl _) h1
  have t2 : Sh t 999 [] r.1 (zaj r.1 (zj r.1 + 1)) := Sh.tok ht (Nat.le_add_right _ _) s1.2.2.1
  have x0' := (x0.sh (t1.trans s1 (.inr rfl))).sh t2
  obtain ⟨h1, h2, h3, h4, h5, ⟨hs, h6, h7, h8, h9⟩, h10, h11, h12, h13⟩ := t1.trans s1 (.inr rfl)
  have n9 := hsK_no h8
  have rr : ∀ x, x ∈ hs → zn X.1 ≤ x.1 ∧ x.1 < zn r.1 := fun x hx => (h7 x hx).resolve_left (n9 x hx)
  have hj : zj X.1 + 2 ≤ zj r.1 := s1.1
  have tm : Tm (zT r.1) = Tm (zT X.1) := h4.2.1
  have hTs : ∀ s, tS (zT r.1) (tmet (zT r.1) X.2.1 r.2) s := fun s => ⟨rfl, rfl, rfl, rfl, rfl, rfl, rfl, rfl⟩
  have hTm : ∀ mi, mi ≠ X.2.1 → Tm (tmet (zT r.1) X.2.1 r.2) mi = Tm (zT X.1) mi := fun mi hm => (if_neg hm).trans (congrFun tm mi)
  have hTm2 : Tm (tmet (zT r.1) X.2.1 r.2) X.2.1 = r.2 := if_pos rfl
  refine ⟨⟨x0', h3, x2, x3, x4, by show X.2.1 + 1 ≤ 8; omega, fun x hx => ?_, fun s hs' => ?_, fun s hs' => ?_, ?_, ?_, fun nm g mi hm => ?_⟩, rfl, rfl, by show zj X.1 < zj r.1 + 1; omega, h2, h4.2.2, fun mi hm => hTm mi (by omega), fun s hs' => (h4.1 s hs').trans (hTs s), ?_⟩
  · show x.1 < zn r.1
    have hx : x ∈ zh r.1 := hx
    rw [h6] at hx
    rcases List.mem_append.mp hx with hx | hx
    · have := x6 x hx
      omega
    · exact (rr x hx).2
  · show hsK (zh r.1) s = (Tc (zT r.1) s).map (·.1)
    have hs' : s < zn r.1 := hs'
    rw [h6, hsK_app]
    by_cases c : s < zn X.1
    · rw [hsK_nil (hs := hs) (fun x hx e => by have := rr x hx; omega), List.append_nil, x7 s c, (h4.1 s c).2.2.2.2.2.2.2]
    · rw [hsK_nil (hs := zh X.1) (fun x hx e => by have := x6 x hx; omega), List.nil_append]
      exact h9 s (by omega) hs'
  · show SM (tmet (zT r.1) X.2.1 r.2) s (zn r.1)
    have hs' : s < zn r.1 := hs'
    by_cases c : s < zn X.1
    · exact (x8 s c).up h2 ((h4.1 s c).trans (hTs s))
    · exact (h10 s (by omega) hs').up (Nat.le_refl _) (hTs s)
  · show 2 * (zh r.1).length ≤ zj r.1 + 1
    omega
  · show (tN (zc r.1)).length ≤ zn r.1
    omega
  · have hm : mi < X.2.1 + 1 := hm
    show ∃ mw lo hi, wB (tmet (zT r.1) X.2.1 r.2) nm mw 999 0 6 (Tm (tmet (zT r.1) X.2.1 r.2) mi) lo hi ∧ hi ≤ zn r.1
    have g1 : gdC nm nk r.1 := g
    by_cases c : mi = X.2.1
    · rw [c, hTm2]
      exact ⟨f, zn X.1, zn r.1, wB_up f f _ _ _ _ _ _ (Nat.le_refl _) (fun x _ _ => hTs x) (s3 nm nk (by omega) g1), Nat.le_refl _⟩
    · rw [hTm mi c]
      obtain ⟨cs, h5, -⟩ := h5
      obtain ⟨mw, lo, hi, w1, w2⟩ := x11 nm (fun x hx => g1 x (by rw [h5]; exact List.mem_append_left _ hx)) mi (by omega)
      exact ⟨mw, lo, hi, wB_up mw mw _ _ _ _ _ _ (Nat.le_refl _) (fun x _ hx => (h4.1 x (by omega)).trans (hTs x)) w1, by omega⟩
  · show lIn (Tm (tmet (zT r.1) X.2.1 r.2) X.2.1) (zn X.1) (zn r.1)
    rw [hTm2]
    exact s2
theorem mts_sh {f nk : Nat} (ht : tV t) : ∀ g X Y, okP t nk X → pMts t f g X = .inr Y → okP t nk Y ∧ X.2.1 ≤ Y.2.1 ∧ Y.2.2 = X.2.2 ∧ Tu (zT Y.1) = Tu (zT X.1) := by
  intro g
  induction g with
  | zero => intro X Y _ h; cases h
  | succ g ih =>
    intro X Y hX h
    unfold pMts at h
    split at h
    · obtain ⟨Z, h1, h2⟩ := zb_ok h
      obtain ⟨a1, a2, a3, a4, a5, a6, a7⟩ := mth_sh ht hX h1
      obtain ⟨b1, b2, b3, b4⟩ := ih Z Y a1 h2
      exact ⟨b1, by omega, b3.trans a3, b4.trans a6⟩
    · cases h
      exact ⟨hX, Nat.le_refl _, rfl, rfl⟩
/-- kinds that are there -/
def okK (t : Tks) (X : Zp) : Prop := srtC t X.1 ∧ (∀ c, c ∈ zc X.1 → c.1 = 0 ∨ c.1 = 4) ∧ zn X.1 = 0 ∧ zh X.1 = [] ∧ tN (zc X.1) = [] ∧ X.2.1 = 0 ∧ 7 ≤ X.2.2 ∧ X.2.2 ≤ 16 ∧ Tu (zT X.1) 0 = none ∧ (∀ k, 1 ≤ k → k < X.2.2 → ∃ q, Tu (zT X.1) k = some q ∧ q < k) ∧ ∀ k, X.2.2 ≤ k → Tu (zT X.1) k = none
theorem kds_sh (ht : tV t) : ∀ g X Y, okK t X → pKds t g X = .inr Y → okK t Y := by
  intro g
  induction g with
  | zero => intro X Y _ h; cases h
  | succ g ih =>
    intro X Y hX h
    unfold pKds at h
    dsimp only at h
    split at h
    · obtain ⟨c16, h⟩ := zI_ok h
      obtain ⟨-, h⟩ := zI_ok' h
      obtain ⟨-, h⟩ := zN_ok h
      obtain ⟨-, h⟩ := zN_ok h
      refine ih _ Y ?_ h
      obtain ⟨x0, x0a, x1, x2, x3, x4, x5, x6, x7, x8, x9⟩ := hX
      have u1 : ∀ k, k ≠ X.2.2 → ∀ o, Tu (tabv (zT X.1) X.2.2 o) k = Tu (zT X.1) k := fun k hk o => if_neg hk
      have u2 : ∀ o, Tu (tabv (zT X.1) X.2.2 o) X.2.2 = o := fun o => if_pos rfl
      refine ⟨⟨?_, fun c hc => ?_⟩, fun c hc => ?_, x1, x2, ?_, x4, by show 7 ≤ X.2.2 + 1; omega, by show X.2.2 + 1 ≤ 16; omega, (u1 0 (by omega) _).trans x7, fun k h1 h2 => ?_, fun k hk => ?_⟩
      · show (zc X.1 ++ [_]).Pairwise _
        refine List.pairwise_append.mpr ⟨x0.1, List.pairwise_singleton _ _, fun x hx y hy => ?_⟩
        rw [List.mem_singleton.mp hy]
        exact Nat.le_trans (x0.2 x hx) (ht.2 _ _ (Nat.le_add_right _ 2))
      · have hc : c ∈ zc X.1 ++ [_] := hc
        show c.2.1 ≤ zP t (zj X.1 + 4)
        rcases List.mem_append.mp hc with hc | hc
        · exact Nat.le_trans (x0.2 c hc) (ht.2 _ _ (Nat.le_add_right _ 4))
        · rw [List.mem_singleton.mp hc]
          exact ht.2 _ _ (by omega)
      · have hc : c ∈ zc X.1 ++ [_] := hc
        rcases List.mem_append.mp hc with hc | hc
        · exact x0a c hc
        · rw [List.mem_singleton.mp hc]
          show (if _ then 0 else 4 : Nat) = 0 ∨ (if _ then 0 else 4 : Nat) = 4
          split
          · exact .inl rfl
          · exact .inr rfl
      · show tN (zc X.1 ++ [_]) = []
        rw [tN_app, if_neg (by show ¬ (if _ then 0 else 4 : Nat) = 3; split <;> decide)]
        exact x3
      · have h2 : k < X.2.2 + 1 := h2
        show ∃ q, Tu (tabv (zT X.1) X.2.2 (some (min (zV t (zj X.1 + 2)) (X.2.2 - 1)))) k = some q ∧ q < k
        by_cases c : k = X.2.2
        · rw [c, u2]
          exact ⟨_, rfl, by omega⟩
        · rw [u1 k c]
          exact x8 k h1 (by omega)
      · have hk : X.2.2 + 1 ≤ k := hk
        exact (u1 k (by omega) _).trans (x9 k (by omega))
    · cases h
      exact hX
theorem fBad_none {nm nk : Nat} : ∀ l, fBad nm nk l = none → ∀ c, c ∈ l → badC nm nk c = false := by
  intro l
  induction l with
  | nil => intro _ c hc; exact (List.not_mem_nil hc).elim
  | cons a r ih =>
    intro h c hc
    unfold fBad at h
    split at h
    · cases h
    · next e =>
      rcases List.mem_cons.mp hc with hc | hc
      · rw [hc]
        exact Bool.eq_false_iff.mpr e
      · exact ih h c hc
/-- a program that is read is well shaped -/
theorem all_sh {f : Nat} {Z : Zp} (ht : tV t) (h : pAll t f = .inr Z) : okP t Z.2.2 Z ∧ 1 ≤ Z.2.1 ∧ gdC Z.2.1 Z.2.2 Z.1 ∧ Tu (zT Z.1) 0 = none ∧ (∀ k, 1 ≤ k → k < Z.2.2 → ∃ q, Tu (zT Z.1) k = some q ∧ q < k) ∧ ∀ k, Z.2.2 ≤ k → Tu (zT Z.1) k = none := by
  unfold pAll at h
  obtain ⟨X, h1, h⟩ := zb_ok h
  obtain ⟨Y, h2, h⟩ := zb_ok h
  obtain ⟨W, h3, h⟩ := zb_ok h
  obtain ⟨-, h⟩ := zN_ok h
  have k0 : okK t ((0, 0, tz, [], []), 0, 7) := ⟨⟨List.Pairwise.nil, fun _ q => (List.not_mem_nil q).elim⟩, fun _ q => (List.not_mem_nil q).elim, rfl, rfl, rfl, rfl, by decide, by decide, rfl, fun k a b => by
    have b : k < 7 := b
    show ∃ q, (if k = 0 then none else if k = 1 then some 0 else if k ≤ 6 then some 1 else none : Option Nat) = some q ∧ q < k
    rw [if_neg (by omega)]
    by_cases c : k = 1
    · rw [if_pos c]
      exact ⟨0, rfl, by omega⟩
    · rw [if_neg c, if_pos (by omega)]
      exact ⟨1, rfl, by omega⟩, fun k hk => by
    have hk : 7 ≤ k := hk
    show (if k = 0 then none else if k = 1 then some 0 else if k ≤ 6 then some 1 else none : Option Nat) = none
    rw [if_neg (by omega), if_neg (by omega), if_neg (by omega)]⟩
  obtain ⟨x0, x0a, x1, x2, x3, x4, x5, x6, x7, x8, x9⟩ := kds_sh ht _ _ _ k0 h1
  have p0 : okP t X.2.2 X := ⟨x0, by omega, rfl, x5, x6, by omega, fun q hq => by rw [x2] at hq; exact (List.not_mem_nil hq).elim, fun s hs => by omega, fun s hs => by omega, by rw [x2]; exact Nat.zero_le _, by rw [x3]; exact Nat.zero_le _, fun nm _ mi hm => by omega⟩
  obtain ⟨a1, a2, a3, a4, a5, a6, a7⟩ := mth_sh ht p0 h2
  obtain ⟨b1, b2, b3, b4⟩ := mts_sh ht _ _ _ a1 h3
  split at h
  · cases h
  · next e =>
    cases h
    have e2 := b3.trans a3
    have e3 := b4.trans a6
    rw [e3, e2]
    refine ⟨b1, by omega, fun c hc => ?_, x7, x8, x9⟩
    have := fBad_none _ e c hc
    rw [e2] at this
    exact this
end SHAPE3
