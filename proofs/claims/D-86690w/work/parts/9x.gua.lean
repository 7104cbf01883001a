set_option maxRecDepth 100000
theorem KQ.rai {P : Nat → Prop} {G : XG} {a : Nat} {f : Nat → Int32} (h : P a) : KQ P 0 0 G (Rai G a f) := ⟨rfl, Nat.le_refl _, Nat.le_refl _, Nat.le_refl _, fun _ _ => ⟨rfl, rfl⟩, fun b _ hb => ⟨fun g => ⟨rfl, rfl⟩, fun k => ⟨if_neg (fun q : b = a => hb (q ▸ h)), rfl, rfl⟩⟩⟩
theorem KQ.rar {P : Nat → Prop} {G : XG} {a : Nat} {f : Nat → Option Nat} (h : P a) : KQ P 0 0 G (Rar G a f) := ⟨rfl, Nat.le_refl _, Nat.le_refl _, Nat.le_refl _, fun _ _ => ⟨rfl, rfl⟩, fun b _ hb => ⟨fun g => ⟨rfl, rfl⟩, fun k => ⟨rfl, if_neg (fun q : b = a => hb (q ▸ h)), rfl⟩⟩⟩
section GU2
variable {D S R p : Nat} {t : Tks} {j J f nk nm b m m' : Nat} {g : Nat → Option Nat} {A : Nat → Nat} {c : Cx} {S0 Z1 Z : Zs} {G0 G G1 G2 : XG} {Q : (Option Value ⊕ Nat) → XG → Prop} {blk : StF}
/-- a catch is added -/
theorem k_adds {z m ka ca L : Nat} {k : Int32} (hD : 2 ≤ D) (h : GU G z m ka ca L) (hm : m ≤ 99) (he : ∀ i, i < m → ∃ b, Gar G ca i = some b ∧ Gkd G b = 104 ∧ b < Gtp G) (n1 : z ≠ ka) (n2 : z ≠ ca) (n3 : ka ≠ ca) : ∃ G4 ka' ca' L', (∀ Q, XC xms D 258 [.ref z, .int k, .null] G Q = Q (.inl none) G4) ∧ KQ (fun a => a ∈ [z, ka, ca]) 2 400 G G4 ∧ GU G4 z (m + 1) ka' ca' L' ∧ (∀ x, x ∈ [z, ka', ca'] → x ∈ [z, ka, ca] ∨ (Gtp G ≤ x ∧ x < Gtp G4)) ∧ (∀ i, i < m → Gai G4 ka' i = Gai G ka i ∧ Gar G4 ca' i = Gar G ca i) ∧ Gai G4 ka' m = k ∧ (∀ f, f ≠ 95 → Gfi G4 f z = Gfi G f z) ∧ (∀ f, f ≠ 1136 → f ≠ 1137 → Gfr G4 f z = Gfr G f z) ∧ z ≠ ka' ∧ z ≠ ca' ∧ ka' ≠ ca' := by
  have hh := h
  obtain ⟨h1, h2, h3, h4, h5, h6, h7, h8, h9, h10, h11, h12, h13⟩ := h
  have mz : z ∈ [z, ka, ca] := List.mem_cons_self ..
  have mk : ka ∈ [z, ka, ca] := List.mem_cons_of_mem _ (List.mem_cons_self ..)
  have mc : ca ∈ [z, ka, ca] := List.mem_cons_of_mem _ (List.mem_cons_of_mem _ (List.mem_cons_self ..))
  by_cases e : m < L
  · refine ⟨adA G z m ka ca k, ka, ca, L, fun Q => d_adds1 hD hh e, ?_, ?_, fun x hx => .inl hx, fun i hi => ⟨if_neg (by omega), if_neg (by omega)⟩, if_pos ⟨rfl, rfl⟩, fun f hf => if_neg (fun q => hf q.1), fun f _ _ => rfl, n1, n2, n3⟩
    · exact (((KQ.ai mk).trans (KQ.ar mc)).trans (KQ.fi mz)).mono (fun _ q => q) (by omega) (by omega)
    · exact ⟨h1, if_pos ⟨rfl, rfl⟩, h3, h4, h5, h6, h7, h8, by omega, h10, h11, h12, h13⟩
  · have e : L = m := by omega
    subst e
    have t0 : Gtp (adA (adB G z L ka ca) z L (Gtp G) (Gtp G + 1) k) = Gtp G + 2 := rfl
    have hn : ∀ x, x < Gtp G → x ≠ Gtp G ∧ x ≠ Gtp G + 1 := fun x hx => by omega
    refine ⟨adA (adB G z L ka ca) z L (Gtp G) (Gtp G + 1) k, Gtp G, Gtp G + 1, 2 * (L + 1), fun Q => d_adds2 hD hh he, ?_, ?_, fun x hx => ?_, fun i hi => ⟨?_, ?_⟩, ?_, fun f hf => ?_, fun f hf1 hf2 => ?_, by omega, by omega, by omega⟩
    · have a1 : KQ (fun a => a ∈ [z, ka, ca] ∨ Gtp G ≤ a) (1 + 0 + 0) (2 * (L + 1) + 0 + 0) G (Sfr (Rai (Sna G 0 (2 * (L + 1))) (Gtp G) (va_cpy (Gai G ka) (fun _ => 0) 0 0 L)) 1136 z (some (Gtp G))) := (KQ.na.trans (KQ.rai (.inr (Nat.le_refl _)))).trans (KQ.fr (.inl mz))
      have a2 : KQ (fun a => a ∈ [z, ka, ca] ∨ Gtp G ≤ a) (1 + 0 + 0) (2 * (L + 1) + 0 + 0) (Sfr (Rai (Sna G 0 (2 * (L + 1))) (Gtp G) (va_cpy (Gai G ka) (fun _ => 0) 0 0 L)) 1136 z (some (Gtp G))) (adB G z L ka ca) := (KQ.na.trans (KQ.rar (.inr (Nat.le_succ _)))).trans (KQ.fr (.inl mz))
      have a3 : KQ (fun a => a ∈ [z, ka, ca] ∨ Gtp G ≤ a) (0 + 0 + 0) (0 + 0 + 0) (adB G z L ka ca) (adA (adB G z L ka ca) z L (Gtp G) (Gtp G + 1) k) := ((KQ.ai (.inr (Nat.le_refl _))).trans (KQ.ar (.inr (Nat.le_succ _)))).trans (KQ.fi (.inl mz))
      exact (KQ.new ((a1.trans a2).trans a3)).mono (fun _ q => q) (by omega) (by omega)
    · have z1 := hn z h11
      refine ⟨?_, if_pos ⟨rfl, rfl⟩, ?_, ?_, ?_, ?_, ?_, ?_, by omega, by omega, by omega, by omega, by omega⟩
      · exact (if_neg (by show ¬ z = Gtp G + 1; omega)).trans ((if_neg (by omega)).trans h1)
      · show (if 1136 = 1137 ∧ z = z then some (Gtp G + 1) else if 1136 = 1136 ∧ z = z then some (Gtp G) else Gfr G 1136 z) = some (Gtp G)
        rw [if_neg (fun q => absurd q.1 (by decide)), if_pos ⟨rfl, rfl⟩]
      · exact (if_neg (by show ¬ Gtp G = Gtp G + 1; omega)).trans (if_pos rfl)
      · exact (if_neg (by show ¬ Gtp G = Gtp G + 1; omega)).trans (if_pos rfl)
      · exact if_pos ⟨rfl, rfl⟩
      · exact if_pos rfl
      · exact if_pos rfl
    · rcases List.mem_cons.mp hx with e | hx
      · exact .inl (by rw [e]; exact mz)
      · rcases List.mem_cons.mp hx with e | hx
        · exact .inr ⟨by omega, by omega⟩
        · have := List.mem_singleton.mp hx
          exact .inr ⟨by omega, by omega⟩
    · have e1 : Gai (adA (adB G z L ka ca) z L (Gtp G) (Gtp G + 1) k) (Gtp G) i = va_cpy (Gai G ka) (fun _ => 0) 0 0 L i := (if_neg (by omega)).trans ((if_neg (by show ¬ Gtp G = Gtp G + 1; omega)).trans (if_pos rfl))
      rw [e1, pk_cpy_in (by omega) (by omega)]
      congr 1
      omega
    · have e1 : Gar (adA (adB G z L ka ca) z L (Gtp G) (Gtp G + 1) k) (Gtp G + 1) i = va_cpy (Gar G ca) (fun _ => none) 0 0 L i := (if_neg (by omega)).trans (if_pos rfl)
      rw [e1, pk_cpy_in (by omega) (by omega)]
      congr 1
      omega
    · exact if_pos ⟨rfl, rfl⟩
    · exact if_neg (fun q => hf q.1)
    · exact (if_neg (by omega)).trans (if_neg (by omega))
/-- a guard on the way: n its number, l the catches that are read -/
def GI (G : XG) (z ka ca L n res y0 : Nat) (l0 : List Nat) (l : List (Int32 × List Nat)) (Bs : List (Nat × List Nat)) : Prop := GU G z l.length ka ca L ∧ (∀ (i : Nat) (x : Int32 × List Nat), l[i]? = some x → Gai G ka i = x.1 ∧ ∃ y, Gar G ca i = some y ∧ (y, x.2) ∈ Bs) ∧ Gfi G 82 z = nI n ∧ Gfi G 94 z = nI res ∧ Gfr G 1135 z = some y0 ∧ (y0, l0) ∈ Bs ∧ Gfr G 1138 z = none ∧ z ≠ ka ∧ z ≠ ca ∧ ka ≠ ca
theorem GI.tr {z ka ca L n res y0 : Nat} {l0 : List Nat} {l : List (Int32 × List Nat)} {Bs Bs' : List (Nat × List Nat)} (h : GI G z ka ca L n res y0 l0 l Bs) (t1 : z < Gtp G1) (t2 : ka < Gtp G1) (t3 : ca < Gtp G1) (h1 : sameC G G1 z) (h2 : sameC G G1 ka) (h3 : sameC G G1 ca) (hB : ∀ x, x ∈ Bs → x ∈ Bs') : GI G1 z ka ca L n res y0 l0 l Bs' := by
  obtain ⟨⟨a1, a2, a3, a4, a5, a6, a7, a8, a9, a10, a11, a12, a13⟩, b2, b3, b4, b5, b6, b7, b8⟩ := h
  obtain ⟨z1, z2, z3, z4⟩ := h1
  obtain ⟨k1, k2, k3, k4⟩ := h2
  obtain ⟨c1, c2, c3, c4⟩ := h3
  refine ⟨⟨z1.trans a1, (z3 95).1.trans a2, (z3 1136).2.trans a3, k1.trans a4, k2.trans a5, (z3 1137).2.trans a6, c1.trans a7, c2.trans a8, a9, a10, t1, t2, t3⟩, fun i x hx => ?_, (z3 82).1.trans b3, (z3 94).1.trans b4, (z3 1135).2.trans b5, hB _ b6, (z3 1138).2.trans b7, b8⟩
  obtain ⟨e1, y, e2, e3⟩ := b2 i x hx
  exact ⟨(k4 i).1.trans e1, y, (c4 i).2.trans e2, hB _ e3⟩
/-- a handler is told -/
def hdG (G : XG) (R p i m z : Nat) : XG := Sfr (Sfi (Sai (Sar G (p + 4) i (some z)) (p + 5) i (nI m)) 15 p (nI (i + 1))) 1016 R (some z)
theorem RY.hd {A' : Nat → Nat} {s i m z : Nat} {v : Int32} (h : RY G R p nk nm A' b c Z) (hi : (zh Z).length = i) (hm : ((zh Z).filter (fun x => x.1 == s)).length = m) (hz : A' s = z) (h9 : s ≠ 999) : RY (hdG G R p i m z) R p nk nm A' b (s, c.2) (zah Z (s, v)) := by
  obtain ⟨h1, h2, h3, h4, h5, h6, h7, h8, h9', h10, h11, h12, h13, h14⟩ := h
  have fo : ∀ x a, x ≠ 15 → Gfi (hdG G R p i m z) x a = Gfi G x a := fun x a e => if_neg (fun q => e q.1)
  have ro : ∀ x, x ≠ 1016 → Gfr (hdG G R p i m z) x p = Gfr G x p := fun x e => if_neg (fun q => e q.1)
  have k0 : KQ (fun a => a = R ∨ a = p ∨ a = p + 4 ∨ a = p + 5) (0 + 0 + 0 + 0) (0 + 0 + 0 + 0) G (hdG G R p i m z) := (((KQ.ar (.inr (.inr (.inl rfl)))).trans (KQ.ai (.inr (.inr (.inr rfl))))).trans (KQ.fi (.inr (.inl rfl)))).trans (KQ.fr (.inl rfl))
  refine ⟨h1.kq k0 (fun f h1 h2 => ro f (by omega)), h2, (fo 7 R (by decide)).trans h3, (fo 6 R (by decide)).trans h4, (fo 8 R (by decide)).trans h5, ?_, (fo 9 R (by decide)).trans h7, ⟨(fo 11 R (by decide)).trans h8.1, fun j x hx => ⟨(if_neg (by omega)).trans (h8.2 j x hx).1, (if_neg (by omega)).trans (h8.2 j x hx).2.1, (h8.2 j x hx).2.2⟩⟩, (fo 10 R (by decide)).trans h9', (fo 12 p (by decide)).trans h10, (fo 13 p (by decide)).trans h11, (fo 14 p (by decide)).trans h12, ⟨?_, fun j x hx => ?_⟩, h14⟩
  · show (if _ then _ else _) = (if s = 999 then none else some (A' s))
    rw [if_pos ⟨rfl, rfl⟩, if_neg h9, hz]
  · show (if _ then _ else _) = nI (zh Z ++ [(s, v)]).length
    rw [if_pos ⟨rfl, rfl⟩, List.length_append, hi]
    rfl
  · have e4 : Gar (hdG G R p i m z) (p + 4) j = if j = i then some z else Gar G (p + 4) j := by
      show (if p + 4 = p + 4 ∧ j = i then some z else Gar G (p + 4) j) = _
      by_cases e : j = i
      · rw [if_pos ⟨rfl, e⟩, if_pos e]
      · rw [if_neg (fun q => e q.2), if_neg e]
    have e5 : Gai (hdG G R p i m z) (p + 5) j = if j = i then nI m else Gai G (p + 5) j := by
      show (if p + 5 = p + 5 ∧ j = i then nI m else Gai G (p + 5) j) = _
      by_cases e : j = i
      · rw [if_pos ⟨rfl, e⟩, if_pos e]
      · rw [if_neg (fun q => e q.2), if_neg e]
    rw [e4, e5]
    have hx : (zh Z ++ [(s, v)])[j]? = some x := hx
    show _ ∧ _ = nI (List.filter (fun x_1 => x_1.1 == x.1) (List.take j (zh Z ++ [(s, v)]))).length
    by_cases e : j < i
    · rw [List.getElem?_append_left (by omega)] at hx
      rw [if_neg (by omega), if_neg (by omega), List.take_append_of_le_length (by omega)]
      exact h13.2 j x hx
    · rw [List.getElem?_append_right (by omega), hi] at hx
      have e2 : j = i := by
        rcases Nat.lt_or_ge i j with q | q
        · rw [show j - i = (j - i - 1) + 1 by omega] at hx
          simp at hx
        · omega
      rw [e2, Nat.sub_self] at hx
      simp at hx
      rw [if_pos e2, if_pos e2, ← hx, e2, List.take_append_of_le_length (by omega), List.take_of_length_le (by omega), hm, hz]
      exact ⟨rfl, rfl⟩
theorem RY.tk {A' : Nat → Nat} {cx : Cx} {o : Option Nat} (h : RY G R p nk nm A' b cx Z) (ho : o = (if c.1 = 999 then none else some (A' c.1))) (hc : cx.2 = c.2) : RY (Sfr G 1016 R o) R p nk nm A' b c Z := by
  obtain ⟨h1, h2, h3, h4, h5, h6, h7, h8, h9', h10, h11, h12, h13, h14⟩ := h
  have k0 : KQ (fun a => a = R) 0 0 G (Sfr G 1016 R o) := KQ.rR
  rw [hc] at h4 h5
  exact ⟨h1.kq k0 (fun f h1 h2 => if_neg (by omega)), h2, h3, h4, h5, (if_pos ⟨rfl, rfl⟩).trans ho, h7, h8, h9', h10, h11, h12, h13, h14⟩
end GU2
