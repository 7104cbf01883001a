/-! X: a plain machine over a plain heap. Its heap: int fields, reference fields, elements of int, long and reference arrays, what a cell is, how long, statics and texts (read only), the next address, slots used. -/
set_option maxRecDepth 100000
abbrev XG : Type := (Nat → Nat → Int32) × (Nat → Nat → Option Nat) × (Nat → Nat → Int32) × (Nat → Nat → Int64) × (Nat → Nat → Option Nat) × (Nat → Nat) × (Nat → Nat) × (Nat → Value) × Nat × Nat
def Gfi (G : XG) : Nat → Nat → Int32 := G.1
def Gfr (G : XG) : Nat → Nat → Option Nat := G.2.1
def Gai (G : XG) : Nat → Nat → Int32 := G.2.2.1
def Gal (G : XG) : Nat → Nat → Int64 := G.2.2.2.1
def Gar (G : XG) : Nat → Nat → Option Nat := G.2.2.2.2.1
def Gkd (G : XG) : Nat → Nat := G.2.2.2.2.2.1
def Gln (G : XG) : Nat → Nat := G.2.2.2.2.2.2.1
def Gsv (G : XG) : Nat → Value := G.2.2.2.2.2.2.2.1
def Gtp (G : XG) : Nat := G.2.2.2.2.2.2.2.2.1
def Gus (G : XG) : Nat := G.2.2.2.2.2.2.2.2.2
def xu1 {α : Type} (f : Nat → α) (k : Nat) (v : α) : Nat → α := fun j => if j = k then v else f j
def xu2 {α : Type} (f : Nat → Nat → α) (a b : Nat) (v : α) : Nat → Nat → α := fun x y => if x = a ∧ y = b then v else f x y
def xrw {α : Type} (f : Nat → Nat → α) (a : Nat) (r : Nat → α) : Nat → Nat → α := fun x y => if x = a then r y else f x y
def xcl {α : Type} (f : Nat → Nat → α) (a : Nat) (v : α) : Nat → Nat → α := fun x y => if y = a then v else f x y
def Sfi (G : XG) (g a : Nat) (v : Int32) : XG := (xu2 (Gfi G) g a v, G.2)
def Sfr (G : XG) (g a : Nat) (v : Option Nat) : XG := (G.1, xu2 (Gfr G) g a v, G.2.2)
def Sai (G : XG) (a i : Nat) (v : Int32) : XG := (G.1, G.2.1, xu2 (Gai G) a i v, G.2.2.2)
def Sal (G : XG) (a i : Nat) (v : Int64) : XG := (G.1, G.2.1, G.2.2.1, xu2 (Gal G) a i v, G.2.2.2.2)
def Sar (G : XG) (a i : Nat) (v : Option Nat) : XG := (G.1, G.2.1, G.2.2.1, G.2.2.2.1, xu2 (Gar G) a i v, G.2.2.2.2.2)
/-- whole rows of an array -/
def Rai (G : XG) (a : Nat) (r : Nat → Int32) : XG := (G.1, G.2.1, xrw (Gai G) a r, G.2.2.2)
def Rar (G : XG) (a : Nat) (r : Nat → Option Nat) : XG := (G.1, G.2.1, G.2.2.1, G.2.2.2.1, xrw (Gar G) a r, G.2.2.2.2.2)
/-- a new object of class c with n fields -/
def Sno (G : XG) (c n : Nat) : XG := (xcl (Gfi G) (Gtp G) 0, xcl (Gfr G) (Gtp G) none, Gai G, Gal G, Gar G, xu1 (Gkd G) (Gtp G) (c + 1), Gln G, Gsv G, Gtp G + 1, Gus G + n)
/-- a new array of the sort t, n places -/
def Sna (G : XG) (t n : Nat) : XG := (Gfi G, Gfr G, xrw (Gai G) (Gtp G) (fun _ => 0), xrw (Gal G) (Gtp G) (fun _ => 0), xrw (Gar G) (Gtp G) (fun _ => none), xu1 (Gkd G) (Gtp G) (100 + t), xu1 (Gln G) (Gtp G) n, Gsv G, Gtp G + 1, Gus G + n)
/-- a place that is no value -/
def xjk : Value := .retAddr 0
def xunR : Value → Option (Option Nat)
  | .ref a => some (some a)
  | .null => some none
  | _ => none
theorem xunR_rf (o : Option Nat) : xunR (va_rf o) = some o := by cases o <;> rfl
theorem xunR_sp {v : Value} {o : Option Nat} (h : xunR v = some o) : v = va_rf o := by
  cases v <;> simp [xunR] at h <;> subst h <;> rfl
theorem va_rf_cat (o : Option Nat) : (va_rf o).category = 1 := by cases o <;> rfl
def xfv (G : XG) (g a : Nat) : Value := if 1000 ≤ g then va_rf (Gfr G g a) else .int (Gfi G g a)
def xav (t : Nat) (G : XG) (a j : Nat) : Value := if t < 3 then .int (Gai G a j) else if t = 3 then .long (Gal G a j) else va_rf (Gar G a j)
/-! instructions: a plain step; a call (who, with what, what stays below); a return (its sort); a throw -/
abbrev XP : Type := List Value → List Value → XG → Option (Option Nat × List Value × List Value × XG)
abbrev XQ : Type := List Value → XG → Option (Nat × List Value × List Value)
abbrev XI : Type := XP ⊕ (XQ ⊕ (Nat ⊕ Unit))
/-- a method: name, code, locals, answer, handlers' table, blocks, where a thrown kind at a pc is caught -/
abbrev XM : Type := MethodName × ByteArray × Nat × Option FieldType × List (Nat × Nat × Nat × Nat) × List (Nat × List (Nat × XI)) × (Nat → Nat → Option Nat)
def xmy (M : XM) : MethodName := M.1
def xmc (M : XM) : ByteArray := M.2.1
def xmL (M : XM) : Nat := M.2.2.1
def xmr (M : XM) : Option FieldType := M.2.2.2.1
def xmh (M : XM) : List (Nat × Nat × Nat × Nat) := M.2.2.2.2.1
def xmb (M : XM) : List (Nat × List (Nat × XI)) := M.2.2.2.2.2.1
def xmx (M : XM) : Nat → Nat → Option Nat := M.2.2.2.2.2.2
def xfd (l : List (Nat × List (Nat × XI))) (t : Nat) : List (Nat × XI) := match l with
  | [] => []
  | b :: r => if b.1 = t then b.2 else xfd r t
def xblk (M : XM) (t : Nat) : List (Nat × XI) := xfd (xmb M) t
def xex (as : List Value) : List Value := match as with
  | [] => []
  | v :: r => if v.category = 2 then v :: xjk :: xex r else v :: xex r
def xent (as : List Value) (n : Nat) : List Value := xex as ++ List.replicate (n - (xex as).length) xjk
def xrt (k : Nat) (st : List Value) : Option (Option Value) := match st with
  | [] => if k = 0 then some none else none
  | [.int v] => if k = 1 then some (some (.int v)) else if k = 4 then (if v = 0 ∨ v = 1 then some (some (.int v)) else none) else none
  | [.long v] => if k = 2 then some (some (.long v)) else none
  | [v] => if k = 3 ∧ (xunR v).isSome = true then some (some v) else none
  | _ => none
/-- the kinds that are thrown: Thrown, Spent, Fault -/
def xthk (k : Nat) : Bool := k == 7 || k == 8 || k == 11
def xwt (st : List Value) : Nat := (st.map fun v => v.category).sum
def xrun (ms : Nat → XM) : Nat → Nat → Nat → List (Nat × XI) → List Value → List Value → XG → Option ((Option Value ⊕ Nat) × XG)
  | 0, _, _, _, _, _, _ => none
  | n + 1, d, k, es, L, st, G => match es with
    | [] => none
    | (_, .inl f) :: rest => match f L st G with
      | none => none
      | some (none, L', st', G') => xrun ms n d k rest L' st' G'
      | some (some t, L', st', G') => xrun ms n d k (xblk (ms k) t) L' st' G'
    | (pc, .inr (.inl q)) :: rest => match q st G with
      | none => none
      | some (k', as, st') => match d with
        | 0 => none
        | d' + 1 => if xwt st' ≤ 8 ∧ xwt as ≤ xmL (ms k') then match xrun ms n d' k' (xblk (ms k') 0) (xent as (xmL (ms k'))) [] G with
          | none => none
          | some (.inl v, G') => xrun ms n (d' + 1) k rest L (v.toList ++ st') G'
          | some (.inr z, G') => match xmx (ms k) pc (Gkd G' z) with
            | some t => xrun ms n (d' + 1) k (xblk (ms k) t) L [.ref z] G'
            | none => some (.inr z, G')
          else none
    | (_, .inr (.inr (.inl r))) :: _ => match xrt r st with
      | none => none
      | some v => some (.inl v, G)
    | (pc, .inr (.inr (.inr _))) :: _ => match st with
      | .ref z :: _ => if xthk (Gkd G z) = true then match xmx (ms k) pc (Gkd G z) with
        | some t => xrun ms n d k (xblk (ms k) t) L [.ref z] G
        | none => some (.inr z, G)
        else none
      | _ => none
/-! what it comes to -/
def XW (ms : Nat → XM) (d k : Nat) (es : List (Nat × XI)) (L st : List Value) (G : XG) (Q : (Option Value ⊕ Nat) → XG → Prop) : Prop := ∃ n o G', xrun ms n d k es L st G = some (o, G') ∧ Q o G'
def XL (ms : Nat → XM) (d k pc : Nat) (L st : List Value) (G : XG) (Q : (Option Value ⊕ Nat) → XG → Prop) : Prop := XW ms d k (xblk (ms k) pc) L st G Q
/-- a call's meaning: the method k, d frames left for the caller, on the arguments -/
def XC (ms : Nat → XM) (d k : Nat) (as : List Value) (G : XG) (Q : (Option Value ⊕ Nat) → XG → Prop) : Prop := xwt as ≤ xmL (ms k) ∧ ∃ d', d = d' + 1 ∧ XL ms d' k 0 (xent as (xmL (ms k))) [] G Q
def XH (ms : Nat → XM) (d k pc z : Nat) (L : List Value) (G : XG) (Q : (Option Value ⊕ Nat) → XG → Prop) : Prop := match xmx (ms k) pc (Gkd G z) with
  | some t => XL ms d k t L [.ref z] G Q
  | none => Q (.inr z) G
theorem xrun_mono (ms : Nat → XM) : ∀ (n d k : Nat) (es : List (Nat × XI)) (L st : List Value) (G : XG) (r : (Option Value ⊕ Nat) × XG), xrun ms n d k es L st G = some r → xrun ms (n + 1) d k es L st G = some r := by
  intro n
  induction n with
  | zero => intro d k es L st G r h; simp [xrun] at h
  | succ n ih =>
    intro d k es L st G r h
    match es with
    | [] => simp [xrun] at h
    | (pc, .inl f) :: rest =>
      rw [xrun] at h ⊢
      cases hf : f L st G with
      | none => simp [hf] at h
      | some q =>
        obtain ⟨j, L', st', G'⟩ := q
        cases j with
        | none => simp only [hf] at h ⊢; exact ih _ _ _ _ _ _ _ h
        | some t => simp only [hf] at h ⊢; exact ih _ _ _ _ _ _ _ h
    | (pc, .inr (.inl q)) :: rest =>
      rw [xrun] at h ⊢
      cases hq : q st G with
      | none => simp [hq] at h
      | some w =>
        obtain ⟨k', as, st'⟩ := w
        simp only [hq] at h ⊢
        cases d with
        | zero => simp at h
        | succ d' =>
          simp only at h ⊢
          by_cases hw : xwt st' ≤ 8 ∧ xwt as ≤ xmL (ms k')
          · rw [if_pos hw] at h ⊢
            cases hc : xrun ms n d' k' (xblk (ms k') 0) (xent as (xmL (ms k'))) [] G with
            | none => simp [hc] at h
            | some w2 =>
              obtain ⟨o, G'⟩ := w2
              rw [ih _ _ _ _ _ _ _ hc]
              cases o with
              | inl v => simp only [hc] at h ⊢; exact ih _ _ _ _ _ _ _ h
              | inr z =>
                simp only [hc] at h ⊢
                cases hx : xmx (ms k) pc (Gkd G' z) with
                | none => simp only [hx] at h ⊢; exact h
                | some t => simp only [hx] at h ⊢; exact ih _ _ _ _ _ _ _ h
          · rw [if_neg hw] at h; cases h
    | (pc, .inr (.inr (.inl r9))) :: rest => rw [xrun] at h ⊢; exact h
    | (pc, .inr (.inr (.inr u9))) :: rest =>
      match st, h with
      | .ref z :: s2, h =>
        simp only [xrun] at h ⊢
        by_cases hz : xthk (Gkd G z) = true
        · rw [if_pos hz] at h ⊢
          cases hx : xmx (ms k) pc (Gkd G z) with
          | none => simp only [hx] at h ⊢; exact h
          | some t => simp only [hx] at h ⊢; exact ih _ _ _ _ _ _ _ h
        · rw [if_neg hz] at h; cases h
      | [], h => simp [xrun] at h
      | .null :: _, h => simp [xrun] at h
      | .int _ :: _, h => simp [xrun] at h
      | .long _ :: _, h => simp [xrun] at h
      | .float _ :: _, h => simp [xrun] at h
      | .double _ :: _, h => simp [xrun] at h
      | .retAddr _ :: _, h => simp [xrun] at h
theorem xrun_le {ms : Nat → XM} {n n' d k : Nat} {es : List (Nat × XI)} {L st : List Value} {G : XG} {r : (Option Value ⊕ Nat) × XG} (h : xrun ms n d k es L st G = some r) (hn : n ≤ n') : xrun ms n' d k es L st G = some r := by
  induction hn with
  | refl => exact h
  | step _ ih => exact xrun_mono ms _ _ _ _ _ _ _ _ ih
theorem XW.mono {ms : Nat → XM} {d k : Nat} {es : List (Nat × XI)} {L st : List Value} {G : XG} {Q Q' : (Option Value ⊕ Nat) → XG → Prop} (h : XW ms d k es L st G Q) (hq : ∀ o G', Q o G' → Q' o G') : XW ms d k es L st G Q' := by
  obtain ⟨n, o, G', h1, h2⟩ := h
  exact ⟨n, o, G', h1, hq _ _ h2⟩
theorem XL.mono {ms : Nat → XM} {d k pc : Nat} {L st : List Value} {G : XG} {Q Q' : (Option Value ⊕ Nat) → XG → Prop} (h : XL ms d k pc L st G Q) (hq : ∀ o G', Q o G' → Q' o G') : XL ms d k pc L st G Q' := XW.mono h hq
theorem XC.mono {ms : Nat → XM} {d k : Nat} {as : List Value} {G : XG} {Q Q' : (Option Value ⊕ Nat) → XG → Prop} (h : XC ms d k as G Q) (hq : ∀ o G', Q o G' → Q' o G') : XC ms d k as G Q' := by
  obtain ⟨w, d', e, h⟩ := h
  exact ⟨w, d', e, h.mono hq⟩
/-- a plain step -/
def XS (ms : Nat → XM) (d k : Nat) (rest : List (Nat × XI)) (r : Option (Option Nat × List Value × List Value × XG)) (Q : (Option Value ⊕ Nat) → XG → Prop) : Prop := match r with
  | none => False
  | some (none, L', st', G') => XW ms d k rest L' st' G' Q
  | some (some t, L', st', G') => XL ms d k t L' st' G' Q
theorem XW_p {ms : Nat → XM} {d k pc : Nat} {f : XP} {rest : List (Nat × XI)} {L st : List Value} {G : XG} {Q : (Option Value ⊕ Nat) → XG → Prop} : XW ms d k ((pc, .inl f) :: rest) L st G Q = XS ms d k rest (f L st G) Q := by
  apply propext
  unfold XS
  cases hf : f L st G with
  | none =>
    constructor
    · rintro ⟨n, o, G', h, -⟩
      cases n with
      | zero => simp [xrun] at h
      | succ n => simp [xrun, hf] at h
    · exact fun h => h.elim
  | some q =>
    obtain ⟨j, L', st', G'⟩ := q
    cases j with
    | none =>
      constructor
      · rintro ⟨n, o, G2, h, hq⟩
        cases n with
        | zero => simp [xrun] at h
        | succ n => simp only [xrun, hf] at h; exact ⟨n, o, G2, h, hq⟩
      · rintro ⟨n, o, G2, h, hq⟩
        exact ⟨n + 1, o, G2, by simp only [xrun, hf]; exact h, hq⟩
    | some t =>
      constructor
      · rintro ⟨n, o, G2, h, hq⟩
        cases n with
        | zero => simp [xrun] at h
        | succ n => simp only [xrun, hf] at h; exact ⟨n, o, G2, h, hq⟩
      · rintro ⟨n, o, G2, h, hq⟩
        exact ⟨n + 1, o, G2, by simp only [xrun, hf]; exact h, hq⟩
theorem XW_r {ms : Nat → XM} {d k pc r : Nat} {rest : List (Nat × XI)} {L st : List Value} {G : XG} {Q : (Option Value ⊕ Nat) → XG → Prop} : XW ms d k ((pc, .inr (.inr (.inl r))) :: rest) L st G Q = (match xrt r st with | none => False | some v => Q (.inl v) G) := by
  apply propext
  cases hf : xrt r st with
  | none =>
    constructor
    · rintro ⟨n, o, G', h, -⟩
      cases n with
      | zero => simp [xrun] at h
      | succ n => simp [xrun, hf] at h
    · exact fun h => h.elim
  | some v =>
    constructor
    · rintro ⟨n, o, G2, h, hq⟩
      cases n with
      | zero => simp [xrun] at h
      | succ n =>
        simp only [xrun, hf] at h
        cases h
        exact hq
    · intro h
      exact ⟨1, _, _, by simp only [xrun, hf], h⟩
theorem XW_t {ms : Nat → XM} {d k pc z : Nat} {u : Unit} {rest : List (Nat × XI)} {L st : List Value} {G : XG} {Q : (Option Value ⊕ Nat) → XG → Prop} : XW ms d k ((pc, .inr (.inr (.inr u))) :: rest) L (.ref z :: st) G Q = (xthk (Gkd G z) = true ∧ XH ms d k pc z L G Q) := by
  apply propext
  unfold XH
  by_cases hz : xthk (Gkd G z) = true
  · cases hx : xmx (ms k) pc (Gkd G z) with
    | none =>
      constructor
      · rintro ⟨n, o, G2, h, hq⟩
        cases n with
        | zero => simp [xrun] at h
        | succ n =>
          simp only [xrun, if_pos hz, hx] at h
          cases h
          exact ⟨hz, hq⟩
      · rintro ⟨-, h⟩
        exact ⟨1, _, _, by simp only [xrun, if_pos hz, hx], h⟩
    | some t =>
      constructor
      · rintro ⟨n, o, G2, h, hq⟩
        cases n with
        | zero => simp [xrun] at h
        | succ n => simp only [xrun, if_pos hz, hx] at h; exact ⟨hz, n, o, G2, h, hq⟩
      · rintro ⟨-, n, o, G2, h, hq⟩
        exact ⟨n + 1, o, G2, by simp only [xrun, if_pos hz, hx]; exact h, hq⟩
  · constructor
    · rintro ⟨n, o, G', h, -⟩
      cases n with
      | zero => simp [xrun] at h
      | succ n => simp only [xrun, if_neg hz] at h; cases h
    · exact fun h => (hz h.1).elim
def XB (ms : Nat → XM) (d k pc : Nat) (rest : List (Nat × XI)) (L : List Value) (G : XG) (r : Option (Nat × List Value × List Value)) (Q : (Option Value ⊕ Nat) → XG → Prop) : Prop := match r with
  | none => False
  | some (k', as, st') => xwt st' ≤ 8 ∧ XC ms d k' as G (fun o G' => match o with
    | .inl v => XW ms d k rest L (v.toList ++ st') G' Q
    | .inr z => XH ms d k pc z L G' Q)
theorem XW_c {ms : Nat → XM} {d k pc : Nat} {q : XQ} {rest : List (Nat × XI)} {L st : List Value} {G : XG} {Q : (Option Value ⊕ Nat) → XG → Prop} : XW ms d k ((pc, .inr (.inl q)) :: rest) L st G Q = XB ms d k pc rest L G (q st G) Q := by
  apply propext
  unfold XB
  cases hf : q st G with
  | none =>
    constructor
    · rintro ⟨n, o, G', h, -⟩
      cases n with
      | zero => simp [xrun] at h
      | succ n => simp [xrun, hf] at h
    · exact fun h => h.elim
  | some w =>
    obtain ⟨k', as, st'⟩ := w
    constructor
    · rintro ⟨n, o, G2, h, hq⟩
      cases n with
      | zero => simp [xrun] at h
      | succ n =>
        simp only [xrun, hf] at h
        cases d with
        | zero => simp at h
        | succ d' =>
          simp only at h
          by_cases hw : xwt st' ≤ 8 ∧ xwt as ≤ xmL (ms k')
          · rw [if_pos hw] at h
            cases hc : xrun ms n d' k' (xblk (ms k') 0) (xent as (xmL (ms k'))) [] G with
            | none => simp [hc] at h
            | some w2 =>
              obtain ⟨o1, G1⟩ := w2
              refine ⟨hw.1, hw.2, d', rfl, n, o1, G1, hc, ?_⟩
              cases o1 with
              | inl v => simp only [hc] at h; exact ⟨n, o, G2, h, hq⟩
              | inr z =>
                simp only [hc] at h
                show XH ms (d' + 1) k pc z L G1 Q
                unfold XH
                cases hx : xmx (ms k) pc (Gkd G1 z) with
                | none => simp only [hx] at h; cases h; exact hq
                | some t => simp only [hx] at h; exact ⟨n, o, G2, h, hq⟩
          · rw [if_neg hw] at h; cases h
    · rintro ⟨hw1, hw2, d', rfl, n, o1, G1, hc, h⟩
      have hw : xwt st' ≤ 8 ∧ xwt as ≤ xmL (ms k') := ⟨hw1, hw2⟩
      cases o1 with
      | inl v =>
        obtain ⟨n2, o, G2, h2, hq⟩ := h
        refine ⟨(n + n2) + 1, o, G2, ?_, hq⟩
        simp only [xrun, hf, if_pos hw, xrun_le hc (Nat.le_add_right n n2)]
        exact xrun_le h2 (Nat.le_add_left n2 n)
      | inr z =>
        have h : XH ms (d' + 1) k pc z L G1 Q := h
        unfold XH at h
        cases hx : xmx (ms k) pc (Gkd G1 z) with
        | none =>
          simp only [hx] at h
          exact ⟨n + 1, _, _, by simp only [xrun, hf, if_pos hw, hc, hx], h⟩
        | some t =>
          simp only [hx] at h
          obtain ⟨n2, o, G2, h2, hq⟩ := h
          refine ⟨(n + n2) + 1, o, G2, ?_, hq⟩
          simp only [xrun, hf, if_pos hw, xrun_le hc (Nat.le_add_right n n2), hx]
          exact xrun_le h2 (Nat.le_add_left n2 n)
/-- what a call comes to is one thing -/
theorem xrun_one {ms : Nat → XM} {n n' d k : Nat} {es : List (Nat × XI)} {L st : List Value} {G : XG} {r r' : (Option Value ⊕ Nat) × XG} (h : xrun ms n d k es L st G = some r) (h' : xrun ms n' d k es L st G = some r') : r = r' := by
  have a := xrun_le h (Nat.le_add_right n n')
  have b := xrun_le h' (Nat.le_add_left n' n)
  rw [a] at b
  exact Option.some.inj b
/-- .. with just this end -/
def XR (ms : Nat → XM) (d k : Nat) (as : List Value) (G : XG) (o : Option Value ⊕ Nat) (G' : XG) : Prop := XC ms d k as G (fun o1 G1 => o1 = o ∧ G1 = G')
theorem XR.eq {ms : Nat → XM} {d k : Nat} {as : List Value} {G G' : XG} {o : Option Value ⊕ Nat} (h : XR ms d k as G o G') (Q : (Option Value ⊕ Nat) → XG → Prop) : XC ms d k as G Q = Q o G' := by
  obtain ⟨w, d', rfl, n, o1, G1, h1, rfl, rfl⟩ := h
  apply propext
  constructor
  · rintro ⟨-, d2, e, n2, o2, G2, h2, hq⟩
    cases e
    cases xrun_one h1 h2
    exact hq
  · intro hq
    exact ⟨w, d', rfl, n, o1, G1, h1, hq⟩
