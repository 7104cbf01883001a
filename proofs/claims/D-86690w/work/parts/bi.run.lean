set_option maxRecDepth 100000
section RUN
variable {r kk lo hi nm d : Nat} {mA : Nat → Nat} {pl : Nat → Int32 → Int32} {B : Bk} {G G' G2 : XG} {Q : (Option Value ⊕ Nat) → XG → Prop}
/-- a plain statement's walk by what it does -/
theorem w_plain {z m f : Nat} (hm : xlo [(21, 225), (22, 227), (23, 229), (24, 231), (25, 234), (30, 252)] (Gkd G z) = some m) (hd : XC xms d m [.ref z, .ref r, .ref f] G (fun o G' => (o = .inl none ∧ Q (.inl (some (.int (nI 0)))) G') ∨ ((∃ a, o = .inr a) ∧ Q o G'))) : XC xms (d + 1) 223 [.ref z, .ref r, .ref f] G Q := by
  rw [XC_s]
  simp (disch := first | omega | exact cI _ | exact cR _ | exact cK | exact cU | exact cO _ | exact cL _) only [oS, uS.2, Nat.reduceAdd, Nat.reduceSub, Nat.reduceMul, Nat.reduceLeDiff, Nat.reduceEqDiff, Nat.add_sub_cancel, xS, gS, nL, nS, dS, fX19_walk_0, mX19_walk, zX19_walk, hm]
  refine hd.mono (fun o G' h => ?_)
  rcases h with ⟨rfl, h⟩ | ⟨⟨a, rfl⟩, h⟩
  · simp (disch := first | omega | exact cI _ | exact cR _ | exact cK | exact cU | exact cO _ | exact cL _) only [oS, uS.2, Nat.reduceAdd, Nat.reduceSub, Nat.reduceMul, Nat.reduceLeDiff, Nat.reduceEqDiff, Nat.add_sub_cancel, xS, gS, nL, nS, dS, mX19_walk, zX19_walk, h]
  · exact Eq.mpr (zX19_walk (d := d) (pc := 3) (z := a) (L := [.ref z, .ref r, .ref f]) (G := G') (Q := Q)) h
end RUN
