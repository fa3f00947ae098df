/-! THE COMPONENT's side: compared, with some bands up -/
section PZX
variable {h : AH} {nx : Nat} {M : Nat → Prop} {o r eL eO_ cL cO : Nat} {w : Rw} {x a b ba : Nat} {zs : Nat → Nat} {n : Nat} {lb : Int32}
theorem x_compareBy (X : RX h nx M o r eL eO_ cL cO w) (Z : Rng w) (C : Con w) (ha : a < nP w) (hb : b < nP w) (hx : x < nH w) : ∃ h1 : AH, f_X2_compareBy (dE zs (n + 5)) h nx r (nI x) (nI a) lb (nI b) = some (cmI w (nI a) lb x a b, h1, 0, 0) ∧ RX h1 nx M o r eL eO_ cL cO w ∧ ∀ q, q ≠ r → h1 q = h q := by
  have X0 := X
  obtain ⟨⟨aH, eH, aP, eP, rN, rA, hm, hs', nh, np, tl, O, T, TI, ho, hM⟩, F, wk, rf, sc, la, oa, R, Q, L, K, s0, il, io, hOwn, hno⟩ := X
  obtain ⟨wk', rf', sc', hr', -, hs⟩ := X0.scr
  rw [R.1] at hr'
  have e1 : wk' = wk ∧ rf' = rf := by
    have := hr'
    simp only [Option.some.injEq, Sum.inr.injEq, Sum.inl.injEq, Prod.mk.injEq, rFs, List.cons.injEq, Value.int.injEq, true_and] at this
    exact ⟨this.1.symm, this.2.1.symm⟩
  obtain ⟨rfl, rfl⟩ := e1
  have hr : M r := (hOwn r (Or.inl ⟨by omega, by omega⟩)).1
  have hor : o ≠ r := fun z => hno (by rw [z]; exact Or.inl ⟨by omega, by omega⟩)
  have w1 := R.w20 (nI a)
  have R1 := R.setO wk' rf' (sc.1, nI a, sc.2.2.1, sc.2.2.2)
  have w2 := R1.w21 lb
  rw [hu_hu] at w2
  have R2 := R.setO wk' rf' (sc.1, nI a, lb, sc.2.2.2)
  have w3 := R2.w19 (nI x)
  rw [hu_hu] at w3
  have R3 := R.setO wk' rf' (nI x, nI a, lb, sc.2.2.2)
  have w4 := R3.w21 0
  rw [hu_hu] at w4
  have O3 : ObjO (hu h r (.inr (.inl (1, rFs o r wk' rf' (nI x, nI a, lb, sc.2.2.2))))) o aH aP rN rA := O.kept (hu_n hor)
  have T3 : Told (hu h r (.inr (.inl (1, rFs o r wk' rf' (nI x, nI a, lb, sc.2.2.2))))) aH eH aP eP hm hs' nh np tl w := T.kept TI (fun q hq => hu_n (fun z => hq.2 (by rw [z]; exact hr)))
  have L3 : LetsH (hu h r (.inr (.inl (1, rFs o r wk' rf' (nI x, nI a, lb, sc.2.2.2))))) (nL w) la w := L.kept (fun i hi => hu_n (fun e => (il i hi).2 (by rw [e]; exact hr)))
  refine ⟨_, ?_, hs (nI x, nI a, 0, sc.2.2.2) rfl, fun q hq => hu_n hq⟩
  simp only [f_X2_compareBy, f_X2_compare, w1, w2, w3, w4, Option.bind_some, R2.o1, gdT, R3.g22, c_order R3 Q O3 T3 Z C L3 ha hb hx rfl, aC00]
theorem bt_else (Z : Rng w) (hb : b < nP w) (hne : a ≠ b) (ha : a < 8) : btI w (nI a) lb b = nI (bnd w b) ∧ bnd w b ≤ 4 := by
  have b2 := Z.gP.2
  have h0 := bt_0 (lf := nI a) Z hb
  refine ⟨?_, h0.2⟩
  rw [← h0.1]
  unfold btI
  rw [if_neg (fun z => hne ((nI_eq (by omega) (by omega)).mp z).symm), if_neg (fun z => hne ((nI_eq (by omega) (by omega)).mp z).symm)]
end PZX
