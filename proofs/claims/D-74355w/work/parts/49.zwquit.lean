/-! THE COMPONENT's side: a house quits -/
section PZW
variable {h : AH} {nx : Nat} {M : Nat → Prop} {o r eL eO_ cL cO : Nat} {w : Rw} {p y : Nat} {E : bE}
def qt3 (u : Rw) (p : Nat) : Rw := upd (upd (upd u (80 + 18 * p + 4) (-1)) (80 + 18 * p + 8) 1) (80 + 18 * p + 10) 0
def qtd (w : Rw) (p : Nat) : Rw := qt3 (if pF w p 4 = -1 then w else lvsd w (pN w p 4) 0) p
theorem x_q20 (X : RX h nx M o r eL eO_ cL cO w) (Z : Rng w) (hp : p < 8) : ∃ h' : AH, f_X2_quits_20 E r (nI p) h nx = some ((), h', 0, 0) ∧ RX h' nx M o r eL eO_ cL cO (qt3 w p) ∧ ∀ q, ¬ Own r eL eO_ q → h' q = h q := by
  have own : ∀ q i, i < 41 → ¬ Own r eL eO_ q → q ≠ r + i := fun q i hi hn z => hn (by rw [z]; exact Or.inl ⟨by omega, by omega⟩)
  obtain ⟨h1, a1, a2, a3⟩ := X.putP Z (a := 1) (k := 4) hp (by omega) (by decide) rfl (-1) (fun F wk rf Q => RelF_p1 Q Z hp _)
  have Z1 : Rng (upd w (80 + 18 * p + 4) (-1)) := Rng_p Z hp (by decide) (show inI (-1) (-1) 9 from ⟨by decide, by decide⟩)
  obtain ⟨h2, b1, b2, b3⟩ := a2.putP Z1 (a := 13) (k := 8) hp (by omega) (by decide) rfl 1 (fun F wk rf Q => RelF_p13 Q Z1 hp _)
  have Z2 : Rng (upd (upd w (80 + 18 * p + 4) (-1)) (80 + 18 * p + 8) 1) := Rng_p Z1 hp (by decide) (show inI 1 0 1 from ⟨by decide, by decide⟩)
  obtain ⟨h3, c1, c2, c3⟩ := b2.putP Z2 (a := 5) (k := 10) hp (by omega) (by decide) rfl 0 (fun F wk rf Q => RelF_p5 Q Z2 hp _)
  obtain ⟨_, F0, wk0, rf0, sc0, la0, oa0, R0, -⟩ := id X
  obtain ⟨_, F1, wk1, rf1, sc1, la1, oa1, R1, -⟩ := id a2
  obtain ⟨_, F2, wk2, rf2, sc2, la2, oa2, R2, -⟩ := id b2
  refine ⟨h3, ?_, c2, fun q hq => (c3 q (own q 6 (by decide) hq)).trans ((b3 q (own q 14 (by decide) hq)).trans (a3 q (own q 2 (by decide) hq)))⟩
  unfold f_X2_quits_20
  rw [R0.g1, Option.bind_some, show sI h (r + 2) 0 (nI p) (-1) = some h1 from a1, Option.bind_some, R1.g13, Option.bind_some, show sI h1 (r + 14) 3 (nI p) (vp_nar .boolean 1) = some h2 from b1, Option.bind_some, R2.g5, Option.bind_some, show sI h2 (r + 6) 0 (nI p) 0 = some h3 from c1, Option.bind_some]
theorem x_quits (X : RX h nx M o r eL eO_ cL cO w) (Z : Rng w) (hp : p < nP w) : ∃ h' : AH, f_X2_quits E h nx r (nI p) = some ((), h', 0, 0) ∧ RX h' nx M o r eL eO_ cL cO (qtd w p) ∧ ∀ q, ¬ Own r eL eO_ q → h' q = h q := by
  have b2 := Z.gP.2
  have hp8 : p < 8 := by omega
  obtain ⟨_, F0, wk0, rf0, sc0, la0, oa0, R0, Q0, -⟩ := id X
  simp only [f_X2_quits, R0.g1, Option.bind_some]
  rw [R0.a1 hp8, (Q0.2.1 p hp).1, Option.bind_some]
  unfold qtd
  by_cases e : pF w p 4 = -1
  · rw [if_pos e, e, if_pos (by decide)]
    exact x_q20 X Z hp8
  · have e4 : pF w p 4 = nI (pN w p 4) ∧ pN w p 4 < 10 := by
      rcases Z.p4 hp8 with z | z
      · exact absurd z e
      · exact z
    rw [if_neg e]
    obtain ⟨h1, a1, a2, a3⟩ := x_leaves (E := E) X Z e4.2
    obtain ⟨h2, c1, c2, c3⟩ := x_q20 (E := E) (p := p) a2 (Rng_lvsd Z e4.2) hp8
    rw [e4.1, if_neg (nI_pos (by omega)), Option.bind_some, R0.o1, gdT, a1, Option.bind_some, aC00, Nat.add_zero, c1]
    refine ⟨h2, rfl, ?_, fun q hq => (c3 q hq).trans (a3 q hq)⟩
    exact c2
end PZW
