/-! THE COMPONENT's side: a home is left by a house that quits -/
section PZV
variable {h : AH} {nx : Nat} {M : Nat → Prop} {o r eL eO_ cL cO : Nat} {w : Rw} {p y : Nat} {E : bE} {F : Nat → Nat → Int32} {wk rf : Int32}
theorem RelF_h8 (Q : RelF F wk rf w) (Z : Rng w) (hy : y < 10) (v : Int32) : RelF (uF F 8 y (w 232 + 1)) wk rf (upd (upd w (8 * y + 2) v) (8 * y + 3) 1) := by
  have b1 := Z.gH.2
  have b2 := Z.gP.2
  have bL := Z.gL.2
  obtain ⟨q1, q2, q3, q4, q5, q6, q7⟩ := Q
  have out : ∀ i, i ≠ 8 * y + 2 → i ≠ 8 * y + 3 → upd (upd w (8 * y + 2) v) (8 * y + 3) 1 i = w i := fun i h1 h2 => by rw [upd_n h2, upd_n h1]
  have Fo : ∀ a j, a ≠ 8 → uF F 8 y (w 232 + 1) a j = F a j := fun a j ha => by rw [uF_at, if_neg (fun z => ha z.1)]
  have ep : ∀ q k, q < 8 → k < 18 → pF (upd (upd w (8 * y + 2) v) (8 * y + 3) 1) q k = pF w q k := fun q k h1 h2 => out _ (by omega) (by omega)
  have eh : ∀ z k, z < 10 → k < 8 → k ≠ 2 → k ≠ 3 → hF (upd (upd w (8 * y + 2) v) (8 * y + 3) 1) z k = hF w z k := fun z k h1 h2 h3 h4 => out _ (by omega) (by omega)
  have eP : nP (upd (upd w (8 * y + 2) v) (8 * y + 3) 1) = nP w := congrArg Int32.toNatClampNeg (out 231 (by omega) (by omega))
  have eH : nH (upd (upd w (8 * y + 2) v) (8 * y + 3) 1) = nH w := congrArg Int32.toNatClampNeg (out 230 (by omega) (by omega))
  have eL : nL (upd (upd w (8 * y + 2) v) (8 * y + 3) 1) = nL w := congrArg Int32.toNatClampNeg (out 233 (by omega) (by omega))
  refine ⟨fun j hj => by rw [Fo _ _ (by decide), q1 j hj]; exact (out _ (by omega) (by omega)).symm, fun q hq => ?_, fun q i hq hi => ?_, fun z hz => ?_, fun z hz => ?_, q6.trans (out _ (by omega) (by omega)).symm, q7.trans (out _ (by omega) (by omega)).symm⟩
  · rw [eP] at hq
    rw [ep q 4 (by omega) (by decide), ep q 5 (by omega) (by decide), ep q 6 (by omega) (by decide), ep q 9 (by omega) (by decide), ep q 10 (by omega) (by decide), ep q 11 (by omega) (by decide), ep q 1 (by omega) (by decide), ep q 8 (by omega) (by decide), ep q 7 (by omega) (by decide)]
    rw [Fo _ _ (by decide), Fo _ _ (by decide), Fo _ _ (by decide), Fo _ _ (by decide), Fo _ _ (by decide), Fo _ _ (by decide), Fo _ _ (by decide), Fo _ _ (by decide), Fo _ _ (by decide)]
    exact q2 q hq
  · rw [eP] at hq
    have e11 : pN (upd (upd w (8 * y + 2) v) (8 * y + 3) 1) q 11 = pN w q 11 := by unfold pN; rw [ep q 11 (by omega) (by decide)]
    rw [e11] at hi
    have := (Z.p11 (p := q) (by omega)).2
    rw [ep q (12 + i) (by omega) (by omega), Fo _ _ (by decide)]
    exact q3 q i hq hi
  · rw [eH] at hz
    obtain ⟨z1, z2, z3, z4⟩ := q4 z hz
    rw [eh z 7 (by omega) (by decide) (by decide) (by decide), eh z 6 (by omega) (by decide) (by decide) (by decide), Fo _ _ (by decide), Fo _ _ (by decide), uF_at]
    by_cases e : z = y
    · subst e
      have h3 : hF (upd (upd w (8 * z + 2) v) (8 * z + 3) 1) z 3 = 1 := upd_s
      rw [h3, if_pos ⟨rfl, rfl⟩]
      exact ⟨z1, z2, fun t => absurd t (by decide), fun _ => by rw [q6]⟩
    · have h3 : hF (upd (upd w (8 * y + 2) v) (8 * y + 3) 1) z 3 = hF w z 3 := out _ (by omega) (by omega)
      rw [h3, if_neg (fun t => e t.2)]
      exact ⟨z1, z2, z3, z4⟩
  · rw [eH] at hz
    rw [eh z 5 (by omega) (by decide) (by decide) (by decide), eL, Fo _ _ (by decide)]
    rcases q5 z hz with t | ⟨i, z1, z2, z3⟩
    · exact Or.inl t
    · exact Or.inr ⟨i, z1, z2, by rw [z3]; unfold lF; exact (out _ (by omega) (by omega)).symm⟩
theorem RelF_h9 (Q : RelF F wk rf w) (Z : Rng w) (hy : y < 10) : RelF (uF F 9 y (-1)) wk rf (upd w (8 * y + 5) 0) := by
  have b1 := Z.gH.2
  have b2 := Z.gP.2
  have bL := Z.gL.2
  obtain ⟨q1, q2, q3, q4, q5, q6, q7⟩ := Q
  have out : ∀ i, i ≠ 8 * y + 5 → upd w (8 * y + 5) 0 i = w i := fun i h1 => upd_n h1
  have Fo : ∀ a j, a ≠ 9 → uF F 9 y (-1) a j = F a j := fun a j ha => by rw [uF_at, if_neg (fun z => ha z.1)]
  have ep : ∀ q k, q < 8 → k < 18 → pF (upd w (8 * y + 5) 0) q k = pF w q k := fun q k h1 h2 => out _ (by omega)
  have eh : ∀ z k, z < 10 → k < 8 → k ≠ 5 → hF (upd w (8 * y + 5) 0) z k = hF w z k := fun z k h1 h2 h3 => out _ (by omega)
  have eP : nP (upd w (8 * y + 5) 0) = nP w := congrArg Int32.toNatClampNeg (out 231 (by omega))
  have eH : nH (upd w (8 * y + 5) 0) = nH w := congrArg Int32.toNatClampNeg (out 230 (by omega))
  have eL : nL (upd w (8 * y + 5) 0) = nL w := congrArg Int32.toNatClampNeg (out 233 (by omega))
  refine ⟨fun j hj => by rw [Fo _ _ (by decide), q1 j hj]; exact (out _ (by omega)).symm, fun q hq => ?_, fun q i hq hi => ?_, fun z hz => ?_, fun z hz => ?_, q6.trans (out _ (by omega)).symm, q7.trans (out _ (by omega)).symm⟩
  · rw [eP] at hq
    rw [ep q 4 (by omega) (by decide), ep q 5 (by omega) (by decide), ep q 6 (by omega) (by decide), ep q 9 (by omega) (by decide), ep q 10 (by omega) (by decide), ep q 11 (by omega) (by decide), ep q 1 (by omega) (by decide), ep q 8 (by omega) (by decide), ep q 7 (by omega) (by decide)]
    rw [Fo _ _ (by decide), Fo _ _ (by decide), Fo _ _ (by decide), Fo _ _ (by decide), Fo _ _ (by decide), Fo _ _ (by decide), Fo _ _ (by decide), Fo _ _ (by decide), Fo _ _ (by decide)]
    exact q2 q hq
  · rw [eP] at hq
    have e11 : pN (upd w (8 * y + 5) 0) q 11 = pN w q 11 := by unfold pN; rw [ep q 11 (by omega) (by decide)]
    rw [e11] at hi
    have := (Z.p11 (p := q) (by omega)).2
    rw [ep q (12 + i) (by omega) (by omega), Fo _ _ (by decide)]
    exact q3 q i hq hi
  · rw [eH] at hz
    rw [eh z 7 (by omega) (by decide) (by decide), eh z 6 (by omega) (by decide) (by decide), eh z 3 (by omega) (by decide) (by decide), Fo _ _ (by decide), Fo _ _ (by decide), Fo _ _ (by decide)]
    exact q4 z hz
  · rw [eH] at hz
    rw [eL, uF_at]
    by_cases e : z = y
    · subst e
      rw [if_pos ⟨rfl, rfl⟩]
      exact Or.inl ⟨rfl, upd_s⟩
    · rw [if_neg (fun t => e t.2), show hF (upd w (8 * y + 5) 0) z 5 = hF w z 5 from out _ (by omega)]
      rcases q5 z hz with t | ⟨i, z1, z2, z3⟩
      · exact Or.inl t
      · exact Or.inr ⟨i, z1, z2, by rw [z3]; unfold lF; exact (out _ (by omega)).symm⟩
/-- Register.frees with no chain = the reference's leaves with chain 0 -/
theorem x_leaves (X : RX h nx M o r eL eO_ cL cO w) (Z : Rng w) (hy : y < 10) : ∃ h' : AH, f_X2_frees E h nx r (nI y) (-1) = some ((), h', 0, 0) ∧ RX h' nx M o r eL eO_ cL cO (lvsd w y 0) ∧ ∀ q, ¬ Own r eL eO_ q → h' q = h q := by
  have bL := Z.gL.2
  have Z1 : Rng (upd w (8 * y + 2) (-1)) := Rng_h Z hy (by decide) (show inI (-1) (-1) 7 from ⟨by decide, by decide⟩)
  have Z2 : Rng (upd (upd w (8 * y + 2) (-1)) (8 * y + 3) 1) := Rng_h Z1 hy (by decide) (show inI 1 0 1 from ⟨by decide, by decide⟩)
  obtain ⟨h1, a1, a2, a3⟩ := X.put Z (a := 8) (j := y) (by decide) hy (w 232 + 1) (fun F wk rf Q => RelF_h8 Q Z hy (-1)) ⟨fun q k a1 a2 a3 => by unfold pF; rw [upd_n (by omega), upd_n (by omega)], fun z k a1 a2 => by unfold hF; rw [upd_n (by omega), upd_n (by omega)], fun i a1 a2 => by rw [upd_n (by omega), upd_n (by omega)]⟩ (by unfold nL wN; rw [upd_n (by omega), upd_n (by omega)]) (by unfold nO wN; rw [upd_n (by omega), upd_n (by omega)]) (fun i k hi hk => by unfold lF; rw [upd_n (by omega), upd_n (by omega)]) (fun i k hi hk => by rw [upd_n (by omega), upd_n (by omega)])
  obtain ⟨h2, b1, b2, b3⟩ := a2.put Z2 (a := 9) (j := y) (by decide) hy (-1) (fun F wk rf Q => RelF_h9 Q Z2 hy) ⟨fun q k a1 a2 a3 => by unfold pF; exact upd_n (by omega), fun z k a1 a2 => by unfold hF; exact upd_n (by omega), fun i a1 a2 => upd_n (by omega)⟩ (by unfold nL wN; rw [upd_n (by omega)]) (by unfold nO wN; rw [upd_n (by omega)]) (fun i k hi hk => by unfold lF; exact upd_n (by have : nL (upd (upd w (8 * y + 2) (-1)) (8 * y + 3) 1) ≤ 8 := Z2.gL.2; omega)) (fun i k hi hk => upd_n (by omega))
  obtain ⟨_, F0, wk0, rf0, sc0, la0, oa0, R0, Q0, -⟩ := id X
  obtain ⟨_, F1, wk1, rf1, sc1, la1, oa1, R1, -⟩ := id a2
  refine ⟨h2, ?_, b2, fun q hq => (b3 q (fun z => hq (by rw [z]; exact Or.inl ⟨by omega, by omega⟩))).trans (a3 q (fun z => hq (by rw [z]; exact Or.inl ⟨by omega, by omega⟩)))⟩
  simp only [f_X2_frees, R0.g8, R0.g17, Option.bind_some]
  rw [Q0.2.2.2.2.2.1, show sI h (r + 9) 0 (nI y) (w 232 + 1) = some h1 from a1, Option.bind_some, R1.g9, Option.bind_some, show sI h1 (r + 10) 0 (nI y) (-1) = some h2 from b1, Option.bind_some]
end PZV
