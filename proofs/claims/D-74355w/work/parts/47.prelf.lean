/-! a register's row and the reference's row, one field written -/
section PRF
variable {F : Nat → Nat → Int32} {wk rf : Int32} {w : Rw} {p h : Nat}
theorem uF_n {a b j i : Nat} {v : Int32} (hb : b ≠ a) : uF F a j v b i = F b i := by unfold uF; rw [if_neg hb]
theorem uF_a {a j i : Nat} {v : Int32} : uF F a j v a i = if i = j then v else F a i := by unfold uF; rw [if_pos rfl]; rfl
theorem RelF_p1 (Q : RelF F wk rf w) (Z : Rng w) (hp : p < 8) (v : Int32) : RelF (uF F 1 p v) wk rf (upd w (80 + 18 * p + 4) v) := by
  obtain ⟨q1, q2, q3, q4, q5, q6, q7⟩ := Q
  have e8 := Z.gP.2
  have e10 := Z.gH.2
  have eP : nP (upd w (80 + 18 * p + 4) v) = nP w := by unfold nP wN; rw [upd_n (by omega)]
  have eH : nH (upd w (80 + 18 * p + 4) v) = nH w := by unfold nH wN; rw [upd_n (by omega)]
  have eL : nL (upd w (80 + 18 * p + 4) v) = nL w := by unfold nL wN; rw [upd_n (by omega)]
  have el : ∀ i j, lF (upd w (80 + 18 * p + 4) v) i j = lF w i j := fun i j => by unfold lF; exact upd_n (by omega)
  have ep : ∀ q j, j < 18 → ¬ (q = p ∧ j = 4) → pF (upd w (80 + 18 * p + 4) v) q j = pF w q j := fun q j hj hn => by unfold pF; exact upd_n (by omega)
  have es : pF (upd w (80 + 18 * p + 4) v) p 4 = v := by unfold pF; exact upd_s
  have eh : ∀ x j, x < 10 → j < 8 → hF (upd w (80 + 18 * p + 4) v) x j = hF w x j := fun x j h1 h2 => by unfold hF; exact upd_n (by omega)
  refine ⟨fun j hj => ?_, fun q hq => ?_, fun q i hq hi => ?_, fun x hx => ?_, fun x hx => ?_, by rw [q6]; exact (upd_n (by omega)).symm, by rw [q7]; exact (upd_n (by omega)).symm⟩
  · rw [uF_n (by decide), q1 j hj]; exact (upd_n (by omega)).symm
  · rw [eP] at hq
    obtain ⟨z0, z1, z2, z3, z4, z5, z6, z7, z8⟩ := q2 q hq
    refine ⟨?_, ?_, ?_, ?_, ?_, ?_, ?_, ?_, ?_⟩
    · rw [uF_a]
      by_cases hqp : q = p
      · subst hqp; rw [if_pos rfl, es]
      · rw [if_neg hqp, ep q 4 (by decide) (by omega)]; exact z0
    · rw [uF_n (by decide), ep q 5 (by decide) (by omega)]; exact z1
    · rw [uF_n (by decide), ep q 6 (by decide) (by omega)]; exact z2
    · rw [uF_n (by decide), ep q 9 (by decide) (by omega)]; exact z3
    · rw [uF_n (by decide), ep q 10 (by decide) (by omega)]; exact z4
    · rw [uF_n (by decide), ep q 11 (by decide) (by omega)]; exact z5
    · rw [uF_n (by decide), ep q 1 (by decide) (by omega)]; exact z6
    · rw [uF_n (by decide), ep q 8 (by decide) (by omega)]; exact z7
    · rw [uF_n (by decide), ep q 7 (by decide) (by omega)]; exact z8
  · rw [eP] at hq
    have e11 : pN (upd w (80 + 18 * p + 4) v) q 11 = pN w q 11 := by unfold pN; rw [ep q 11 (by decide) (by omega)]
    rw [e11] at hi
    have := (Z.p11 (p := q) (by omega)).2
    rw [uF_n (by decide), ep q (12 + i) (by omega) (by omega)]
    exact q3 q i hq hi
  · rw [eH] at hx
    rw [eh x 7 (by omega) (by decide), eh x 6 (by omega) (by decide), eh x 3 (by omega) (by decide), uF_n (by decide), uF_n (by decide), uF_n (by decide)]
    exact q4 x hx
  · rw [eH] at hx
    rw [eh x 5 (by omega) (by decide), uF_n (by decide), eL]
    simp only [el]
    exact q5 x hx
theorem RelF_p2 (Q : RelF F wk rf w) (Z : Rng w) (hp : p < 8) (v : Int32) : RelF (uF F 2 p v) wk rf (upd w (80 + 18 * p + 5) v) := by
  obtain ⟨q1, q2, q3, q4, q5, q6, q7⟩ := Q
  have e8 := Z.gP.2
  have e10 := Z.gH.2
  have eP : nP (upd w (80 + 18 * p + 5) v) = nP w := by unfold nP wN; rw [upd_n (by omega)]
  have eH : nH (upd w (80 + 18 * p + 5) v) = nH w := by unfold nH wN; rw [upd_n (by omega)]
  have eL : nL (upd w (80 + 18 * p + 5) v) = nL w := by unfold nL wN; rw [upd_n (by omega)]
  have el : ∀ i j, lF (upd w (80 + 18 * p + 5) v) i j = lF w i j := fun i j => by unfold lF; exact upd_n (by omega)
  have ep : ∀ q j, j < 18 → ¬ (q = p ∧ j = 5) → pF (upd w (80 + 18 * p + 5) v) q j = pF w q j := fun q j hj hn => by unfold pF; exact upd_n (by omega)
  have es : pF (upd w (80 + 18 * p + 5) v) p 5 = v := by unfold pF; exact upd_s
  have eh : ∀ x j, x < 10 → j < 8 → hF (upd w (80 + 18 * p + 5) v) x j = hF w x j := fun x j h1 h2 => by unfold hF; exact upd_n (by omega)
  refine ⟨fun j hj => ?_, fun q hq => ?_, fun q i hq hi => ?_, fun x hx => ?_, fun x hx => ?_, by rw [q6]; exact (upd_n (by omega)).symm, by rw [q7]; exact (upd_n (by omega)).symm⟩
  · rw [uF_n (by decide), q1 j hj]; exact (upd_n (by omega)).symm
  · rw [eP] at hq
    obtain ⟨z0, z1, z2, z3, z4, z5, z6, z7, z8⟩ := q2 q hq
    refine ⟨?_, ?_, ?_, ?_, ?_, ?_, ?_, ?_, ?_⟩
    · rw [uF_n (by decide), ep q 4 (by decide) (by omega)]; exact z0
    · rw [uF_a]
      by_cases hqp : q = p
      · subst hqp; rw [if_pos rfl, es]
      · rw [if_neg hqp, ep q 5 (by decide) (by omega)]; exact z1
    · rw [uF_n (by decide), ep q 6 (by decide) (by omega)]; exact z2
    · rw [uF_n (by decide), ep q 9 (by decide) (by omega)]; exact z3
    · rw [uF_n (by decide), ep q 10 (by decide) (by omega)]; exact z4
    · rw [uF_n (by decide), ep q 11 (by decide) (by omega)]; exact z5
    · rw [uF_n (by decide), ep q 1 (by decide) (by omega)]; exact z6
    · rw [uF_n (by decide), ep q 8 (by decide) (by omega)]; exact z7
    · rw [uF_n (by decide), ep q 7 (by decide) (by omega)]; exact z8
  · rw [eP] at hq
    have e11 : pN (upd w (80 + 18 * p + 5) v) q 11 = pN w q 11 := by unfold pN; rw [ep q 11 (by decide) (by omega)]
    rw [e11] at hi
    have := (Z.p11 (p := q) (by omega)).2
    rw [uF_n (by decide), ep q (12 + i) (by omega) (by omega)]
    exact q3 q i hq hi
  · rw [eH] at hx
    rw [eh x 7 (by omega) (by decide), eh x 6 (by omega) (by decide), eh x 3 (by omega) (by decide), uF_n (by decide), uF_n (by decide), uF_n (by decide)]
    exact q4 x hx
  · rw [eH] at hx
    rw [eh x 5 (by omega) (by decide), uF_n (by decide), eL]
    simp only [el]
    exact q5 x hx
theorem RelF_p3 (Q : RelF F wk rf w) (Z : Rng w) (hp : p < 8) (v : Int32) : RelF (uF F 3 p v) wk rf (upd w (80 + 18 * p + 6) v) := by
  obtain ⟨q1, q2, q3, q4, q5, q6, q7⟩ := Q
  have e8 := Z.gP.2
  have e10 := Z.gH.2
  have eP : nP (upd w (80 + 18 * p + 6) v) = nP w := by unfold nP wN; rw [upd_n (by omega)]
  have eH : nH (upd w (80 + 18 * p + 6) v) = nH w := by unfold nH wN; rw [upd_n (by omega)]
  have eL : nL (upd w (80 + 18 * p + 6) v) = nL w := by unfold nL wN; rw [upd_n (by omega)]
  have el : ∀ i j, lF (upd w (80 + 18 * p + 6) v) i j = lF w i j := fun i j => by unfold lF; exact upd_n (by omega)
  have ep : ∀ q j, j < 18 → ¬ (q = p ∧ j = 6) → pF (upd w (80 + 18 * p + 6) v) q j = pF w q j := fun q j hj hn => by unfold pF; exact upd_n (by omega)
  have es : pF (upd w (80 + 18 * p + 6) v) p 6 = v := by unfold pF; exact upd_s
  have eh : ∀ x j, x < 10 → j < 8 → hF (upd w (80 + 18 * p + 6) v) x j = hF w x j := fun x j h1 h2 => by unfold hF; exact upd_n (by omega)
  refine ⟨fun j hj => ?_, fun q hq => ?_, fun q i hq hi => ?_, fun x hx => ?_, fun x hx => ?_, by rw [q6]; exact (upd_n (by omega)).symm, by rw [q7]; exact (upd_n (by omega)).symm⟩
  · rw [uF_n (by decide), q1 j hj]; exact (upd_n (by omega)).symm
  · rw [eP] at hq
    obtain ⟨z0, z1, z2, z3, z4, z5, z6, z7, z8⟩ := q2 q hq
    refine ⟨?_, ?_, ?_, ?_, ?_, ?_, ?_, ?_, ?_⟩
    · rw [uF_n (by decide), ep q 4 (by decide) (by omega)]; exact z0
    · rw [uF_n (by decide), ep q 5 (by decide) (by omega)]; exact z1
    · rw [uF_a]
      by_cases hqp : q = p
      · subst hqp; rw [if_pos rfl, es]
      · rw [if_neg hqp, ep q 6 (by decide) (by omega)]; exact z2
    · rw [uF_n (by decide), ep q 9 (by decide) (by omega)]; exact z3
    · rw [uF_n (by decide), ep q 10 (by decide) (by omega)]; exact z4
    · rw [uF_n (by decide), ep q 11 (by decide) (by omega)]; exact z5
    · rw [uF_n (by decide), ep q 1 (by decide) (by omega)]; exact z6
    · rw [uF_n (by decide), ep q 8 (by decide) (by omega)]; exact z7
    · rw [uF_n (by decide), ep q 7 (by decide) (by omega)]; exact z8
  · rw [eP] at hq
    have e11 : pN (upd w (80 + 18 * p + 6) v) q 11 = pN w q 11 := by unfold pN; rw [ep q 11 (by decide) (by omega)]
    rw [e11] at hi
    have := (Z.p11 (p := q) (by omega)).2
    rw [uF_n (by decide), ep q (12 + i) (by omega) (by omega)]
    exact q3 q i hq hi
  · rw [eH] at hx
    rw [eh x 7 (by omega) (by decide), eh x 6 (by omega) (by decide), eh x 3 (by omega) (by decide), uF_n (by decide), uF_n (by decide), uF_n (by decide)]
    exact q4 x hx
  · rw [eH] at hx
    rw [eh x 5 (by omega) (by decide), uF_n (by decide), eL]
    simp only [el]
    exact q5 x hx
theorem RelF_p4 (Q : RelF F wk rf w) (Z : Rng w) (hp : p < 8) (v : Int32) : RelF (uF F 4 p v) wk rf (upd w (80 + 18 * p + 9) v) := by
  obtain ⟨q1, q2, q3, q4, q5, q6, q7⟩ := Q
  have e8 := Z.gP.2
  have e10 := Z.gH.2
  have eP : nP (upd w (80 + 18 * p + 9) v) = nP w := by unfold nP wN; rw [upd_n (by omega)]
  have eH : nH (upd w (80 + 18 * p + 9) v) = nH w := by unfold nH wN; rw [upd_n (by omega)]
  have eL : nL (upd w (80 + 18 * p + 9) v) = nL w := by unfold nL wN; rw [upd_n (by omega)]
  have el : ∀ i j, lF (upd w (80 + 18 * p + 9) v) i j = lF w i j := fun i j => by unfold lF; exact upd_n (by omega)
  have ep : ∀ q j, j < 18 → ¬ (q = p ∧ j = 9) → pF (upd w (80 + 18 * p + 9) v) q j = pF w q j := fun q j hj hn => by unfold pF; exact upd_n (by omega)
  have es : pF (upd w (80 + 18 * p + 9) v) p 9 = v := by unfold pF; exact upd_s
  have eh : ∀ x j, x < 10 → j < 8 → hF (upd w (80 + 18 * p + 9) v) x j = hF w x j := fun x j h1 h2 => by unfold hF; exact upd_n (by omega)
  refine ⟨fun j hj => ?_, fun q hq => ?_, fun q i hq hi => ?_, fun x hx => ?_, fun x hx => ?_, by rw [q6]; exact (upd_n (by omega)).symm, by rw [q7]; exact (upd_n (by omega)).symm⟩
  · rw [uF_n (by decide), q1 j hj]; exact (upd_n (by omega)).symm
  · rw [eP] at hq
    obtain ⟨z0, z1, z2, z3, z4, z5, z6, z7, z8⟩ := q2 q hq
    refine ⟨?_, ?_, ?_, ?_, ?_, ?_, ?_, ?_, ?_⟩
    · rw [uF_n (by decide), ep q 4 (by decide) (by omega)]; exact z0
    · rw [uF_n (by decide), ep q 5 (by decide) (by omega)]; exact z1
    · rw [uF_n (by decide), ep q 6 (by decide) (by omega)]; exact z2
    · rw [uF_a]
      by_cases hqp : q = p
      · subst hqp; rw [if_pos rfl, es]
      · rw [if_neg hqp, ep q 9 (by decide) (by omega)]; exact z3
    · rw [uF_n (by decide), ep q 10 (by decide) (by omega)]; exact z4
    · rw [uF_n (by decide), ep q 11 (by decide) (by omega)]; exact z5
    · rw [uF_n (by decide), ep q 1 (by decide) (by omega)]; exact z6
    · rw [uF_n (by decide), ep q 8 (by decide) (by omega)]; exact z7
    · rw [uF_n (by decide), ep q 7 (by decide) (by omega)]; exact z8
  · rw [eP] at hq
    have e11 : pN (upd w (80 + 18 * p + 9) v) q 11 = pN w q 11 := by unfold pN; rw [ep q 11 (by decide) (by omega)]
    rw [e11] at hi
    have := (Z.p11 (p := q) (by omega)).2
    rw [uF_n (by decide), ep q (12 + i) (by omega) (by omega)]
    exact q3 q i hq hi
  · rw [eH] at hx
    rw [eh x 7 (by omega) (by decide), eh x 6 (by omega) (by decide), eh x 3 (by omega) (by decide), uF_n (by decide), uF_n (by decide), uF_n (by decide)]
    exact q4 x hx
  · rw [eH] at hx
    rw [eh x 5 (by omega) (by decide), uF_n (by decide), eL]
    simp only [el]
    exact q5 x hx
theorem RelF_p5 (Q : RelF F wk rf w) (Z : Rng w) (hp : p < 8) (v : Int32) : RelF (uF F 5 p v) wk rf (upd w (80 + 18 * p + 10) v) := by
  obtain ⟨q1, q2, q3, q4, q5, q6, q7⟩ := Q
  have e8 := Z.gP.2
  have e10 := Z.gH.2
  have eP : nP (upd w (80 + 18 * p + 10) v) = nP w := by unfold nP wN; rw [upd_n (by omega)]
  have eH : nH (upd w (80 + 18 * p + 10) v) = nH w := by unfold nH wN; rw [upd_n (by omega)]
  have eL : nL (upd w (80 + 18 * p + 10) v) = nL w := by unfold nL wN; rw [upd_n (by omega)]
  have el : ∀ i j, lF (upd w (80 + 18 * p + 10) v) i j = lF w i j := fun i j => by unfold lF; exact upd_n (by omega)
  have ep : ∀ q j, j < 18 → ¬ (q = p ∧ j = 10) → pF (upd w (80 + 18 * p + 10) v) q j = pF w q j := fun q j hj hn => by unfold pF; exact upd_n (by omega)
  have es : pF (upd w (80 + 18 * p + 10) v) p 10 = v := by unfold pF; exact upd_s
  have eh : ∀ x j, x < 10 → j < 8 → hF (upd w (80 + 18 * p + 10) v) x j = hF w x j := fun x j h1 h2 => by unfold hF; exact upd_n (by omega)
  refine ⟨fun j hj => ?_, fun q hq => ?_, fun q i hq hi => ?_, fun x hx => ?_, fun x hx => ?_, by rw [q6]; exact (upd_n (by omega)).symm, by rw [q7]; exact (upd_n (by omega)).symm⟩
  · rw [uF_n (by decide), q1 j hj]; exact (upd_n (by omega)).symm
  · rw [eP] at hq
    obtain ⟨z0, z1, z2, z3, z4, z5, z6, z7, z8⟩ := q2 q hq
    refine ⟨?_, ?_, ?_, ?_, ?_, ?_, ?_, ?_, ?_⟩
    · rw [uF_n (by decide), ep q 4 (by decide) (by omega)]; exact z0
    · rw [uF_n (by decide), ep q 5 (by decide) (by omega)]; exact z1
    · rw [uF_n (by decide), ep q 6 (by decide) (by omega)]; exact z2
    · rw [uF_n (by decide), ep q 9 (by decide) (by omega)]; exact z3
    · rw [uF_a]
      by_cases hqp : q = p
      · subst hqp; rw [if_pos rfl, es]
      · rw [if_neg hqp, ep q 10 (by decide) (by omega)]; exact z4
    · rw [uF_n (by decide), ep q 11 (by decide) (by omega)]; exact z5
    · rw [uF_n (by decide), ep q 1 (by decide) (by omega)]; exact z6
    · rw [uF_n (by decide), ep q 8 (by decide) (by omega)]; exact z7
    · rw [uF_n (by decide), ep q 7 (by decide) (by omega)]; exact z8
  · rw [eP] at hq
    have e11 : pN (upd w (80 + 18 * p + 10) v) q 11 = pN w q 11 := by unfold pN; rw [ep q 11 (by decide) (by omega)]
    rw [e11] at hi
    have := (Z.p11 (p := q) (by omega)).2
    rw [uF_n (by decide), ep q (12 + i) (by omega) (by omega)]
    exact q3 q i hq hi
  · rw [eH] at hx
    rw [eh x 7 (by omega) (by decide), eh x 6 (by omega) (by decide), eh x 3 (by omega) (by decide), uF_n (by decide), uF_n (by decide), uF_n (by decide)]
    exact q4 x hx
  · rw [eH] at hx
    rw [eh x 5 (by omega) (by decide), uF_n (by decide), eL]
    simp only [el]
    exact q5 x hx
theorem RelF_p10 (Q : RelF F wk rf w) (Z : Rng w) (hp : p < 8) (v : Int32) : RelF (uF F 10 p v) wk rf (upd w (80 + 18 * p + 1) v) := by
  obtain ⟨q1, q2, q3, q4, q5, q6, q7⟩ := Q
  have e8 := Z.gP.2
  have e10 := Z.gH.2
  have eP : nP (upd w (80 + 18 * p + 1) v) = nP w := by unfold nP wN; rw [upd_n (by omega)]
  have eH : nH (upd w (80 + 18 * p + 1) v) = nH w := by unfold nH wN; rw [upd_n (by omega)]
  have eL : nL (upd w (80 + 18 * p + 1) v) = nL w := by unfold nL wN; rw [upd_n (by omega)]
  have el : ∀ i j, lF (upd w (80 + 18 * p + 1) v) i j = lF w i j := fun i j => by unfold lF; exact upd_n (by omega)
  have ep : ∀ q j, j < 18 → ¬ (q = p ∧ j = 1) → pF (upd w (80 + 18 * p + 1) v) q j = pF w q j := fun q j hj hn => by unfold pF; exact upd_n (by omega)
  have es : pF (upd w (80 + 18 * p + 1) v) p 1 = v := by unfold pF; exact upd_s
  have eh : ∀ x j, x < 10 → j < 8 → hF (upd w (80 + 18 * p + 1) v) x j = hF w x j := fun x j h1 h2 => by unfold hF; exact upd_n (by omega)
  refine ⟨fun j hj => ?_, fun q hq => ?_, fun q i hq hi => ?_, fun x hx => ?_, fun x hx => ?_, by rw [q6]; exact (upd_n (by omega)).symm, by rw [q7]; exact (upd_n (by omega)).symm⟩
  · rw [uF_n (by decide), q1 j hj]; exact (upd_n (by omega)).symm
  · rw [eP] at hq
    obtain ⟨z0, z1, z2, z3, z4, z5, z6, z7, z8⟩ := q2 q hq
    refine ⟨?_, ?_, ?_, ?_, ?_, ?_, ?_, ?_, ?_⟩
    · rw [uF_n (by decide), ep q 4 (by decide) (by omega)]; exact z0
    · rw [uF_n (by decide), ep q 5 (by decide) (by omega)]; exact z1
    · rw [uF_n (by decide), ep q 6 (by decide) (by omega)]; exact z2
    · rw [uF_n (by decide), ep q 9 (by decide) (by omega)]; exact z3
    · rw [uF_n (by decide), ep q 10 (by decide) (by omega)]; exact z4
    · rw [uF_n (by decide), ep q 11 (by decide) (by omega)]; exact z5
    · rw [uF_a]
      by_cases hqp : q = p
      · subst hqp; rw [if_pos rfl, es]
      · rw [if_neg hqp, ep q 1 (by decide) (by omega)]; exact z6
    · rw [uF_n (by decide), ep q 8 (by decide) (by omega)]; exact z7
    · rw [uF_n (by decide), ep q 7 (by decide) (by omega)]; exact z8
  · rw [eP] at hq
    have e11 : pN (upd w (80 + 18 * p + 1) v) q 11 = pN w q 11 := by unfold pN; rw [ep q 11 (by decide) (by omega)]
    rw [e11] at hi
    have := (Z.p11 (p := q) (by omega)).2
    rw [uF_n (by decide), ep q (12 + i) (by omega) (by omega)]
    exact q3 q i hq hi
  · rw [eH] at hx
    rw [eh x 7 (by omega) (by decide), eh x 6 (by omega) (by decide), eh x 3 (by omega) (by decide), uF_n (by decide), uF_n (by decide), uF_n (by decide)]
    exact q4 x hx
  · rw [eH] at hx
    rw [eh x 5 (by omega) (by decide), uF_n (by decide), eL]
    simp only [el]
    exact q5 x hx
theorem RelF_p13 (Q : RelF F wk rf w) (Z : Rng w) (hp : p < 8) (v : Int32) : RelF (uF F 13 p v) wk rf (upd w (80 + 18 * p + 8) v) := by
  obtain ⟨q1, q2, q3, q4, q5, q6, q7⟩ := Q
  have e8 := Z.gP.2
  have e10 := Z.gH.2
  have eP : nP (upd w (80 + 18 * p + 8) v) = nP w := by unfold nP wN; rw [upd_n (by omega)]
  have eH : nH (upd w (80 + 18 * p + 8) v) = nH w := by unfold nH wN; rw [upd_n (by omega)]
  have eL : nL (upd w (80 + 18 * p + 8) v) = nL w := by unfold nL wN; rw [upd_n (by omega)]
  have el : ∀ i j, lF (upd w (80 + 18 * p + 8) v) i j = lF w i j := fun i j => by unfold lF; exact upd_n (by omega)
  have ep : ∀ q j, j < 18 → ¬ (q = p ∧ j = 8) → pF (upd w (80 + 18 * p + 8) v) q j = pF w q j := fun q j hj hn => by unfold pF; exact upd_n (by omega)
  have es : pF (upd w (80 + 18 * p + 8) v) p 8 = v := by unfold pF; exact upd_s
  have eh : ∀ x j, x < 10 → j < 8 → hF (upd w (80 + 18 * p + 8) v) x j = hF w x j := fun x j h1 h2 => by unfold hF; exact upd_n (by omega)
  refine ⟨fun j hj => ?_, fun q hq => ?_, fun q i hq hi => ?_, fun x hx => ?_, fun x hx => ?_, by rw [q6]; exact (upd_n (by omega)).symm, by rw [q7]; exact (upd_n (by omega)).symm⟩
  · rw [uF_n (by decide), q1 j hj]; exact (upd_n (by omega)).symm
  · rw [eP] at hq
    obtain ⟨z0, z1, z2, z3, z4, z5, z6, z7, z8⟩ := q2 q hq
    refine ⟨?_, ?_, ?_, ?_, ?_, ?_, ?_, ?_, ?_⟩
    · rw [uF_n (by decide), ep q 4 (by decide) (by omega)]; exact z0
    · rw [uF_n (by decide), ep q 5 (by decide) (by omega)]; exact z1
    · rw [uF_n (by decide), ep q 6 (by decide) (by omega)]; exact z2
    · rw [uF_n (by decide), ep q 9 (by decide) (by omega)]; exact z3
    · rw [uF_n (by decide), ep q 10 (by decide) (by omega)]; exact z4
    · rw [uF_n (by decide), ep q 11 (by decide) (by omega)]; exact z5
    · rw [uF_n (by decide), ep q 1 (by decide) (by omega)]; exact z6
    · rw [uF_a]
      by_cases hqp : q = p
      · subst hqp; rw [if_pos rfl, es]
      · rw [if_neg hqp, ep q 8 (by decide) (by omega)]; exact z7
    · rw [uF_n (by decide), ep q 7 (by decide) (by omega)]; exact z8
  · rw [eP] at hq
    have e11 : pN (upd w (80 + 18 * p + 8) v) q 11 = pN w q 11 := by unfold pN; rw [ep q 11 (by decide) (by omega)]
    rw [e11] at hi
    have := (Z.p11 (p := q) (by omega)).2
    rw [uF_n (by decide), ep q (12 + i) (by omega) (by omega)]
    exact q3 q i hq hi
  · rw [eH] at hx
    rw [eh x 7 (by omega) (by decide), eh x 6 (by omega) (by decide), eh x 3 (by omega) (by decide), uF_n (by decide), uF_n (by decide), uF_n (by decide)]
    exact q4 x hx
  · rw [eH] at hx
    rw [eh x 5 (by omega) (by decide), uF_n (by decide), eL]
    simp only [el]
    exact q5 x hx
theorem RelF_p14 (Q : RelF F wk rf w) (Z : Rng w) (hp : p < 8) (v : Int32) : RelF (uF F 14 p v) wk rf (upd w (80 + 18 * p + 7) v) := by
  obtain ⟨q1, q2, q3, q4, q5, q6, q7⟩ := Q
  have e8 := Z.gP.2
  have e10 := Z.gH.2
  have eP : nP (upd w (80 + 18 * p + 7) v) = nP w := by unfold nP wN; rw [upd_n (by omega)]
  have eH : nH (upd w (80 + 18 * p + 7) v) = nH w := by unfold nH wN; rw [upd_n (by omega)]
  have eL : nL (upd w (80 + 18 * p + 7) v) = nL w := by unfold nL wN; rw [upd_n (by omega)]
  have el : ∀ i j, lF (upd w (80 + 18 * p + 7) v) i j = lF w i j := fun i j => by unfold lF; exact upd_n (by omega)
  have ep : ∀ q j, j < 18 → ¬ (q = p ∧ j = 7) → pF (upd w (80 + 18 * p + 7) v) q j = pF w q j := fun q j hj hn => by unfold pF; exact upd_n (by omega)
  have es : pF (upd w (80 + 18 * p + 7) v) p 7 = v := by unfold pF; exact upd_s
  have eh : ∀ x j, x < 10 → j < 8 → hF (upd w (80 + 18 * p + 7) v) x j = hF w x j := fun x j h1 h2 => by unfold hF; exact upd_n (by omega)
  refine ⟨fun j hj => ?_, fun q hq => ?_, fun q i hq hi => ?_, fun x hx => ?_, fun x hx => ?_, by rw [q6]; exact (upd_n (by omega)).symm, by rw [q7]; exact (upd_n (by omega)).symm⟩
  · rw [uF_n (by decide), q1 j hj]; exact (upd_n (by omega)).symm
  · rw [eP] at hq
    obtain ⟨z0, z1, z2, z3, z4, z5, z6, z7, z8⟩ := q2 q hq
    refine ⟨?_, ?_, ?_, ?_, ?_, ?_, ?_, ?_, ?_⟩
    · rw [uF_n (by decide), ep q 4 (by decide) (by omega)]; exact z0
    · rw [uF_n (by decide), ep q 5 (by decide) (by omega)]; exact z1
    · rw [uF_n (by decide), ep q 6 (by decide) (by omega)]; exact z2
    · rw [uF_n (by decide), ep q 9 (by decide) (by omega)]; exact z3
    · rw [uF_n (by decide), ep q 10 (by decide) (by omega)]; exact z4
    · rw [uF_n (by decide), ep q 11 (by decide) (by omega)]; exact z5
    · rw [uF_n (by decide), ep q 1 (by decide) (by omega)]; exact z6
    · rw [uF_n (by decide), ep q 8 (by decide) (by omega)]; exact z7
    · rw [uF_a]
      by_cases hqp : q = p
      · subst hqp; rw [if_pos rfl, es]
      · rw [if_neg hqp, ep q 7 (by decide) (by omega)]; exact z8
  · rw [eP] at hq
    have e11 : pN (upd w (80 + 18 * p + 7) v) q 11 = pN w q 11 := by unfold pN; rw [ep q 11 (by decide) (by omega)]
    rw [e11] at hi
    have := (Z.p11 (p := q) (by omega)).2
    rw [uF_n (by decide), ep q (12 + i) (by omega) (by omega)]
    exact q3 q i hq hi
  · rw [eH] at hx
    rw [eh x 7 (by omega) (by decide), eh x 6 (by omega) (by decide), eh x 3 (by omega) (by decide), uF_n (by decide), uF_n (by decide), uF_n (by decide)]
    exact q4 x hx
  · rw [eH] at hx
    rw [eh x 5 (by omega) (by decide), uF_n (by decide), eL]
    simp only [el]
    exact q5 x hx
theorem RelF_h11 (Q : RelF F wk rf w) (Z : Rng w) (hh : h < 10) (v : Int32) : RelF (uF F 11 h v) wk rf (upd w (8 * h + 7) v) := by
  obtain ⟨q1, q2, q3, q4, q5, q6, q7⟩ := Q
  have e8 := Z.gP.2
  have e10 := Z.gH.2
  have eP : nP (upd w (8 * h + 7) v) = nP w := by unfold nP wN; rw [upd_n (by omega)]
  have eH : nH (upd w (8 * h + 7) v) = nH w := by unfold nH wN; rw [upd_n (by omega)]
  have eL : nL (upd w (8 * h + 7) v) = nL w := by unfold nL wN; rw [upd_n (by omega)]
  have el : ∀ i j, lF (upd w (8 * h + 7) v) i j = lF w i j := fun i j => by unfold lF; exact upd_n (by omega)
  have ep : ∀ q j, pF (upd w (8 * h + 7) v) q j = pF w q j := fun q j => by unfold pF; exact upd_n (by omega)
  have es : hF (upd w (8 * h + 7) v) h 7 = v := by unfold hF; exact upd_s
  have eh : ∀ x j, x < 10 → j < 8 → ¬ (x = h ∧ j = 7) → hF (upd w (8 * h + 7) v) x j = hF w x j := fun x j h1 h2 hn => by unfold hF; exact upd_n (by omega)
  have e11 : ∀ q, pN (upd w (8 * h + 7) v) q 11 = pN w q 11 := fun q => by unfold pN; rw [ep q 11]
  refine ⟨fun j hj => ?_, fun q hq => ?_, fun q i hq hi => ?_, fun x hx => ?_, fun x hx => ?_, by rw [q6]; exact (upd_n (by omega)).symm, by rw [q7]; exact (upd_n (by omega)).symm⟩
  · rw [uF_n (by decide), q1 j hj]; exact (upd_n (by omega)).symm
  · rw [eP] at hq
    simp only [ep]
    rw [uF_n (by decide), uF_n (by decide), uF_n (by decide), uF_n (by decide), uF_n (by decide), uF_n (by decide), uF_n (by decide), uF_n (by decide), uF_n (by decide)]
    exact q2 q hq
  · rw [eP] at hq
    rw [e11] at hi
    rw [uF_n (by decide), ep]
    exact q3 q i hq hi
  · rw [eH] at hx
    obtain ⟨z1, z2, z3, z4⟩ := q4 x hx
    rw [eh x 3 (by omega) (by decide) (by omega), uF_n (a := 11) (b := 8) (by decide)]
    refine ⟨?_, ?_, z3, z4⟩
    · rw [uF_a]
      by_cases hqp : x = h
      · subst hqp; rw [if_pos rfl, es]
      · rw [if_neg hqp, eh x 7 (by omega) (by decide) (by omega)]; exact z1
    · rw [uF_n (by decide), eh x 6 (by omega) (by decide) (by omega)]; exact z2
  · rw [eH] at hx
    rw [eh x 5 (by omega) (by decide) (by omega), uF_n (by decide), eL]
    simp only [el]
    exact q5 x hx
theorem RelF_h12 (Q : RelF F wk rf w) (Z : Rng w) (hh : h < 10) (v : Int32) : RelF (uF F 12 h v) wk rf (upd w (8 * h + 6) v) := by
  obtain ⟨q1, q2, q3, q4, q5, q6, q7⟩ := Q
  have e8 := Z.gP.2
  have e10 := Z.gH.2
  have eP : nP (upd w (8 * h + 6) v) = nP w := by unfold nP wN; rw [upd_n (by omega)]
  have eH : nH (upd w (8 * h + 6) v) = nH w := by unfold nH wN; rw [upd_n (by omega)]
  have eL : nL (upd w (8 * h + 6) v) = nL w := by unfold nL wN; rw [upd_n (by omega)]
  have el : ∀ i j, lF (upd w (8 * h + 6) v) i j = lF w i j := fun i j => by unfold lF; exact upd_n (by omega)
  have ep : ∀ q j, pF (upd w (8 * h + 6) v) q j = pF w q j := fun q j => by unfold pF; exact upd_n (by omega)
  have es : hF (upd w (8 * h + 6) v) h 6 = v := by unfold hF; exact upd_s
  have eh : ∀ x j, x < 10 → j < 8 → ¬ (x = h ∧ j = 6) → hF (upd w (8 * h + 6) v) x j = hF w x j := fun x j h1 h2 hn => by unfold hF; exact upd_n (by omega)
  have e11 : ∀ q, pN (upd w (8 * h + 6) v) q 11 = pN w q 11 := fun q => by unfold pN; rw [ep q 11]
  refine ⟨fun j hj => ?_, fun q hq => ?_, fun q i hq hi => ?_, fun x hx => ?_, fun x hx => ?_, by rw [q6]; exact (upd_n (by omega)).symm, by rw [q7]; exact (upd_n (by omega)).symm⟩
  · rw [uF_n (by decide), q1 j hj]; exact (upd_n (by omega)).symm
  · rw [eP] at hq
    simp only [ep]
    rw [uF_n (by decide), uF_n (by decide), uF_n (by decide), uF_n (by decide), uF_n (by decide), uF_n (by decide), uF_n (by decide), uF_n (by decide), uF_n (by decide)]
    exact q2 q hq
  · rw [eP] at hq
    rw [e11] at hi
    rw [uF_n (by decide), ep]
    exact q3 q i hq hi
  · rw [eH] at hx
    obtain ⟨z1, z2, z3, z4⟩ := q4 x hx
    rw [eh x 3 (by omega) (by decide) (by omega), uF_n (a := 12) (b := 8) (by decide)]
    refine ⟨?_, ?_, z3, z4⟩
    · rw [uF_n (by decide), eh x 7 (by omega) (by decide) (by omega)]; exact z1
    · rw [uF_a]
      by_cases hqp : x = h
      · subst hqp; rw [if_pos rfl, es]
      · rw [if_neg hqp, eh x 6 (by omega) (by decide) (by omega)]; exact z2
  · rw [eH] at hx
    rw [eh x 5 (by omega) (by decide) (by omega), uF_n (by decide), eL]
    simp only [el]
    exact q5 x hx
end PRF
