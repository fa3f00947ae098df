/-! what stays true when a home is offered -/
section PM8
variable {w w' : Rw} {p q h y k i x off : Nat} {t : Bool}
theorem Con_of (Z : Rng w) (C : Con w) (e1 : nH w' = nH w) (e2 : nP w' = nP w) (e3 : nL w' = nL w) (e4 : ∀ y, y < 10 → hF w' y 2 = hF w y 2) (e5 : ∀ q k, q < 8 → k = 4 ∨ k = 8 ∨ k = 10 ∨ k = 11 ∨ (12 ≤ k ∧ k < 18) → pF w' q k = pF w q k) (e6 : ∀ i k, i < nL w → k = 0 ∨ k = 1 → lF w' i k = lF w i k) : Con w' := by
  have b1 := Z.gH.2
  have b2 := Z.gP.2
  obtain ⟨c1, c2, c3, c4, c5, c6⟩ := C
  have n11 : ∀ q, q < 8 → pN w' q 11 = pN w q 11 := fun q hq => by unfold pN; rw [e5 q 11 hq (by omega)]
  have n6 : ∀ q, q < 8 → pN w q 11 ≤ 6 := fun q hq => (Z.p11 hq).2
  refine ⟨fun y hy => ?_, fun q hq => ?_, fun q i hq hi => ?_, fun q i j hq hi hj he => ?_, fun i hi => ?_, fun q hq => ?_⟩
  · rw [e1] at hy
    rw [e4 y (by omega), e2]
    rcases c1 y hy with z | ⟨q, z1, z2, z3⟩
    · exact Or.inl z
    · exact Or.inr ⟨q, z1, z2, by rw [e5 q 4 (by omega) (by omega)]; exact z3⟩
  · rw [e2] at hq
    rw [e5 q 4 (by omega) (by omega), e1]
    rcases c2 q hq with z | ⟨y, z1, z2, z3⟩
    · exact Or.inl z
    · exact Or.inr ⟨y, z1, z2, by rw [e4 y (by omega)]; exact z3⟩
  · rw [e2] at hq
    rw [n11 q (by omega)] at hi
    have := n6 q (by omega)
    have h1 : pN w' q (12 + i) = pN w q (12 + i) := by unfold pN; rw [e5 q (12 + i) (by omega) (by omega)]
    rw [h1, e1]
    exact c3 q i hq hi
  · rw [e2] at hq
    rw [n11 q (by omega)] at hi hj
    have := n6 q (by omega)
    rw [e5 q (12 + i) (by omega) (by omega), e5 q (12 + j) (by omega) (by omega)] at he
    exact c4 q i j hq hi hj he
  · rw [e3] at hi
    have h0 : lN_ w' i 0 = lN_ w i 0 := by unfold lN_; rw [e6 i 0 hi (by omega)]
    have h1 : lN_ w' i 1 = lN_ w i 1 := by unfold lN_; rw [e6 i 1 hi (by omega)]
    obtain ⟨z1, z2, z3⟩ := c5 i hi
    rw [h0, h1, e1, e2]
    refine ⟨z1, z2, ?_⟩
    unfold isIn_ at z3 ⊢
    rw [e5 _ 8 (by omega) (by omega)]
    exact z3
  · rw [e2] at hq
    have h1 : pN w' q 10 = pN w q 10 := by unfold pN; rw [e5 q 10 (by omega) (by omega)]
    rw [h1, e1]
    exact c6 q hq
theorem Con_ag (A : Agr w w') (Z : Rng w) (C : Con w) : Con w' := by
  have := Z.gL.2
  exact Con_of Z C (ag_nH A) (ag_nP A) (ag_nL A) (fun y hy => ag_h A hy (by decide)) (fun q k hq hk => ag_p A hq (by omega)) (fun i k hi hk => ag_l A hi (by omega))
theorem Con_refd (Z : Rng w) (C : Con w) (hp : p < 8) : Con (refd w p) :=
  Con_of Z C (by unfold nH wN; rw [refd_g hp (by decide) (by decide)]) (nP_refd hp) (by unfold nL wN; rw [refd_g hp (by decide) (by decide)]) (fun y hy => by unfold hF; exact refd_o (by omega) (fun k h1 h2 => by omega)) (fun q k hq hk => refd_p hq (by omega) (by omega)) (fun i k hi hk => by have := Z.gL.2; unfold lF; exact refd_g hp (by omega) (by omega))
theorem Con_takd (Z : Rng w) (C : Con w) (N : Cn w) (hp : p < nP w) (hh : h < nH w) (hi : isIn_ w p = true) (hf : hF w h 2 = -1) : Con (takd w p h off) := by
  have b1 := Z.gH.2
  have b2 := Z.gP.2
  have hl := N.lt Z hp hi
  have hp8 : p < 8 := by omega
  have hh10 : h < 10 := by omega
  obtain ⟨c1, c2, c3, c4, c5, c6⟩ := C
  -- the home that is left
  have was : pF w p 4 = -1 ∨ ∃ x, x < nH w ∧ x ≠ h ∧ pF w p 4 = nI x ∧ pN w p 4 = x ∧ hF w x 2 = nI p := by
    rcases c2 p hp with z | ⟨x, z1, z2, z3⟩
    · exact Or.inl z
    · refine Or.inr ⟨x, z1, fun z => ?_, z2, by unfold pN; rw [z2]; exact nI_clamp (by omega), z3⟩
      subst z
      rw [hf] at z3
      exact nI_m1' (by omega) z3
  have p4 : ∀ q, q < 8 → pF (takd w p h off) q 4 = if q = p then nI h else pF w q 4 := fun q hq => by
    rw [takd_p Z hp8 hh10 hq (by decide) hl, if_neg (by omega)]
    by_cases e : q = p
    · rw [if_pos ⟨e, rfl⟩, if_pos e]
    · rw [if_neg (fun z => e z.1), if_neg (by omega), if_neg e]
  have h2 : ∀ y, y < 10 → hF (takd w p h off) y 2 = if ¬ pF w p 4 = -1 ∧ y = pN w p 4 then -1 else if y = h then nI p else hF w y 2 := fun y hy => by
    rw [takd_h Z hp8 hh10 hy (by decide)]
    simp
  have po : ∀ q k, q < 8 → k < 18 → k ≠ 4 → k ≠ 8 → k ≠ 9 → pF (takd w p h off) q k = pF w q k := fun q k hq hk n4 n8 n9 => by
    rw [takd_p Z hp8 hh10 hq hk hl, if_neg (fun z => n8 z.2), if_neg (fun z => n4 z.2), if_neg (fun z => n9 z.1)]
  have n11 : ∀ q, q < 8 → pN (takd w p h off) q 11 = pN w q 11 := fun q hq => by unfold pN; rw [po q 11 hq (by decide) (by decide) (by decide) (by decide)]
  have n6 : ∀ q, q < 8 → pN w q 11 ≤ 6 := fun q hq => (Z.p11 hq).2
  have in8 : ∀ q, q < 8 → isIn_ (takd w p h off) q = if q = p then false else isIn_ w q := fun q hq => by
    unfold isIn_
    rw [takd_p Z hp8 hh10 hq (by decide) hl]
    by_cases e : q = p
    · rw [if_pos ⟨e, rfl⟩, if_pos e]; decide
    · rw [if_neg (fun z => e z.1), if_neg (by omega), if_neg (by omega), if_neg e]
  refine ⟨fun y hy => ?_, fun q hq => ?_, fun q i hq hi => ?_, fun q i j hq hi hj he => ?_, fun i hi => ?_, fun q hq => ?_⟩
  · rw [takd_nH Z hp8 hh10] at hy
    rw [h2 y (by omega), takd_nP Z hp8 hh10]
    by_cases e : ¬ pF w p 4 = -1 ∧ y = pN w p 4
    · rw [if_pos e]; exact Or.inl rfl
    · rw [if_neg e]
      by_cases e2 : y = h
      · rw [if_pos e2]
        exact Or.inr ⟨p, hp, rfl, by rw [p4 p hp8, if_pos rfl, e2]⟩
      · rw [if_neg e2]
        rcases c1 y hy with z | ⟨q, z1, z2, z3⟩
        · exact Or.inl z
        · refine Or.inr ⟨q, z1, z2, ?_⟩
          have hqp : q ≠ p := fun z => by
            subst z
            exact e ⟨by rw [z3]; exact nI_m1 (by omega), by unfold pN; rw [z3]; exact (nI_clamp (by omega)).symm⟩
          rw [p4 q (by omega), if_neg hqp]; exact z3
  · rw [takd_nP Z hp8 hh10] at hq
    rw [p4 q (by omega), takd_nH Z hp8 hh10]
    by_cases e : q = p
    · rw [if_pos e]
      refine Or.inr ⟨h, hh, rfl, ?_⟩
      rw [h2 h hh10, if_neg (fun z => by
        rcases was with z1 | ⟨x, z1, z2, z3, z4, z5⟩
        · exact z.1 z1
        · exact z2 (by rw [← z4]; exact z.2.symm)), if_pos rfl, e]
    · rw [if_neg e]
      rcases c2 q hq with z | ⟨y, z1, z2, z3⟩
      · exact Or.inl z
      · refine Or.inr ⟨y, z1, z2, ?_⟩
        rw [h2 y (by omega), if_neg (fun z => by
          rcases was with w1 | ⟨x, w1, w2, w3, w4, w5⟩
          · exact z.1 w1
          · have : y = x := z.2.trans w4
            subst this
            exact e ((nI_eq (by omega) (by omega)).mp (z3.symm.trans w5))), if_neg (fun z => by
          subst z
          rw [hf] at z3
          exact nI_m1' (by omega) z3)]
        exact z3
  · rw [takd_nP Z hp8 hh10] at hq
    rw [n11 q (by omega)] at hi
    have := n6 q (by omega)
    have h1 : pN (takd w p h off) q (12 + i) = pN w q (12 + i) := by unfold pN; rw [po q (12 + i) (by omega) (by omega) (by omega) (by omega) (by omega)]
    rw [h1, takd_nH Z hp8 hh10]
    exact c3 q i hq hi
  · rw [takd_nP Z hp8 hh10] at hq
    rw [n11 q (by omega)] at hi hj
    have := n6 q (by omega)
    rw [po q (12 + i) (by omega) (by omega) (by omega) (by omega) (by omega), po q (12 + j) (by omega) (by omega) (by omega) (by omega) (by omega)] at he
    exact c4 q i j hq hi hj he
  · rw [takd_nL Z hp8 hh10 hl] at hi
    rw [takd_nP Z hp8 hh10, takd_nH Z hp8 hh10]
    by_cases e : i = nL w
    · subst e
      have l0 : lN_ (takd w p h off) (nL w) 0 = p := by
        unfold lN_
        rw [show lF (takd w p h off) (nL w) 0 = lF (tk3 w p h off) (nL w) 0 from takd_o (by omega) Z hp8, tk3_l hp8 hh10 (by decide) b2, if_pos rfl]
        exact nI_clamp (by omega)
      have l1 : lN_ (takd w p h off) (nL w) 1 = h := by
        unfold lN_
        rw [show lF (takd w p h off) (nL w) 1 = lF (tk3 w p h off) (nL w) 1 from takd_o (by omega) Z hp8, tk3_l hp8 hh10 (by decide) b2, if_neg (by decide), if_pos rfl]
        exact nI_clamp (by omega)
      rw [l0, l1]
      exact ⟨hp, hh, by rw [in8 p hp8, if_pos rfl]⟩
    · have l0 : lN_ (takd w p h off) i 0 = lN_ w i 0 := by unfold lN_ lF; rw [takd_g Z hp8 hh10 (by omega) (by omega) (by omega)]
      have l1 : lN_ (takd w p h off) i 1 = lN_ w i 1 := by unfold lN_ lF; rw [takd_g Z hp8 hh10 (by omega) (by omega) (by omega)]
      obtain ⟨z1, z2, z3⟩ := c5 i (by omega)
      rw [l0, l1]
      refine ⟨z1, z2, ?_⟩
      rw [in8 _ (by omega)]
      split
      · rfl
      · exact z3
  · rw [takd_nP Z hp8 hh10] at hq
    have h1 : pN (takd w p h off) q 10 = pN w q 10 := by unfold pN; rw [po q 10 (by omega) (by decide) (by decide) (by decide) (by decide)]
    rw [h1, takd_nH Z hp8 hh10]
    exact c6 q hq
end PM8
