/-! a home is taken: field by field -/
section TKF
variable {w : Rw} {p q h y k i x off : Nat}
theorem tk3_p (hp : p < 8) (hh : h < 10) (hq : q < 8) (hk : k < 18) (hl : nL w < 8) : pF (tk3 w p h off) q k = if q = p ∧ k = 8 then 1 else if q = p ∧ k = 4 then nI h else if k = 9 ∧ q < nP w ∧ cnd (tk1 w p h off) h (bnI w p) q = true then pF w q 9 + 1 else pF w q k := by
  have h0 : ∀ j, j < 18 → pF (tk1 w p h off) q j = pF w q j := fun j hj => tk1_o (by omega)
  by_cases h8 : q = p ∧ k = 8
  · rw [if_pos h8]
    obtain ⟨rfl, rfl⟩ := h8
    unfold tk3 tk2 pF
    rw [upd_n (by omega), upd_n (by omega), upd_n (by omega), upd_s]
  rw [if_neg h8]
  by_cases h4 : q = p ∧ k = 4
  · rw [if_pos h4]
    obtain ⟨rfl, rfl⟩ := h4
    unfold tk3 tk2 pF
    rw [upd_n (by omega), upd_n (by omega), upd_s]
  rw [if_neg h4]
  have h1 : pF (tk3 w p h off) q k = pF (psj (tk1 w p h off) h (bnI w p) (nP w)) q k := by
    unfold tk3 tk2 pF
    rw [upd_n (by omega), upd_n (by omega), upd_n (by omega), upd_n (by omega), upd_n (by omega)]
  rw [h1]
  by_cases h9 : k = 9
  · subst h9
    rw [psj_9, h0 9 (by decide)]
    by_cases hc : q < nP w ∧ cnd (tk1 w p h off) h (bnI w p) q = true
    · rw [if_pos hc, if_pos ⟨rfl, hc⟩]
    · rw [if_neg hc, if_neg (fun z => hc z.2)]
  · rw [psj_p hk h9, h0 k hk, if_neg (fun z => h9 z.1)]
theorem tk3_h (hp : p < 8) (hh : h < 10) (hy : y < 10) (hk : k < 8) : hF (tk3 w p h off) y k = if y = h ∧ k = 2 then nI p else if y = h ∧ k = 4 then hF w h 4 + 1 else hF w y k := by
  unfold tk3 tk2
  by_cases h4 : y = h ∧ k = 4
  · obtain ⟨rfl, rfl⟩ := h4
    rw [if_neg (by omega), if_pos ⟨rfl, rfl⟩]
    unfold hF; rw [upd_s]
  by_cases h2 : y = h ∧ k = 2
  · obtain ⟨rfl, rfl⟩ := h2
    rw [if_pos ⟨rfl, rfl⟩]
    unfold hF; rw [upd_n (by omega), upd_s]
  rw [if_neg h2, if_neg h4]
  unfold hF
  rw [upd_n (by omega), upd_n (by omega), upd_n (by omega), upd_n (by omega), upd_n (by omega), psj_o (by omega), tk1_o (by omega)]
theorem tk3_g (hp : p < 8) (hh : h < 10) (hi : 224 ≤ i) (h33 : i ≠ 233) (ho : i < 234 + 8 * nL w ∨ 234 + 8 * nL w + 8 ≤ i) (hP : nP w ≤ 8) : tk3 w p h off i = w i := by
  unfold tk3 tk2
  rw [upd_n (by omega), upd_n (by omega), upd_n (by omega), upd_n (by omega), upd_n h33, psj_o (by omega), tk1_o ho]
theorem tk3_33 (hp : p < 8) (hh : h < 10) : tk3 w p h off 233 = nI (nL w + 1) := by
  unfold tk3 tk2
  rw [upd_n (by omega), upd_n (by omega), upd_n (by omega), upd_n (by omega), upd_s]
theorem tk3_l (hp : p < 8) (hh : h < 10) (hk : k < 8) (hP : nP w ≤ 8) : lF (tk3 w p h off) (nL w) k = if k = 0 then nI p else if k = 1 then nI h else if k = 2 then w 232 else if k = 3 then hF w h 5 + 1 else if k = 4 then bI (lcl w h) else if k = 5 then bI (qta w) + (if pF w p 4 = -1 then 0 else nI 2) else if k = 6 then nI off else bnI w p := by
  have h1 : lF (tk3 w p h off) (nL w) k = lF (tk1 w p h off) (nL w) k := by
    unfold tk3 tk2 lF
    rw [upd_n (by omega), upd_n (by omega), upd_n (by omega), upd_n (by omega), upd_n (by omega), psj_o (by omega)]
  rw [h1]
  unfold tk1 lF
  rcases (by omega : k = 0 ∨ k = 1 ∨ k = 2 ∨ k = 3 ∨ k = 4 ∨ k = 5 ∨ k = 6 ∨ k = 7) with rfl | rfl | rfl | rfl | rfl | rfl | rfl | rfl
  · rw [upd_n (by omega), upd_n (by omega), upd_n (by omega), upd_n (by omega), upd_n (by omega), upd_n (by omega), upd_n (by omega)]; exact upd_s
  · rw [upd_n (by omega), upd_n (by omega), upd_n (by omega), upd_n (by omega), upd_n (by omega), upd_n (by omega), upd_s]; rfl
  · rw [upd_n (by omega), upd_n (by omega), upd_n (by omega), upd_n (by omega), upd_n (by omega), upd_s]; rfl
  · rw [upd_n (by omega), upd_n (by omega), upd_n (by omega), upd_n (by omega), upd_s]; rfl
  · rw [upd_n (by omega), upd_n (by omega), upd_n (by omega), upd_s]; rfl
  · rw [upd_n (by omega), upd_n (by omega), upd_s]; rfl
  · rw [upd_n (by omega), upd_s]; rfl
  · rw [upd_s]; rfl
theorem lvsd_o {c : Int32} (hi : i ≠ 8 * h + 2 ∧ i ≠ 8 * h + 3 ∧ i ≠ 8 * h + 5) : lvsd w h c i = w i := by
  unfold lvsd; rw [upd_n hi.2.2, upd_n hi.2.1, upd_n hi.1]
theorem lvsd_h {c : Int32} (hy : y < 10) (hk : k < 8) : hF (lvsd w h c) y k = if y = h ∧ k = 2 then -1 else if y = h ∧ k = 3 then 1 else if y = h ∧ k = 5 then c else hF w y k := by
  unfold lvsd hF
  by_cases h5 : y = h ∧ k = 5
  · obtain ⟨rfl, rfl⟩ := h5
    rw [upd_s, if_neg (by omega), if_neg (by omega), if_pos ⟨rfl, rfl⟩]
  by_cases h3 : y = h ∧ k = 3
  · obtain ⟨rfl, rfl⟩ := h3
    rw [upd_n (by omega), upd_s, if_neg (by omega), if_pos ⟨rfl, rfl⟩]
  by_cases h2 : y = h ∧ k = 2
  · obtain ⟨rfl, rfl⟩ := h2
    rw [upd_n (by omega), upd_n (by omega), upd_s, if_pos ⟨rfl, rfl⟩]
  rw [if_neg h2, if_neg h3, if_neg h5, upd_n (by omega), upd_n (by omega), upd_n (by omega)]
/-- fields of houses, lets and the rest are tk3's -/
theorem takd_o (hi : 80 ≤ i) (Z : Rng w) (hp : p < 8) : takd w p h off i = tk3 w p h off i := by
  unfold takd
  rcases Z.p4 hp with e | e
  · rw [if_pos e]
  · split
    · rfl
    · exact lvsd_o (by omega)
theorem takd_p (Z : Rng w) (hp : p < 8) (hh : h < 10) (hq : q < 8) (hk : k < 18) (hl : nL w < 8) : pF (takd w p h off) q k = if q = p ∧ k = 8 then 1 else if q = p ∧ k = 4 then nI h else if k = 9 ∧ q < nP w ∧ cnd (tk1 w p h off) h (bnI w p) q = true then pF w q 9 + 1 else pF w q k := by
  rw [← tk3_p hp hh hq hk hl]
  exact takd_o (by omega) Z hp
theorem takd_h (Z : Rng w) (hp : p < 8) (hh : h < 10) (hy : y < 10) (hk : k < 8) : hF (takd w p h off) y k = if ¬ pF w p 4 = -1 ∧ y = pN w p 4 ∧ k = 2 then -1 else if ¬ pF w p 4 = -1 ∧ y = pN w p 4 ∧ k = 3 then 1 else if ¬ pF w p 4 = -1 ∧ y = pN w p 4 ∧ k = 5 then hF w h 5 + 1 else if y = h ∧ k = 2 then nI p else if y = h ∧ k = 4 then hF w h 4 + 1 else hF w y k := by
  unfold takd
  by_cases e : pF w p 4 = -1
  · rw [if_pos e, tk3_h hp hh hy hk]
    simp [e]
  · rw [if_neg e, lvsd_h hy hk, tk3_h hp hh hy hk]
    simp only [e, not_false_eq_true, true_and]
theorem takd_nL (Z : Rng w) (hp : p < 8) (hh : h < 10) (hl : nL w < 8) : nL (takd w p h off) = nL w + 1 := by
  unfold nL wN
  rw [takd_o (by decide) Z hp, tk3_33 hp hh]
  exact nI_clamp (by have := Z.gL.2; unfold nL wN at this ⊢; omega)
theorem takd_nP (Z : Rng w) (hp : p < 8) (hh : h < 10) : nP (takd w p h off) = nP w := by
  unfold nP wN
  rw [takd_o (by decide) Z hp, tk3_g hp hh (by decide) (by decide) (by omega) Z.gP.2]
theorem takd_nH (Z : Rng w) (hp : p < 8) (hh : h < 10) : nH (takd w p h off) = nH w := by
  unfold nH wN
  rw [takd_o (by decide) Z hp, tk3_g hp hh (by decide) (by decide) (by omega) Z.gP.2]
theorem takd_g (Z : Rng w) (hp : p < 8) (hh : h < 10) (hi : 224 ≤ i) (h33 : i ≠ 233) (ho : i < 234 + 8 * nL w ∨ 234 + 8 * nL w + 8 ≤ i) : takd w p h off i = w i := by
  rw [takd_o (by omega) Z hp, tk3_g hp hh hi h33 ho Z.gP.2]
theorem takd_nO (Z : Rng w) (hp : p < 8) (hh : h < 10) (hl : nL w < 8) : nO (takd w p h off) = nO w := by
  unfold nO wN
  rw [takd_g Z hp hh (by decide) (by decide) (by omega)]
theorem Cn_takd (Z : Rng w) (N : Cn w) (hp : p < nP w) (hh : h < 10) (hi : isIn_ w p = true) : Cn (takd w p h off) := by
  have e8 := Z.gP.2
  have hl := N.lt Z hp hi
  have hp8 : p < 8 := by omega
  unfold Cn
  rw [takd_nL Z hp8 hh hl, takd_nP Z hp8 hh]
  have hs : ∀ q, q < 8 → isIn_ (takd w p h off) q = if q = p then false else isIn_ w q := by
    intro q hq
    unfold isIn_
    rw [takd_p Z hp8 hh hq (by decide) hl]
    by_cases e : q = p
    · rw [if_pos ⟨e, rfl⟩, if_pos e]; decide
    · rw [if_neg (fun z => e z.1), if_neg (by omega), if_neg (by omega), if_neg e]
  have := cnN_up (B := fun q => !isIn_ w q) (C := fun q => !isIn_ (takd w p h off) q) (q := p) (nP w) hp (by show (!isIn_ w p) = false; rw [hi]; rfl) (by show (!isIn_ (takd w p h off) p) = true; rw [hs p hp8, if_pos rfl]; rfl) (fun j hj hne => by show (!isIn_ w j) = (!isIn_ (takd w p h off) j); rw [hs j (by omega), if_neg hne])
  unfold Cn at N
  omega
end TKF
