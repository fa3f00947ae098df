/-! a home is let: the register's rows are those of the reference's row -/
section PUL
variable {F1 F' : Nat → Nat → Int32} {wk rf : Int32} {w : Rw} {p x off : Nat}
def ltF (F1 : Nat → Nat → Int32) (w : Rw) (p x : Nat) (wk : Int32) (a j : Nat) : Int32 := if a = 13 ∧ j = p then 1 else if a = 1 ∧ j = p then nI x else if ¬ pF w p 4 = -1 ∧ j = pN w p 4 ∧ a = 9 then nI (nL w) else if ¬ pF w p 4 = -1 ∧ j = pN w p 4 ∧ a = 8 then wk + 1 else F1 a j
theorem cnd_ag {w' : Rw} (A : Agr w w') {band : Int32} {q : Nat} (hq : q < 8) : cnd w' x band q = cnd w x band q := by
  unfold cnd
  rw [ag_ib A hq, ag_mh A hq, ag_bn A hq]
theorem RelF_takd (Z : Rng w) (hl : nL w < 8) (hp : p < nP w) (hx : x < 10) (Q : RelF F1 wk rf (psj w x (bnI w p) (nP w))) (hFq : ∀ a j, F' a j = ltF F1 w p x wk a j) : RelF F' wk rf (takd w p x off) := by
  have b1 := Z.gH.2
  have b2 := Z.gP.2
  have hp8 : p < 8 := by omega
  obtain ⟨q1, q2, q3, q4, q5, q6, q7⟩ := Q
  have ePs : nP (psj w x (bnI w p) (nP w)) = nP w := congrArg Int32.toNatClampNeg (psj_g (i := 231) (by decide) b2)
  have eHs : nH (psj w x (bnI w p) (nP w)) = nH w := congrArg Int32.toNatClampNeg (psj_g (i := 230) (by decide) b2)
  have eLs : nL (psj w x (bnI w p) (nP w)) = nL w := congrArg Int32.toNatClampNeg (psj_g (i := 233) (by decide) b2)
  have eP := takd_nP (off := off) Z hp8 hx
  have eH := takd_nH (off := off) Z hp8 hx
  have eL := takd_nL (off := off) Z hp8 hx hl
  rw [ePs] at q2 q3
  rw [eHs] at q4 q5
  have tp : ∀ q k, q < 8 → k < 18 → k ≠ 4 → k ≠ 8 → k ≠ 9 → pF (takd w p x off) q k = pF w q k := fun q k hq hk n4 n8 n9 => by
    rw [takd_p Z hp8 hx hq hk hl, if_neg (fun z => n8 z.2), if_neg (fun z => n4 z.2), if_neg (fun z => n9 z.1)]
  have sp : ∀ q k, k < 18 → k ≠ 9 → pF (psj w x (bnI w p) (nP w)) q k = pF w q k := fun q k hk n9 => psj_p hk n9
  have sh : ∀ y k, y < 10 → k < 8 → hF (psj w x (bnI w p) (nP w)) y k = hF w y k := fun y k hy hk => by unfold hF; exact psj_o (by omega)
  refine ⟨fun j hj => ?_, fun q hq => ?_, fun q i hq hi => ?_, fun y hy => ?_, fun y hy => ?_, ?_, ?_⟩
  · rw [hFq]
    unfold ltF
    rw [if_neg (by omega), if_neg (by omega), if_neg (by omega), if_neg (by omega), q1 j hj, psj_g (by omega) b2]
    exact (takd_g Z hp8 hx (by omega) (by omega) (by omega)).symm
  · rw [eP] at hq
    obtain ⟨z1, z2, z3, z4, z5, z6, z7, z8, z9⟩ := q2 q hq
    have hq8 : q < 8 := by omega
    have F1' : F' 1 q = if q = p then nI x else F1 1 q := by
      rw [hFq]; unfold ltF
      rw [if_neg (by omega)]
      by_cases e : q = p
      · rw [if_pos ⟨rfl, e⟩, if_pos e]
      · rw [if_neg (fun z => e z.2), if_neg (by omega), if_neg (by omega), if_neg e]
    have F13' : F' 13 q = if q = p then 1 else F1 13 q := by
      rw [hFq]; unfold ltF
      by_cases e : q = p
      · rw [if_pos ⟨rfl, e⟩, if_pos e]
      · rw [if_neg (fun z => e z.2), if_neg (by omega), if_neg (by omega), if_neg (by omega), if_neg e]
    have Fo : ∀ a, a ≠ 1 → a ≠ 13 → a ≠ 8 → a ≠ 9 → F' a q = F1 a q := fun a n1 n13 n8 n9 => by
      rw [hFq]; unfold ltF
      rw [if_neg (fun z => n13 z.1), if_neg (fun z => n1 z.1), if_neg (fun z => n9 z.2.2), if_neg (fun z => n8 z.2.2)]
    refine ⟨?_, ?_, ?_, ?_, ?_, ?_, ?_, ?_, ?_⟩
    · rw [F1', takd_p Z hp8 hx hq8 (by decide) hl, z1, sp q 4 (by decide) (by decide)]
      by_cases e : q = p <;> simp [e]
    · rw [Fo 2 (by decide) (by decide) (by decide) (by decide), z2, sp q 5 (by decide) (by decide), tp q 5 hq8 (by decide) (by decide) (by decide) (by decide)]
    · rw [Fo 3 (by decide) (by decide) (by decide) (by decide), z3, sp q 6 (by decide) (by decide), tp q 6 hq8 (by decide) (by decide) (by decide) (by decide)]
    · rw [Fo 4 (by decide) (by decide) (by decide) (by decide), z4, psj_9, takd_p Z hp8 hx hq8 (by decide) hl, cnd_ag tk1_a hq8]
      simp
    · rw [Fo 5 (by decide) (by decide) (by decide) (by decide), z5, sp q 10 (by decide) (by decide), tp q 10 hq8 (by decide) (by decide) (by decide) (by decide)]
    · rw [Fo 6 (by decide) (by decide) (by decide) (by decide), z6, sp q 11 (by decide) (by decide), tp q 11 hq8 (by decide) (by decide) (by decide) (by decide)]
    · rw [Fo 10 (by decide) (by decide) (by decide) (by decide), z7, sp q 1 (by decide) (by decide), tp q 1 hq8 (by decide) (by decide) (by decide) (by decide)]
    · rw [F13', takd_p Z hp8 hx hq8 (by decide) hl, z8, sp q 8 (by decide) (by decide)]
      by_cases e : q = p <;> simp [e]
    · rw [Fo 14 (by decide) (by decide) (by decide) (by decide), z9, sp q 7 (by decide) (by decide), tp q 7 hq8 (by decide) (by decide) (by decide) (by decide)]
  · rw [eP] at hq
    have e11 : pN (takd w p x off) q 11 = pN w q 11 := by unfold pN; rw [tp q 11 (by omega) (by decide) (by decide) (by decide) (by decide)]
    have e11s : pN (psj w x (bnI w p) (nP w)) q 11 = pN w q 11 := by unfold pN; rw [sp q 11 (by decide) (by decide)]
    rw [e11] at hi
    have := (Z.p11 (p := q) (by omega)).2
    have h3 := q3 q i hq (by rw [e11s]; exact hi)
    rw [hFq]
    unfold ltF
    rw [if_neg (by omega), if_neg (by omega), if_neg (by omega), if_neg (by omega), h3, sp q (12 + i) (by omega) (by omega), tp q (12 + i) (by omega) (by omega) (by omega) (by omega) (by omega)]
  · rw [eH] at hy
    have hy10 : y < 10 := by omega
    obtain ⟨z1, z2, z3, z4⟩ := q4 y hy
    rw [sh y 7 hy10 (by decide)] at z1
    rw [sh y 6 hy10 (by decide)] at z2
    rw [sh y 3 hy10 (by decide)] at z3 z4
    have Fo : ∀ a, a ≠ 1 → a ≠ 13 → a ≠ 8 → a ≠ 9 → F' a y = F1 a y := fun a n1 n13 n8 n9 => by
      rw [hFq]; unfold ltF
      rw [if_neg (fun z => n13 z.1), if_neg (fun z => n1 z.1), if_neg (fun z => n9 z.2.2), if_neg (fun z => n8 z.2.2)]
    have F8 : F' 8 y = if ¬ pF w p 4 = -1 ∧ y = pN w p 4 then wk + 1 else F1 8 y := by
      rw [hFq]; unfold ltF
      rw [if_neg (by omega), if_neg (by omega), if_neg (by omega)]
      by_cases e : ¬ pF w p 4 = -1 ∧ y = pN w p 4
      · rw [if_pos ⟨e.1, e.2, rfl⟩, if_pos e]
      · rw [if_neg (fun z => e ⟨z.1, z.2.1⟩), if_neg e]
    have t3 : hF (takd w p x off) y 3 = if ¬ pF w p 4 = -1 ∧ y = pN w p 4 then 1 else hF w y 3 := by
      rw [takd_h Z hp8 hx hy10 (by decide)]
      simp
    refine ⟨?_, ?_, ?_, ?_⟩
    · rw [Fo 11 (by decide) (by decide) (by decide) (by decide), z1, takd_h Z hp8 hx hy10 (by decide)]; simp
    · rw [Fo 12 (by decide) (by decide) (by decide) (by decide), z2, takd_h Z hp8 hx hy10 (by decide)]; simp
    · rw [t3, F8]
      by_cases e : ¬ pF w p 4 = -1 ∧ y = pN w p 4
      · rw [if_pos e]; intro z; exact absurd z (by decide)
      · rw [if_neg e, if_neg e]; exact z3
    · rw [t3, F8]
      by_cases e : ¬ pF w p 4 = -1 ∧ y = pN w p 4
      · rw [if_pos e, if_pos e]; intro _; rfl
      · rw [if_neg e, if_neg e]; exact z4
  · rw [eH] at hy
    have hy10 : y < 10 := by omega
    have h5 := q5 y hy
    rw [sh y 5 hy10 (by decide), eLs] at h5
    have F9 : F' 9 y = if ¬ pF w p 4 = -1 ∧ y = pN w p 4 then nI (nL w) else F1 9 y := by
      rw [hFq]; unfold ltF
      rw [if_neg (by omega), if_neg (by omega)]
      by_cases e : ¬ pF w p 4 = -1 ∧ y = pN w p 4
      · rw [if_pos ⟨e.1, e.2, rfl⟩, if_pos e]
      · rw [if_neg (fun z => e ⟨z.1, z.2.1⟩), if_neg (by omega), if_neg e]
    have t5 : hF (takd w p x off) y 5 = if ¬ pF w p 4 = -1 ∧ y = pN w p 4 then hF w x 5 + 1 else hF w y 5 := by
      rw [takd_h Z hp8 hx hy10 (by decide)]
      simp
    rw [F9, t5, eL]
    by_cases e : ¬ pF w p 4 = -1 ∧ y = pN w p 4
    · rw [if_pos e, if_pos e]
      refine Or.inr ⟨nL w, by omega, rfl, ?_⟩
      rw [show lF (takd w p x off) (nL w) 3 = lF (tk3 w p x off) (nL w) 3 from takd_o (by omega) Z hp8, tk3_l hp8 hx (by decide) b2]
      rfl
    · rw [if_neg e, if_neg e]
      rcases h5 with z | ⟨i, z1, z2, z3⟩
      · exact Or.inl z
      · refine Or.inr ⟨i, by omega, z2, ?_⟩
        rw [z3]
        have l1 : lF (takd w p x off) i 3 = lF w i 3 := by unfold lF; exact takd_g Z hp8 hx (by omega) (by omega) (by omega)
        rw [l1]
        unfold lF
        exact psj_g (by omega) b2
  · rw [q6, psj_g (by decide) b2]; exact (takd_g Z hp8 hx (by decide) (by decide) (by omega)).symm
  · rw [q7, psj_g (by decide) b2]; exact (takd_g Z hp8 hx (by decide) (by decide) (by omega)).symm
end PUL
