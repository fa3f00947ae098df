/-! why one may not bid -/
section PWY
variable {w : Rw} {p x i k a b : Nat} {zs : Nat → Nat} {n nx : Nat}
variable {h : AH} {o r eL eO_ : Nat} {F : Nat → Nat → Int32} {wk rf : Int32} {sc : Int32 × Int32 × Int32 × Int32} {nl : Nat} {la : Nat → Nat} {no : Nat} {oa : Nat → Nat} {cL cO : Nat} {aH eH aP eP rN rA : Nat} {hm hs nh np tl : Nat → Nat}
theorem why_step (R : RegH h o r eL eO_ F wk rf sc nl la no oa cL cO) {v : Int32} (hi : i < 6) (he : (dE zs n).2.1 h nx (r + 21 + i) (nI x) = some (v, h, 0, 0)) (m : Nat) : f_X2_whyNot_7 (m + 1) (dE zs n) r (nI x) (nI i) h nx = if v = 0 then f_X2_whyNot_7 m (dE zs n) r (nI x) (nI (i + 1)) h nx else some (nI (i + 1), h, 0, 0) := by
  have h20 : h (r + 20) = some (rK r 20) := R.kk 20 (by decide) (by decide)
  have hl : aL h (r + 20) = some (nI 6) := by simp [aL, h20, rK]; rfl
  have ha : aR h (r + 20) 5 (nI i) = some (r + 21 + i) := by
    simp only [aR, arR, h20, rK, if_true, Option.bind_some]
    rw [gdn ⟨hi, by decide⟩, nI_clamp (by omega), if_pos hi]
  simp only [f_X2_whyNot_7, R.g24, Option.bind_some, hl, ha, he, aC00]
  rw [if_neg (nI_ge hi (by decide)), nI_1]
  rfl
theorem why_end (R : RegH h o r eL eO_ F wk rf sc nl la no oa cL cO) (m : Nat) : f_X2_whyNot_7 (m + 1) (dE zs n) r (nI x) (nI 6) h nx = some (0, h, 0, 0) := by
  have h20 : h (r + 20) = some (rK r 20) := R.kk 20 (by decide) (by decide)
  have hl : aL h (r + 20) = some (nI 6) := by simp [aL, h20, rK]; rfl
  simp only [f_X2_whyNot_7, R.g24, Option.bind_some, hl]
  rw [if_pos (nI_leR _)]
theorem b01 {v : Int32} (hv : inI v 0 1) : v = bI (!decide (v = 0)) ∧ isB v = true := by
  obtain ⟨h1, h2⟩ := inI_n (b := 1) hv (by decide)
  rw [h1]
  have : ∀ n, n ≤ 1 → nI n = bI (!decide (nI n = 0)) ∧ isB (nI n) = true := by decide
  exact this _ h2
theorem c_why0 (R : RegH h o r eL eO_ F wk rf sc nl la no oa cL cO) (Q : RelF F wk rf w) (O : ObjO h o aH aP rN rA) (T : Told h aH eH aP eP hm hs nh np tl w) (Z : Rng w) (C : Con w) (hp : p < nP w) (hx : x < nH w) (hsc : sc.2.2.2 = nI p) : f_X2_whyNot_7 FU (dE zs (n + 1)) r (nI x) 0 h nx = some (nI (whN w p x), h, 0, 0) := by
  have e8 := Z.gP.2
  obtain ⟨q1, q2, q3, q4, q5, q6, q7, q8, q9⟩ := Q.2.1 p hp
  have s0 : (dE zs (n + 1)).2.1 h nx (r + 21 + 0) (nI x) = some (bI (!isIn_ w p), h, 0, 0) := by
    rw [show r + 21 + 0 = r + 21 from rfl, E_is (R.kk 21 (by decide) (by decide))]
    show lL0 (dE zs n) h nx [.ref r] (nI x) = _
    obtain ⟨b1, b2⟩ := b01 (Z.2.1 p 8 (by omega) (by decide))
    simp only [lL0, R.o1, gdT, f_X2_lambda_new_0, R.g13, R.g25, Option.bind_some, hsc]
    rw [R.a13 (by omega), Option.bind_some, q8, b2, gdT]
    simp only [Option.bind_some, isIn_]
    rw [← b1]
  have s1 : (dE zs (n + 1)).2.1 h nx (r + 21 + 1) (nI x) = some (bI (!decide (pF w p 6 ≤ 0)), h, 0, 0) := by
    rw [show r + 21 + 1 = r + 22 from rfl, E_is (R.kk 22 (by decide) (by decide))]
    show lL1 (dE zs n) h nx [.ref r] (nI x) = _
    simp only [lL1, R.o1, gdT, f_X2_lambda_new_1, R.g3, R.g25, Option.bind_some, hsc]
    rw [R.a3 (by omega), Option.bind_some, q3, bI_ite']
    rfl
  have s2 : (dE zs (n + 1)).2.1 h nx (r + 21 + 2) (nI x) = some (bI (!isFr w x), h, 0, 0) := by
    rw [show r + 21 + 2 = r + 23 from rfl, E_is (R.kk 23 (by decide) (by decide))]
    show lL2 (dE zs n) h nx [.ref r] (nI x) = _
    simp only [lL2, R.o1, gdT, f_X2_lambda_new_2, c_isFree R Q O T Z C hx, Option.bind_some, bI_0]
    cases isFr w x <;> rfl
  have s3 : (dE zs (n + 1)).2.1 h nx (r + 21 + 3) (nI x) = some (bI (!dFit w p x), h, 0, 0) := by
    rw [show r + 21 + 3 = r + 24 from rfl, E_is (R.kk 24 (by decide) (by decide))]
    show lL3 (dE zs n) h nx [.ref r] (nI x) = _
    simp only [lL3, R.o1, gdT, f_X2_lambda_new_3, R.g25, hsc, Option.bind_some, c_isFitting R Q O T Z hp hx, bI_0]
    cases dFit w p x <;> rfl
  have s4 : (dE zs (n + 1)).2.1 h nx (r + 21 + 4) (nI x) = some (bI (iBd w p x), h, 0, 0) := by
    rw [show r + 21 + 4 = r + 25 from rfl, E_is (R.kk 25 (by decide) (by decide))]
    show lL4 (dE zs n) h nx [.ref r] (nI x) = _
    simp only [lL4, R.o1, gdT, f_X2_lambda_new_4, R.g25, hsc, Option.bind_some, c_bidsFor R Q Z hp]
  have s5 : (dE zs (n + 1)).2.1 h nx (r + 21 + 5) (nI x) = some (bI (!decide (nI (pc (pN w p 10)) < w 229)), h, 0, 0) := by
    rw [show r + 21 + 5 = r + 26 from rfl, E_is (R.kk 26 (by decide) (by decide))]
    show lL5 (dE zs n) h nx [.ref r] (nI x) = _
    simp only [lL5, R.o1, gdT, f_X2_lambda_new_5, R.g25, R.g0, hsc, Option.bind_some, c_bidMany R Q Z hp]
    rw [R.a0 (by decide), Option.bind_some, Q.1 5 (by decide), bI_ite']
    rfl
  show f_X2_whyNot_7 (9993 + 7) (dE zs (n + 1)) r (nI x) (nI 0) h nx = _
  rw [why_step R (by decide) s0, why_step R (by decide) s1, why_step R (by decide) s2, why_step R (by decide) s3, why_step R (by decide) s4, why_step R (by decide) s5, why_end R]
  simp only [bI_0, whN]
  have hle : (decide (pF w p 6 ≤ 0) = true) ↔ ¬ 0 < pF w p 6 := by rw [decide_eq_true_iff]; exact Int32.not_lt.symm
  cases isIn_ w p
  · rfl
  · by_cases h2 : 0 < pF w p 6
    · simp [h2, Int32.not_le.mpr h2]
    · simp only [Int32.not_lt.mp h2]
      cases isFr w x <;> cases dFit w p x <;> cases iBd w p x <;> by_cases h6 : nI (pc (pN w p 10)) < w 229 <;> simp [h2, h6] <;> rfl
end PWY
