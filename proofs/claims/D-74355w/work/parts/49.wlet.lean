/-! THE COMPONENT's side: Register.lets, whole -/
section PWL
variable {h h1 : AH} {nx nx' : Nat} {M M' : Nat → Prop} {o r eL eO_ cL cO : Nat} {w W : Rw} {p x y a b dn k off : Nat} {zs : Nat → Nat} {n : Nat} {E : bE}
variable {F : Nat → Nat → Int32} {wk rf : Int32} {sc : Int32 × Int32 × Int32 × Int32} {nl : Nat} {la : Nat → Nat} {no : Nat} {oa : Nat → Nat}
theorem uF_at {a j a' j' : Nat} {v : Int32} : uF F a j v a' j' = if a' = a ∧ j' = j then v else F a' j' := by
  unfold uF
  by_cases e : a' = a
  · subst e
    rw [if_pos rfl]
    by_cases e2 : j' = j
    · subst e2; rw [upd_s, if_pos ⟨rfl, rfl⟩]
    · rw [upd_n e2, if_neg (fun z => e2 z.2)]
  · rw [if_neg e, if_neg (fun z => e z.1)]
theorem x_st (R : RegH h o r eL eO_ F wk rf sc nl la no oa cL cO) {a j : Nat} (ha : a < 15) (hj : j < al a) (v : Int32) : ∃ h' : AH, sI h (r + (a + 1)) (ak a) (nI j) v = some h' ∧ RegH h' o r eL eO_ (uF F a j v) wk rf sc nl la no oa cL cO ∧ ∀ q, q ≠ r + (a + 1) → h' q = h q :=
  ⟨_, R.st ha hj v, R.setA ha _, fun q hq => hu_n hq⟩
theorem x_frees (R : RegH h o r eL eO_ F wk rf sc nl la no oa cL cO) (hy : y < 10) (v : Int32) : ∃ h' : AH, f_X2_frees E h nx r (nI y) v = some ((), h', 0, 0) ∧ RegH h' o r eL eO_ (uF (uF F 8 y (wk + 1)) 9 y v) wk rf sc nl la no oa cL cO ∧ ∀ q, (q < r ∨ r + 16 ≤ q) → h' q = h q := by
  obtain ⟨h3, a1, a2, a3⟩ := x_st R (a := 8) (j := y) (by decide) hy (wk + 1)
  obtain ⟨h5, b1, b2, b3⟩ := x_st a2 (a := 9) (j := y) (by decide) hy v
  refine ⟨h5, ?_, b2, fun q hq => (b3 q (by omega)).trans (a3 q (by omega))⟩
  simp only [f_X2_frees, R.g8, R.g17, Option.bind_some]
  rw [show sI h (r + 9) 0 (nI y) (wk + 1) = some h3 from a1, Option.bind_some, a2.g9, Option.bind_some, show sI h3 (r + 10) 0 (nI y) v = some h5 from b1, Option.bind_some]
theorem x_203 (R : RegH h o r eL eO_ F wk rf sc nl la no oa cL cO) (hp : p < 8) : ∃ h' : AH, f_X2_lets_203 E r (nI p) (nI x) h nx = some ((), h', 0, 0) ∧ RegH h' o r eL eO_ (uF (uF F 1 p (nI x)) 13 p 1) wk rf sc nl la no oa cL cO ∧ ∀ q, (q < r ∨ r + 16 ≤ q) → h' q = h q := by
  obtain ⟨h3, a1, a2, a3⟩ := x_st R (a := 1) (j := p) (by decide) hp (nI x)
  obtain ⟨h5, b1, b2, b3⟩ := x_st a2 (a := 13) (j := p) (by decide) hp 1
  refine ⟨h5, ?_, b2, fun q hq => (b3 q (by omega)).trans (a3 q (by omega))⟩
  simp only [f_X2_lets_203, R.g1, Option.bind_some]
  rw [show sI h (r + 2) 0 (nI p) (nI x) = some h3 from a1, Option.bind_some, a2.g13, Option.bind_some, show sI h3 (r + 14) 3 (nI p) (vp_nar .boolean 1) = some h5 from b1, Option.bind_some]
/-- behind the new let -/
theorem x_letEnd (R : RegH h o r eL eO_ F wk rf sc (nL w + 1) la no oa cL cO) (Z : Rng w) (hp : p < 8) (n1 n2 : Nat) : ∃ (h' : AH) (F' : Nat → Nat → Int32), (if pF w p 4 < 0 then (f_X2_lets_203 E r (nI p) (nI x) h n1) else ((gA h r 1 15).bind fun v11 => gd (isO h v11 11) ((f_J2_size E h v11).bind fun v13 => gd (isO h r 1) ((f_X2_frees E h n1 r (pF w p 4) (v13 - 1)).bind fun v15 => aC v15.2.2.1 v15.2.2.2 (f_X2_lets_203 E r (nI p) (nI x) v15.2.1 (n1 + v15.2.2.1)))))) = some ((), h', 0, 0) ∧ RegH h' o r eL eO_ F' wk rf sc (nL w + 1) la no oa cL cO ∧ (∀ a j, F' a j = ltF F w p x wk a j) ∧ ∀ q, (q < r ∨ r + 16 ≤ q) → h' q = h q := by
  have RL := R.2.2.1
  by_cases e : pF w p 4 = -1
  · rw [if_pos (by rw [e]; decide)]
    obtain ⟨h3, a1, a2, a3⟩ := x_203 (E := E) (x := x) (nx := n1) R hp
    refine ⟨h3, _, a1, a2, fun a j => ?_, a3⟩
    rw [uF_at, uF_at]
    unfold ltF
    simp [e]
  · have h4 := Z.p4 hp
    have e4 : pF w p 4 = nI (pN w p 4) ∧ pN w p 4 < 10 := by
      rcases h4 with z | z
      · exact absurd z e
      · exact z
    obtain ⟨h3, a1, a2, a3⟩ := x_frees (E := E) (nx := n1) R e4.2 (nI (nL w))
    obtain ⟨h5, b1, b2, b3⟩ := x_203 (E := E) (x := x) (nx := n1 + 0) a2 hp
    rw [e4.1, if_neg (nI_pos (by omega))]
    simp only [R.g15, Option.bind_some, RL.o, gdT, RL.size, R.o1]
    rw [show nI (nL w + 1) - 1 = nI (nL w) by rw [← nI_1]; exact Int32.add_sub_cancel _ _, a1, Option.bind_some, aC00, b1]
    refine ⟨h5, _, rfl, b2, fun a j => ?_, fun q hq => (b3 q hq).trans (a3 q hq)⟩
    rw [uF_at, uF_at, uF_at, uF_at]
    unfold ltF
    simp only [e, not_false_eq_true, true_and]
    by_cases y1 : a = 13 ∧ j = p
    · rw [if_pos y1, if_pos y1]
    · rw [if_neg y1, if_neg y1]
      by_cases y2 : a = 1 ∧ j = p
      · rw [if_pos y2, if_pos y2]
      · rw [if_neg y2, if_neg y2]
        by_cases y3 : a = 9 ∧ j = pN w p 4
        · rw [if_pos y3, if_pos ⟨y3.2, y3.1⟩]
        · rw [if_neg y3, if_neg (show ¬ (j = pN w p 4 ∧ a = 9) from fun z => y3 ⟨z.2, z.1⟩)]
          by_cases y4 : a = 8 ∧ j = pN w p 4
          · rw [if_pos y4, if_pos ⟨y4.2, y4.1⟩]
          · rw [if_neg y4, if_neg (show ¬ (j = pN w p 4 ∧ a = 8) from fun z => y4 ⟨z.2, z.1⟩)]
end PWL
