/-! THE COMPONENT's side: readers of a register -/
def RelF (F : Nat → Nat → Int32) (wk rf : Int32) (w : Rw) : Prop :=
  (∀ k, k < 6 → F 0 k = w (224 + k)) ∧
  (∀ p, p < nP w → F 1 p = pF w p 4 ∧ F 2 p = pF w p 5 ∧ F 3 p = pF w p 6 ∧ F 4 p = pF w p 9 ∧ F 5 p = pF w p 10 ∧ F 6 p = pF w p 11 ∧ F 10 p = pF w p 1 ∧ F 13 p = pF w p 8 ∧ F 14 p = pF w p 7) ∧
  (∀ p i, p < nP w → i < pN w p 11 → F 7 (6 * p + i) = pF w p (12 + i)) ∧
  (∀ h, h < nH w → F 11 h = hF w h 7 ∧ F 12 h = hF w h 6 ∧ (hF w h 3 = 0 → F 8 h ≤ wk) ∧ (¬ hF w h 3 = 0 → F 8 h = wk + 1)) ∧
  (∀ h, h < nH w → (F 9 h = -1 ∧ hF w h 5 = 0) ∨ ∃ i, i < nL w ∧ F 9 h = nI i ∧ hF w h 5 = lF w i 3) ∧
  wk = w 232 ∧ rf = w 298
section PC1
variable {w : Rw} {p x i k : Nat} {E : bE}
theorem who_eq (Z : Rng w) (C : Con w) (hx : x < nH w) : eO (fdN (fun k => decide (pF w k 4 = nI x)) 0 (nP w)) = hF w x 2 := by
  have e1 := Z.gH.2
  have e2 := Z.gP.2
  cases hf : fdN (fun k => decide (pF w k 4 = nI x)) 0 (nP w) with
  | none =>
    have hn := fdN_none.mp hf
    rcases C.1 x hx with h | ⟨p, hp, h1, h2⟩
    · exact h.symm
    · exfalso
      have := hn p (by omega) (by omega)
      rw [decide_eq_false_iff_not] at this
      exact this h2
  | some j =>
    obtain ⟨h1, h2, h3, h4⟩ := fdN_some hf
    have h3 := of_decide_eq_true h3
    rcases C.2.1 j (by omega) with h | ⟨h, hh, g1, g2⟩
    · exact absurd (h3.symm.trans h) (nI_m1 (by omega))
    · have : x = h := (nI_eq (by omega) (by omega)).mp (h3.symm.trans g1)
      subst this
      exact g2.symm
variable {h : AH} {o r eL eO_ : Nat} {F : Nat → Nat → Int32} {wk rf : Int32} {sc : Int32 × Int32 × Int32 × Int32} {nl : Nat} {la : Nat → Nat} {no : Nat} {oa : Nat → Nat} {cL cO : Nat} {aH eH aP eP rN rA : Nat} {hm hs nh np tl : Nat → Nat}
theorem c_whoIn (R : RegH h o r eL eO_ F wk rf sc nl la no oa cL cO) (Q : RelF F wk rf w) (O : ObjO h o aH aP rN rA) (T : Told h aH eH aP eP hm hs nh np tl w) (Z : Rng w) (C : Con w) (hx : x < nH w) : f_X2_whoIn E h r (nI x) = some (hF w x 2) := by
  have e2 := Z.gP.2
  rw [← who_eq Z C hx]
  refine (lp_fd (fun n i => f_X2_whoIn_2 n E h r (nI x) (nI i)) (fun i => some (nI i)) (some (-1)) (fun k => decide (pF w k 4 = nI x)) (nP w) ?_ ?_ FU 0 (Nat.zero_le _) (FU_lt (by omega))).trans (eO_find _)
  · intro n
    simp only [f_X2_whoIn_2, R.g26, Option.bind_some, O.g1, T.2.1.o, gdT, T.2.1.size]
    rw [if_pos (nI_leR _)]
  · intro n i hi
    simp only [f_X2_whoIn_2, R.g26, Option.bind_some, O.g1, T.2.1.o, gdT, T.2.1.size, R.g1]
    rw [if_neg (nI_ge hi (by omega)), R.a1 (by omega), Option.bind_some, (Q.2.1 i hi).1, nI_1]
    by_cases hb : pF w i 4 = nI x
    · rw [if_pos hb, if_pos (decide_eq_true hb)]
    · rw [if_neg hb, if_neg (by simpa using hb)]
theorem c_isFree (R : RegH h o r eL eO_ F wk rf sc nl la no oa cL cO) (Q : RelF F wk rf w) (O : ObjO h o aH aP rN rA) (T : Told h aH eH aP eP hm hs nh np tl w) (Z : Rng w) (C : Con w) (hx : x < nH w) : f_X2_isFree E h r (nI x) = some (bI (isFr w x)) := by
  have e1 := Z.gH.2
  have e2 := Z.gP.2
  obtain ⟨q1, q2, q3, q4⟩ := Q.2.2.2.1 x hx
  simp only [f_X2_isFree, R.o1, gdT, c_whoIn R Q O T Z C hx, Option.bind_some, R.g8, R.g17, R.g12]
  rw [R.a8 (by omega), R.a12 (by omega), Option.bind_some, Option.bind_some, q2]
  unfold isFr
  rcases C.1 x hx with h2 | ⟨p, hp, h2, -⟩
  · rw [h2, if_neg (by decide)]
    by_cases h3 : hF w x 3 = 0
    · rw [if_neg (Int32.not_lt.mpr (q3 h3)), bI_ite]
      simp [h3]
    · rw [q4 h3]
      obtain ⟨g1, g2⟩ := Z.gW
      have : wk = nI (wN w 232) := Q.2.2.2.2.2.1.trans g1
      rw [this, nI_1, if_pos (nI_lt (by omega) (by omega))]
      simp [h3, bI]
  · rw [h2, if_pos (nI_pos' (by omega)), decide_eq_false (nI_m1 (by omega))]
    rfl
theorem c_isWaiting (R : RegH h o r eL eO_ F wk rf sc nl la no oa cL cO) (Q : RelF F wk rf w) (Z : Rng w) (hp : p < nP w) : f_X2_isWaiting E h r (nI p) = some (bI (mayH w p)) := by
  have e2 := Z.gP.2
  obtain ⟨q1, q2, q3, q4, q5, q6, q7, q8, q9⟩ := Q.2.1 p hp
  simp only [f_X2_isWaiting, R.g13, R.g3, Option.bind_some]
  rw [R.a13 (by omega), R.a3 (by omega), Option.bind_some, Option.bind_some, q8, q3]
  unfold mayH isIn_
  by_cases h1 : pF w p 8 = 0 <;> by_cases h2 : pF w p 6 = 0 <;> simp [h1, h2, bI]
theorem lg_isIn (a b c : Int32) : f_X1_isIn a.toInt64 b.toInt64 c.toInt64 = some (bI (!decide (a < b) && !decide (c < a))) := by
  have key : ∀ u v : Int32, (lg_cmp u.toInt64 v.toInt64 < 0 ↔ u < v) ∧ (0 < lg_cmp u.toInt64 v.toInt64 ↔ v < u) := by
    intro u v
    have e1 : (u.toInt64 < v.toInt64) ↔ u < v := by rw [Int64.lt_iff_toInt_lt, Int32.lt_iff_toInt_lt, Int32.toInt_toInt64, Int32.toInt_toInt64]
    have e2 : (v.toInt64 < u.toInt64) ↔ v < u := by rw [Int64.lt_iff_toInt_lt, Int32.lt_iff_toInt_lt, Int32.toInt_toInt64, Int32.toInt_toInt64]
    exact ⟨(lg_cmp_lt _ _).trans e1, (lg_cmp_gt _ _).trans e2⟩
  unfold f_X1_isIn
  simp only [(key a b).1, (key a c).2]
  by_cases h1 : a < b <;> by_cases h2 : c < a <;> simp [h1, h2, bI]
theorem c_isFitting (R : RegH h o r eL eO_ F wk rf sc nl la no oa cL cO) (Q : RelF F wk rf w) (O : ObjO h o aH aP rN rA) (T : Told h aH eH aP eP hm hs nh np tl w) (Z : Rng w) (hp : p < nP w) (hx : x < nH w) : f_X2_isFitting E h r (nI p) (nI x) = some (bI (dFit w p x)) := by
  have e2 := Z.gP.2
  obtain ⟨q1, q2, q3, q4, q5, q6, q7, q8, q9⟩ := Q.2.1 p hp
  simp only [f_X2_isFitting, R.g26, Option.bind_some, O.i0, gdT, T.homeAt O hx, T.rooms hx, R.g10]
  rw [R.a10 (by omega), Option.bind_some, q7]
  have := lg_isIn (hF w x 0 - pF w p 1) 0 1
  rw [show ((0 : Int32).toInt64) = 0 from rfl, show ((1 : Int32).toInt64) = 1 from rfl] at this
  rw [this]
  rfl
theorem c_bidsFor (R : RegH h o r eL eO_ F wk rf sc nl la no oa cL cO) (Q : RelF F wk rf w) (Z : Rng w) (hp : p < nP w) : f_X2_bidsFor E h r (nI p) (nI x) = some (bI (iBd w p x)) := by
  have e2 := Z.gP.2
  obtain ⟨q1, q2, q3, q4, q5, q6, q7, q8, q9⟩ := Q.2.1 p hp
  simp only [f_X2_bidsFor, R.g5, Option.bind_some]
  rw [R.a5 (by omega), Option.bind_some, q5]
  exact bI_ite _
theorem c_bidMany (R : RegH h o r eL eO_ F wk rf sc nl la no oa cL cO) (Q : RelF F wk rf w) (Z : Rng w) (hp : p < nP w) : f_X2_bidMany E h r (nI p) = some (nI (pc (pN w p 10))) := by
  have e2 := Z.gP.2
  obtain ⟨q1, q2, q3, q4, q5, q6, q7, q8, q9⟩ := Q.2.1 p hp
  obtain ⟨g1, g2⟩ := Z.p10 (p := p) (by omega)
  simp only [f_X2_bidMany, R.g5, Option.bind_some]
  rw [R.a5 (by omega), Option.bind_some, q5, g1, j_bits _ (by omega)]
  rfl
theorem c_wishAt (R : RegH h o r eL eO_ F wk rf sc nl la no oa cL cO) (Q : RelF F wk rf w) (Z : Rng w) (hp : p < nP w) (hi : i < pN w p 11) : f_X2_wishAt E h r (nI p) (nI i) = some (pF w p (12 + i)) := by
  have e2 := Z.gP.2
  have e3 := (Z.p11 (p := p) (by omega)).2
  simp only [f_X2_wishAt, R.g7, Option.bind_some, pk_mul, nI_add]
  rw [R.a7 (by omega), Option.bind_some, Q.2.2.1 p i hp hi]
theorem c_isWish (R : RegH h o r eL eO_ F wk rf sc nl la no oa cL cO) (Q : RelF F wk rf w) (Z : Rng w) (hp : p < nP w) : f_X2_isWish E h r (nI p) (nI x) = some (bI (wsh w p x).isSome) := by
  have e2 := Z.gP.2
  obtain ⟨g1, g2⟩ := Z.p11 (p := p) (by omega)
  obtain ⟨q1, q2, q3, q4, q5, q6, q7, q8, q9⟩ := Q.2.1 p hp
  refine (lp_fd (fun n i => f_X2_isWish_2 n E h r (nI p) (nI x) (nI i)) (fun i => some 1) (some 0) (fun k => decide (pF w p (12 + k) = nI x)) (pN w p 11) ?_ ?_ FU 0 (Nat.zero_le _) (FU_lt (by omega))).trans ?_
  · intro n
    simp only [f_X2_isWish_2, R.g6, Option.bind_some]
    rw [R.a6 (by omega), Option.bind_some, q6, g1, if_pos (nI_leR _)]
  · intro n i hi
    simp only [f_X2_isWish_2, R.g6, Option.bind_some, R.o1, gdT]
    rw [R.a6 (by omega), Option.bind_some, q6, g1, if_neg (nI_ge hi (by omega)), c_wishAt R Q Z hp hi, Option.bind_some, nI_1]
    by_cases hb : pF w p (12 + i) = nI x
    · rw [if_pos hb, if_pos (decide_eq_true hb)]
    · rw [if_neg hb, if_neg (by simpa using hb)]
  · rw [Nat.sub_zero]
    unfold wsh
    cases fdN (fun k => decide (pF w p (12 + k) = nI x)) 0 (pN w p 11) <;> rfl
theorem c_wouldTake (R : RegH h o r eL eO_ F wk rf sc nl la no oa cL cO) (Q : RelF F wk rf w) (Z : Rng w) (hp : p < nP w) : f_X2_wouldTake E h r (nI p) (nI x) = some (bI (wTk w p x)) := by
  have e2 := Z.gP.2
  obtain ⟨q1, q2, q3, q4, q5, q6, q7, q8, q9⟩ := Q.2.1 p hp
  simp only [f_X2_wouldTake, R.g6, Option.bind_some, R.o1, gdT, c_isWish R Q Z hp, bI_0]
  rw [R.a6 (by omega), Option.bind_some, q6]
  unfold wTk
  by_cases h1 : pF w p 11 = 0 <;> cases h2 : (wsh w p x).isSome <;> simp [h1, bI]
theorem c_couldHave (R : RegH h o r eL eO_ F wk rf sc nl la no oa cL cO) (Q : RelF F wk rf w) (O : ObjO h o aH aP rN rA) (T : Told h aH eH aP eP hm hs nh np tl w) (Z : Rng w) (hp : p < nP w) (hx : x < nH w) : f_X2_couldHave E h r (nI p) (nI x) = some (bI (cHv w p x)) := by
  simp only [f_X2_couldHave, R.o1, gdT, c_isWaiting R Q Z hp, c_isFitting R Q O T Z hp hx, c_wouldTake R Q Z hp, Option.bind_some, bI_0, cHv]
  cases mayH w p <;> cases dFit w p x <;> cases wTk w p x <;> simp [bI]
theorem c_waited (R : RegH h o r eL eO_ F wk rf sc nl la no oa cL cO) (Q : RelF F wk rf w) (O : ObjO h o aH aP rN rA) (T : Told h aH eH aP eP hm hs nh np tl w) (hp : p < nP w) : f_X2_waited E h r (nI p) = some (wtI w p) := by
  simp only [f_X2_waited, R.g17, R.g26, Option.bind_some, O.i0, gdT, T.houseAt O hp, T.o6 hp, T.day hp]
  rw [Q.2.2.2.2.2.1]
  rfl
theorem c_bandNow (R : RegH h o r eL eO_ F wk rf sc nl la no oa cL cO) (Q : RelF F wk rf w) (O : ObjO h o aH aP rN rA) (T : Told h aH eH aP eP hm hs nh np tl w) (Z : Rng w) (hp : p < nP w) : f_X2_bandNow E h r (nI p) = some (bnI w p) := by
  simp only [f_X2_bandNow, R.g26, R.g0, R.o1, Option.bind_some, O.i0, gdT, T.houseAt O hp, T.o6 hp, T.band hp, c_waited R Q O T hp]
  rw [R.a0 (by decide), Option.bind_some, Q.1 4 (by decide), gd_e (show nz32 (w 228) = true from decide_eq_true Z.gA.2.2.2), m_max]
  rfl
end PC1
