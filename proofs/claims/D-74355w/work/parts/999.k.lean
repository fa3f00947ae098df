/-! reading: a row that is read is a good one -/
section PRK
variable {rd rd2 : Rw} {F : Nat → Nat → Int32} {m n x p k i : Nat} {v lo hi : Int32} {a b a' b' : Int}
theorem ir_I (h : ir v lo hi = true) (h1 : a ≤ lo.toInt) (h2 : hi.toInt ≤ b) : inI v a b := by
  unfold ir at h
  rw [Bool.and_eq_true, Bool.not_eq_true', Bool.not_eq_true', decide_eq_false_iff_not, decide_eq_false_iff_not, Int32.lt_iff_toInt_lt, Int32.lt_iff_toInt_lt] at h
  unfold inI
  omega
theorem inI_0 (h1 : a ≤ 0) (h2 : 0 ≤ b) : inI 0 a b := by
  unfold inI
  rw [show (0 : Int32).toInt = 0 by decide]
  exact ⟨h1, h2⟩
theorem inI_m (h1 : a ≤ -1) (h2 : -1 ≤ b) : inI (-1) a b := by
  unfold inI
  rw [show (-1 : Int32).toInt = -1 by decide]
  exact ⟨h1, h2⟩
theorem inI_N (h1 : a ≤ (n : Int)) (h2 : (n : Int) ≤ b) (h3 : n < 2 ^ 31) : inI (nI n) a b := by
  unfold inI
  rw [nI_toInt h3]
  exact ⟨h1, h2⟩
theorem PRw.re (P : PRw rd m n F) (h : ∀ i, i < 390 → rd2 i = rd i) : PRw rd2 m n F := by
  obtain ⟨⟨p1, p2, p3, p4⟩, p5, p6, p7, p8, p9, p10, p11, p12, p13⟩ := P
  have ph : ∀ p k, p < 8 → k < 18 → pF rd2 p k = pF rd p k := fun p k h1 h2 => h _ (by omega)
  have hh : ∀ x k, x < 10 → k < 8 → hF rd2 x k = hF rd x k := fun x k h1 h2 => h _ (by omega)
  refine ⟨⟨by rw [h 230 (by decide)]; exact p1, p2, by rw [h 231 (by decide)]; exact p3, p4⟩, fun y hy => ?_, fun x hx => ?_, fun x k hx hk hz => ?_, fun p hp => ?_, fun p k hp hk hz => ?_, fun i h1 h2 => ?_, fun p hp => ?_, p12, p13⟩
  · rw [h (224 + y) (by omega)]; exact p5 y hy
  · obtain ⟨a1, a2, a3⟩ := p6 x hx
    rw [hh x 0 (by omega) (by decide), hh x 1 (by omega) (by decide), hh x 2 (by omega) (by decide)]
    refine ⟨a1, a2, ?_⟩
    rcases a3 with h | ⟨p, h1, h2, h3⟩
    · exact Or.inl h
    · exact Or.inr ⟨p, h1, h2, by rw [ph p 4 (by omega) (by decide)]; exact h3⟩
  · rw [hh x k hx hk]; exact p7 x k hx hk hz
  · obtain ⟨a1, a2, j, u, w1, w2, w3, w4, w5⟩ := p8 p hp
    refine ⟨?_, ?_, j, u, w1, ?_, fun i hi => ?_, w4, fun i h1 h2 => ?_⟩
    · unfold told_ok at a1 ⊢
      rw [ph p 0 (by omega) (by decide), ph p 1 (by omega) (by decide), ph p 2 (by omega) (by decide), ph p 3 (by omega) (by decide)]; exact a1
    · rw [ph p 4 (by omega) (by decide)]
      rcases a2 with h | ⟨x, h1, h2, h3⟩
      · exact Or.inl h
      · exact Or.inr ⟨x, by omega, h2, by rw [hh x 2 (by omega) (by decide)]; exact h3⟩
    · rw [ph p 11 (by omega) (by decide)]; exact w2
    · rw [ph p (12 + i) (by omega) (by omega)]; exact w3 i hi
    · rw [ph p (12 + i) (by omega) (by omega)]; exact w5 i h1 h2
  · rw [ph p k hp hk]; exact p9 p k hp hk hz
  · rw [h i h2]; exact p10 i h1 h2
  · obtain ⟨a1, a2, a3, a4⟩ := p11 p hp
    rw [ph p 4 hp (by decide), ph p 11 hp (by decide), ph p 1 hp (by decide)]
    exact ⟨a1, a2, fun i hi => by rw [ph p (12 + i) hp (by omega)]; exact a3 i hi, a4⟩
theorem PRw.nn (P : PRw rd m n F) : nH rd = m ∧ nP rd = n ∧ nL rd = 0 ∧ nO rd = 0 := by
  obtain ⟨⟨p1, p2, p3, p4⟩, p5, p6, p7, p8, p9, p10, p11, p12, p13⟩ := P
  unfold nH nP nL nO wN
  rw [p1, p3, p10 233 (by decide) (by decide), p10 299 (by decide) (by decide), nI_clamp (by omega), nI_clamp (by omega)]
  exact ⟨rfl, rfl, rfl, rfl⟩
theorem PRw.rng (P : PRw rd m n F) : Rng rd := by
  obtain ⟨⟨p1, p2, p3, p4⟩, p5, p6, p7, p8, p9, p10, p11, p12, p13⟩ := P
  have e1 : (1 : Int32).toInt = 1 := by decide
  have e0 : (0 : Int32).toInt = 0 := by decide
  have e4 : (nI 4).toInt = 4 := by decide
  have e7 : (nI 7).toInt = 7 := by decide
  have e9 : (nI 999).toInt = 999 := nI_toInt (n := 999) (by omega)
  refine ⟨fun x k hx hk => ?_, fun p k hp hk => ?_, fun i k hi hk => ?_, fun j k hj hk => ?_, fun i h1 h2 => ?_⟩
  · by_cases hxm : x < m
    · obtain ⟨a1, a2, a3⟩ := p6 x hxm
      rcases (show k = 0 ∨ k = 1 ∨ k = 2 ∨ 3 ≤ k by omega) with rfl | rfl | rfl | hk3
      · show inI _ 0 4
        exact ir_I a1 (by omega) (by omega)
      · show inI _ 0 7
        exact ir_I a2 (by omega) (by omega)
      · show inI _ (-1) 7
        rcases a3 with h | ⟨p, h1, h2, h3⟩
        · rw [h]; exact inI_m (by omega) (by omega)
        · rw [h2]; exact inI_N (by omega) (by omega) (by omega)
      · rw [p7 x k hx hk (Or.inr hk3)]
        unfold hB
        repeat' split
        all_goals first | exact inI_0 (by omega) (by omega) | trivial
    · rw [p7 x k hx hk (Or.inl (by omega))]
      unfold hB
      repeat' split
      all_goals first | exact inI_0 (by omega) (by omega) | trivial
  · by_cases hpn : p < n
    · obtain ⟨⟨t0, t1, t2, t3⟩, a2, j, u, w1, w2, w3, w4, w5⟩ := p8 p hpn
      rcases (show k = 0 ∨ k = 1 ∨ k = 2 ∨ k = 3 ∨ k = 4 ∨ k = 11 ∨ (5 ≤ k ∧ k ≤ 10) ∨ 12 ≤ k by omega) with rfl | rfl | rfl | rfl | rfl | rfl | hk3 | hk3
      · show inI _ 0 4
        exact ir_I t0 (by omega) (by omega)
      · show inI _ 0 4
        exact ir_I t1 (by omega) (by omega)
      · show inI _ 0 7
        exact ir_I t2 (by omega) (by omega)
      · show inI _ 0 999
        exact ir_I t3 (by omega) (by omega)
      · show inI _ (-1) 9
        rcases a2 with h | ⟨x, h1, h2, h3⟩
        · rw [h]; exact inI_m (by omega) (by omega)
        · rw [h2]; exact inI_N (by omega) (by omega) (by omega)
      · show inI _ 0 6
        rw [w2]; exact inI_N (by omega) (by omega) (by omega)
      · rw [p9 p k hp hk (Or.inr hk3)]
        unfold pB
        repeat' split
        all_goals first | exact inI_0 (by omega) (by omega) | trivial
      · have ew : pF rd p k = 0 ∨ ∃ z, z < 10 ∧ pF rd p k = nI z := by
          by_cases hj : k - 12 < j
          · obtain ⟨z1, z2⟩ := w3 (k - 12) hj
            rw [show 12 + (k - 12) = k by omega] at z1
            exact Or.inr ⟨_, by omega, z1⟩
          · have := w5 (k - 12) (by omega) (by omega)
            rw [show 12 + (k - 12) = k by omega] at this
            exact Or.inl this
        have : inI (pF rd p k) 0 9 := by
          rcases ew with h | ⟨z, h1, h2⟩
          · rw [h]; exact inI_0 (by omega) (by omega)
          · rw [h2]; exact inI_N (by omega) (by omega) (by omega)
        unfold pB
        rw [if_neg (by omega), if_neg (by omega), if_neg (by omega), if_neg (by omega), if_neg (by omega), if_neg (by omega), if_neg (by omega), if_neg (by omega), if_neg (by omega), if_neg (by omega), if_pos hk3]
        exact this
    · rw [p9 p k hp hk (Or.inl (by omega))]
      unfold pB
      repeat' split
      all_goals first | exact inI_0 (by omega) (by omega) | trivial
  · rw [show lF rd i k = 0 from p10 _ (by omega) (by omega)]
    unfold lB
    repeat' split
    all_goals first | exact inI_0 (by omega) (by omega) | trivial
  · rw [p10 _ (by omega) (by omega)]
    unfold oB
    repeat' split
    all_goals first | exact inI_0 (by omega) (by omega) | trivial
  · by_cases h6 : i < 230
    · obtain ⟨r, hr⟩ : ∃ r, r = i - 224 := ⟨_, rfl⟩
      have hi : i = 224 + r := by omega
      have h5 := (p5 r (by omega)).1
      rw [hi]
      generalize rd (224 + r) = z at h5 ⊢
      exact gB_r (by omega) h5
    · rcases (show i = 230 ∨ i = 231 ∨ 232 ≤ i by omega) with rfl | rfl | h3
      · show inI _ 0 10
        rw [p1]; exact inI_N (by omega) (by omega) (by omega)
      · show inI _ 0 8
        rw [p3]; exact inI_N (by omega) (by omega) (by omega)
      · rw [p10 i h3 (by omega)]
        unfold gB
        rw [if_neg (by omega), if_neg (by omega), if_neg (by omega), if_neg (by omega), if_neg (by omega), if_neg (by omega), if_neg (by omega), if_neg (by omega)]
        repeat' split
        all_goals first | exact inI_0 (by omega) (by omega) | trivial
theorem PRw.inv (P : PRw rd m n F) : Inv rd ∧ wN rd 232 = 0 := by
  obtain ⟨eH, eP, eL, eO⟩ := P.nn
  have Z := P.rng
  obtain ⟨⟨p1, p2, p3, p4⟩, p5, p6, p7, p8, p9, p10, p11, p12, p13⟩ := P
  have e10 : ∀ p, p < n → pN rd p 10 = 0 := fun p hp => by
    unfold pN
    rw [p9 p 10 (by omega) (by decide) (Or.inr ⟨by decide, by decide⟩)]; rfl
  have bd : ∀ p h, p < n → h < m → iBd rd p h = false := fun p h hp hh => by
    rw [iB_n Z (by omega) (by omega), e10 p hp]
    exact Nat.zero_testBit h
  have hw : wN rd 232 = 0 := by
    unfold wN
    rw [p10 232 (by decide) (by decide)]; rfl
  refine ⟨⟨⟨Z, ⟨fun h hh => ?_, fun p hp => ?_, fun p i hp hi => ?_, fun p i j hp hi hj e => ?_, fun i hi => ?_, fun p hp => ?_⟩, ?_⟩, ⟨fun i j hi => ?_, fun i hi => ?_, fun h hh => ?_⟩, fun p h hp hh hb => ?_, fun p h hp hh hb => ?_⟩, hw⟩
  · rw [eH] at hh
    rw [eP]
    exact (p6 h hh).2.2
  · rw [eP] at hp
    rw [eH]
    exact (p8 p hp).2.1
  · rw [eP] at hp
    obtain ⟨-, -, j, u, w1, w2, w3, w4, w5⟩ := p8 p hp
    have ej : pN rd p 11 = j := by unfold pN; rw [w2, nI_clamp (by omega)]
    rw [ej] at hi
    obtain ⟨z1, z2⟩ := w3 i hi
    rw [eH]
    unfold pN
    rw [z1, nI_clamp (by omega)]; exact z2
  · rw [eP] at hp
    obtain ⟨-, -, j', u, w1, w2, w3, w4, w5⟩ := p8 p hp
    have ej : pN rd p 11 = j' := by unfold pN; rw [w2, nI_clamp (by omega)]
    rw [ej] at hi hj
    obtain ⟨z1, z2⟩ := w3 i hi
    obtain ⟨z3, z4⟩ := w3 j hj
    rw [z1, z3] at e
    exact w4 i j hi hj ((nI_eq (by omega) (by omega)).mp e)
  · omega
  · rw [eP] at hp
    rw [e10 p hp]
    exact Nat.two_pow_pos _
  · show nL rd ≤ _
    omega
  · omega
  · omega
  · rw [eH] at hh
    rw [eL, p7 h 4 (by omega) (by decide) (Or.inr (by decide))]; rfl
  · rw [eP] at hp
    rw [eH] at hh
    rw [bd p h hp hh] at hb; cases hb
  · rw [eP] at hp
    rw [eH] at hh
    rw [bd p h hp hh] at hb; cases hb
theorem PRw.rel (P : PRw rd m n F) : RelF F 0 0 rd := by
  obtain ⟨eH, eP, eL, eO⟩ := P.nn
  obtain ⟨⟨p1, p2, p3, p4⟩, p5, p6, p7, p8, p9, p10, p11, p12, p13⟩ := P
  have z9 : ∀ p k, p < n → 5 ≤ k → k ≤ 10 → pF rd p k = 0 := fun p k hp h1 h2 => p9 p k (by omega) (by omega) (Or.inr ⟨h1, h2⟩)
  have z7 : ∀ x k, x < m → 3 ≤ k → k < 8 → hF rd x k = 0 := fun x k hx h1 h2 => p7 x k (by omega) h2 (Or.inr h1)
  refine ⟨fun k hk => (p5 k hk).2, fun p hp => ?_, fun p i hp hi => ?_, fun h hh => ?_, fun h hh => ?_, (p10 232 (by decide) (by decide)).symm, (p10 298 (by decide) (by decide)).symm⟩
  · rw [eP] at hp
    obtain ⟨a1, a2, a3, a4⟩ := p11 p (by omega)
    rw [if_pos hp] at a1 a4
    rw [a1, a2, a4, z9 p 5 hp (by decide) (by decide), z9 p 6 hp (by decide) (by decide), z9 p 9 hp (by decide) (by decide), z9 p 10 hp (by decide) (by decide), z9 p 8 hp (by decide) (by decide), z9 p 7 hp (by decide) (by decide)]
    refine ⟨rfl, ?_, ?_, ?_, ?_, rfl, rfl, ?_, ?_⟩ <;> exact p13 _ p (by decide) (by decide) (by decide) (by decide) (by decide) (by decide) (by decide)
  · rw [eP] at hp
    obtain ⟨-, -, j, u, w1, w2, w3, w4, w5⟩ := p8 p hp
    have ej : pN rd p 11 = j := by unfold pN; rw [w2, nI_clamp (by omega)]
    exact (p11 p (by omega)).2.2.1 i (by omega)
  · rw [eH] at hh
    rw [z7 h 7 hh (by decide) (by decide), z7 h 6 hh (by decide) (by decide), z7 h 3 hh (by decide) (by decide), p13 11 h (by decide) (by decide) (by decide) (by decide) (by decide) (by decide) (by decide), p13 12 h (by decide) (by decide) (by decide) (by decide) (by decide) (by decide) (by decide), p13 8 h (by decide) (by decide) (by decide) (by decide) (by decide) (by decide) (by decide)]
    exact ⟨rfl, rfl, fun _ => Int32.le_refl _, fun z => absurd rfl z⟩
  · rw [eH] at hh
    exact Or.inl ⟨p12 h (by omega), z7 h 5 hh (by decide) (by decide)⟩
/-- the plain row -/
theorem PRw.plain (h0 : ∀ i, i < 390 → rd i = if i = 224 then nI 3 else if i = 225 then nI 4 else if i = 228 then nI 999 else if i = 229 then nI 2 else 0) (hF : IniF F) : PRw rd 0 0 F := by
  obtain ⟨f1, f2, f3, f4⟩ := hF
  have z : ∀ i, i < 390 → i < 224 ∨ 230 ≤ i → rd i = 0 := fun i h1 h2 => by
    rw [h0 i h1, if_neg (by omega), if_neg (by omega), if_neg (by omega), if_neg (by omega)]
  refine ⟨⟨z 230 (by decide) (by decide), by omega, z 231 (by decide) (by decide), by omega⟩, fun r hr => ?_, fun x hx => by omega, fun x k hx hk _ => z _ (by omega) (by omega), fun p hp => by omega, fun p k hp hk _ => z _ (by omega) (by omega), fun i h1 h2 => z i h2 (by omega), fun p hp => ⟨?_, ?_, fun i hi => ?_, ?_⟩, f3, fun a j h1 h2 h3 h4 h5 h6 h7 => f4 a j h2 h3 h6⟩
  · rw [f1 r hr]
    rcases (show r = 0 ∨ r = 1 ∨ r = 2 ∨ r = 3 ∨ r = 4 ∨ r = 5 by omega) with rfl | rfl | rfl | rfl | rfl | rfl <;> rw [h0 _ (by decide)] <;> exact ⟨by decide, by decide⟩
  · rw [if_neg (by omega)]; exact f2 p hp
  · rw [f4 6 p (by decide) (by decide) (by decide)]; exact (z _ (by omega) (by omega)).symm
  · rw [f4 7 _ (by decide) (by decide) (by decide)]; exact (z _ (by omega) (by omega)).symm
  · rw [if_neg (by omega)]; exact f4 10 p (by decide) (by decide) (by decide)
end PRK
