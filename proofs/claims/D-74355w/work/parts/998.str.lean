/-! strings compared -/
section PSQ
variable {h : AH} {E : bE} {a a' b b' n m : Nat} {g g' : Nat → Int32}
theorem str_eq (S1 : StrH h a b n g) (S2 : StrH h a' b' m g') (hn : n < 1000) (hm : m < 1000) : f_J9_equals E h a a' = some (bI (decide (n = m ∧ ∀ i, i < n → g i = g' i))) := by
  obtain ⟨x, y, f, s1, s2, s3⟩ := S1
  obtain ⟨x', y', f', t1, t2, t3⟩ := S2
  unfold f_J9_equals
  by_cases haa : a = a'
  · subst haa
    rw [s1] at t1
    have e1 := Option.some.inj t1
    have eb : b = b' := by
      have := (Sum.inl.inj (Sum.inr.inj e1))
      have := (Prod.mk.inj this).2
      have := (List.cons.inj this).1
      exact Value.ref.inj this
    subst eb
    rw [s2] at t2
    have e2 := Sum.inl.inj (Option.some.inj t2)
    have e3 := (Prod.mk.inj (Prod.mk.inj e2).2)
    have e4 : n = m := e3.1
    have e5 : f = f' := Sum.inl.inj e3.2
    subst e4 e5
    rw [if_pos rfl, decide_eq_true ⟨rfl, fun i hi => (s3 i hi).symm.trans (t3 i hi)⟩]; rfl
  · have o1 : isO h a' 13 = true := by simp [isO, t1]
    have c1 : gI h a 13 1 = some 0 := by simp [gI, rd, s1, vI]
    have c2 : gI h a' 13 1 = some 0 := by simp [gI, rd, t1, vI]
    have v1 : gA h a 13 0 = some b := by simp [gA, rd, s1, vR]
    have v2 : gA h a' 13 0 = some b' := by simp [gA, rd, t1, vR]
    rw [if_neg haa, o1, gdT, if_neg (by decide), gdT, if_neg (by decide), c1, Option.bind_some, c2, Option.bind_some, if_pos rfl]
    have key : f_J13_equals E h b b' = some (bI (decide (n = m ∧ ∀ i, i < n → g i = g' i))) := by
      unfold f_J13_equals
      rw [ca_len s2, Option.bind_some, ca_len t2, Option.bind_some]
      by_cases hnm : n = m
      · subst hnm
        rw [if_pos rfl]
        have := lp_fd (fun k i => f_J13_equals_9 k E h b b' (nI i)) (fun _ => some 0) (some 1) (fun i => !decide (f i = f' i)) n (fun k => ?_) (fun k i hi => ?_) FU 0 (Nat.zero_le _) (FU_lt (by omega))
        · refine Eq.trans this ?_
          rw [Nat.sub_zero]
          cases ho : fdN (fun i => !decide (f i = f' i)) 0 n with
          | none =>
            have hall := fdN_none.mp ho
            rw [decide_eq_true ⟨rfl, fun i hi => by
              have := hall i (by omega) (by omega)
              rw [Bool.not_eq_false', decide_eq_true_eq] at this
              rw [← s3 i hi, this, t3 i hi]⟩]
            rfl
          | some j =>
            obtain ⟨z1, z2, z3, -⟩ := fdN_some ho
            rw [Bool.not_eq_true', decide_eq_false_iff_not] at z3
            rw [decide_eq_false (fun hz => z3 (by rw [s3 j (by omega), t3 j (by omega)]; exact hz.2 j (by omega)))]
            rfl
        · simp only [f_J13_equals_9]
          rw [ca_len s2, Option.bind_some, if_pos (nI_leR _)]
        · simp only [f_J13_equals_9]
          rw [ca_len s2, Option.bind_some, if_neg (nI_ge hi (by omega)), aI_at (i := i) s2 hi (by omega), Option.bind_some, aI_at (i := i) t2 hi (by omega), Option.bind_some, nI_1]
          by_cases he : f i = f' i
          · rw [if_pos he, if_neg (by rw [decide_eq_true he]; nofun)]
          · rw [if_neg he, if_pos (by rw [decide_eq_false he]; rfl)]
      · rw [if_neg (fun z => hnm ((nI_eq (by omega) (by omega)).mp z)), decide_eq_false (fun z => hnm z.1)]; rfl
    unfold f_J9_equals_36
    rw [v1, Option.bind_some, v2, Option.bind_some, key, Option.bind_some]
    cases decide (n = m ∧ ∀ i, i < n → g i = g' i) <;> rfl
/-- a row of Strings -/
def StrsH (h : AH) (x N : Nat) (len : Nat → Nat) (G : Nat → Nat → Int32) : Prop := aL h x = some (nI N) ∧ ∀ i, i < N → ∃ s b, aR h x 8 (nI i) = some s ∧ StrH h s b (len i) (G i)
theorem StrH.o (S : StrH h a b n g) : isO h a 13 = true := by
  obtain ⟨x, y, f, s1, -⟩ := S
  simp [isO, s1]
/-- where a word stands in a row -/
def plc (N : Nat) (len : Nat → Nat) (G : Nat → Nat → Int32) (m : Nat) (g : Nat → Int32) : Option Nat := fdN (fun i => decide (len i = m ∧ ∀ j, j < len i → G i j = g j)) 0 N
theorem y_place {x N : Nat} {len : Nat → Nat} {G : Nat → Nat → Int32} (W : StrsH h x N len G) (hN : N < 100) (hl : ∀ i, i < N → len i < 1000) (S : StrH h a b m g) (hm : m < 1000) : f_X1_place E h a x = some (eO (plc N len G m g)) := by
  obtain ⟨w1, w2⟩ := W
  have key := lp_fd (fun k i => f_X1_place_2 k E h a x (nI i)) (fun i => some (nI i)) (some (-1)) (fun i => decide (len i = m ∧ ∀ j, j < len i → G i j = g j)) N (fun k => ?_) (fun k i hi => ?_) FU 0 (Nat.zero_le _) (FU_lt (by omega))
  · refine Eq.trans key ?_
    rw [Nat.sub_zero]
    unfold plc
    cases fdN (fun i => decide (len i = m ∧ ∀ j, j < len i → G i j = g j)) 0 N <;> rfl
  · simp only [f_X1_place_2]
    rw [w1, Option.bind_some, if_pos (nI_leR _)]
  · obtain ⟨s, b', z1, z2⟩ := w2 i hi
    simp only [f_X1_place_2]
    rw [w1, Option.bind_some, if_neg (nI_ge hi (by omega)), z1, Option.bind_some, z2.o, gdT, str_eq z2 S (hl i hi) hm, Option.bind_some, nI_1]
    cases decide (len i = m ∧ ∀ j, j < len i → G i j = g j)
    · rw [if_pos (show bI false = 0 from rfl), if_neg (by nofun)]
    · rw [if_neg (show ¬ bI true = 0 by decide), if_pos rfl]
end PSQ
