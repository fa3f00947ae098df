/-! sets in an int -/
def clr (n k : Nat) : Nat := n &&& (1023 ^^^ 2 ^ k)
set_option maxRecDepth 100000
set_option maxHeartbeats 4000000
theorem btN : ∀ n, n < 1024 → ∀ k, k < 10 → bt (nI n) k = n.testBit k := by decide +kernel
theorem or_n : ∀ n, n < 1024 → ∀ k, k < 10 → nI n ||| ((1 : Int32) <<< (nI k &&& 31)) = nI (n ||| 2 ^ k) := by decide +kernel
theorem or_0 (x : Int32) : x ||| 0 = x := Int32.or_zero
theorem cl_n : ∀ n, n < 1024 → ∀ k, k < 10 → nI n &&& (((1 : Int32) <<< (nI k &&& 31)) ^^^ (-1)) = nI (clr n k) := by decide +kernel
theorem or_lt {n k m : Nat} (hn : n < 2 ^ m) (hk : k < m) : n ||| 2 ^ k < 2 ^ m := Nat.or_lt_two_pow hn (Nat.pow_lt_pow_right (by decide) hk)
theorem clr_le (n k : Nat) : clr n k ≤ n := Nat.and_le_left
theorem clr_tb {n k j : Nat} (hj : j < 10) : (clr n k).testBit j = (n.testBit j && !decide (j = k)) := by
  unfold clr
  rw [Nat.testBit_and, Nat.testBit_xor]
  have h1 : (1023 : Nat).testBit j = true := by
    have : ∀ j, j < 10 → (1023 : Nat).testBit j = true := by decide
    exact this j hj
  rw [h1, Nat.testBit_two_pow]
  by_cases h : j = k
  · subst h; simp
  · simp [h, Ne.symm h]
theorem or_tb {n k j : Nat} : (n ||| 2 ^ k).testBit j = (n.testBit j || decide (j = k)) := by
  rw [Nat.testBit_or, Nat.testBit_two_pow]
  by_cases h : j = k
  · subst h; simp
  · simp [h, Ne.symm h]
theorem ext_tb {n m : Nat} (hn : n < 1024) (hm : m < 1024) (h : ∀ j, j < 10 → n.testBit j = m.testBit j) : n = m := by
  refine Nat.eq_of_testBit_eq fun j => ?_
  by_cases hj : j < 10
  · exact h j hj
  · rw [Nat.testBit_lt_two_pow (Nat.lt_of_lt_of_le hn (Nat.pow_le_pow_right (n := 2) (by decide) (show 10 ≤ j by omega))), Nat.testBit_lt_two_pow (Nat.lt_of_lt_of_le hm (Nat.pow_le_pow_right (n := 2) (by decide) (show 10 ≤ j by omega)))]
/-- the set of those below n that are so -/
def stN (B : Nat → Bool) (n : Nat) : Nat := flN (fun p s => if B p = true then s ||| 2 ^ p else s) 0 n 0
theorem stN_1 {B : Nat → Bool} {n : Nat} : stN B (n + 1) = if B n = true then stN B n ||| 2 ^ n else stN B n := by
  unfold stN; rw [flN_1]; simp
theorem stN_lt {B : Nat → Bool} : ∀ n, stN B n < 2 ^ n
  | 0 => Nat.one_pos
  | n + 1 => by
    have h := stN_lt (B := B) n
    have h2 : 2 ^ n < 2 ^ (n + 1) := Nat.pow_lt_pow_right (by decide) (by omega)
    rw [stN_1]
    split
    · exact or_lt (by omega) (by omega)
    · omega
theorem stN_tb {B : Nat → Bool} : ∀ n j, (stN B n).testBit j = (decide (j < n) && B j)
  | 0, j => by simp [stN, flN]
  | n + 1, j => by
    rw [stN_1]
    have h := stN_tb (B := B) n j
    by_cases hb : B n = true
    · rw [if_pos hb, or_tb, h]
      by_cases hj : j = n
      · subst hj; simp [hb]
      · by_cases h2 : j < n
        · simp [hj, h2, show j < n + 1 by omega]
        · simp [hj, h2, show ¬ j < n + 1 by omega]
    · rw [if_neg hb, h]
      by_cases hj : j = n
      · subst hj; simp [hb]
      · by_cases h2 : j < n
        · simp [h2, show j < n + 1 by omega]
        · simp [h2, show ¬ j < n + 1 by omega]
theorem pc_le (n : Nat) : pc n ≤ 10 := cnN_le 10
theorem j_bits : ∀ n, n < 1024 → f_J5_bitCount (nI n) = some (nI (pc n)) := by decide +kernel
theorem btV : ∀ n, n < 1024 → ∀ k, k < 10 → ((nI n >>> (nI k &&& 31)) &&& 1) = bI (n.testBit k) := by decide +kernel
