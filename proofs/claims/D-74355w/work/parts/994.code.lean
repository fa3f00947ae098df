/-! words as numbers -/
def cdN (g : Nat → Int32) (f : Nat) : Nat → Nat
  | 0 => 0
  | n + 1 => cdN g f n * 32 + ((g (f + n)).toNatClampNeg - 96)
section PCD
variable {g g' : Nat → Int32} {f f' n m k d : Nat}
theorem isL_n {c : Int32} (h : isL c = true) : ∃ k, 97 ≤ k ∧ k ≤ 122 ∧ c = nI k := by
  unfold isL at h
  rw [Bool.and_eq_true, Bool.not_eq_true', Bool.not_eq_true', decide_eq_false_iff_not, decide_eq_false_iff_not] at h
  have h0 : ¬ c < 0 := fun z => h.1 (Int32.lt_trans z (by decide))
  obtain ⟨k, hk, rfl⟩ := nI_of h0
  refine ⟨k, Nat.not_lt.mp (fun z => h.1 (nI_lt z (by decide))), Nat.not_lt.mp (fun z => h.2 (nI_lt z hk)), rfl⟩
theorem cdN_lt (h : ∀ i, i < n → isL (g (f + i)) = true) : ∀ m, m ≤ n → cdN g f m < 32 ^ m
  | 0, _ => by show 0 < 1; decide
  | m + 1, hm => by
    have ih := cdN_lt h m (by omega)
    obtain ⟨k, k1, k2, k3⟩ := isL_n (h m (by omega))
    show cdN g f m * 32 + ((g (f + m)).toNatClampNeg - 96) < 32 ^ (m + 1)
    rw [k3, nI_clamp (by omega), Nat.pow_succ]
    omega
theorem cdN_inj : ∀ (n m : Nat), (∀ i, i < n → isL (g (f + i)) = true) → (∀ i, i < m → isL (g' (f' + i)) = true) → cdN g f n = cdN g' f' m → n = m ∧ ∀ i, i < n → g (f + i) = g' (f' + i)
  | 0, 0, _, _, _ => ⟨rfl, fun i hi => absurd hi (by omega)⟩
  | 0, m + 1, _, h2, e => by
    obtain ⟨k, k1, k2, k3⟩ := isL_n (h2 m (by omega))
    have e : 0 = cdN g' f' m * 32 + ((g' (f' + m)).toNatClampNeg - 96) := e
    rw [k3, nI_clamp (by omega)] at e
    omega
  | n + 1, 0, h1, _, e => by
    obtain ⟨k, k1, k2, k3⟩ := isL_n (h1 n (by omega))
    have e : cdN g f n * 32 + ((g (f + n)).toNatClampNeg - 96) = 0 := e
    rw [k3, nI_clamp (by omega)] at e
    omega
  | n + 1, m + 1, h1, h2, e => by
    obtain ⟨k, k1, k2, k3⟩ := isL_n (h1 n (by omega))
    obtain ⟨j, j1, j2, j3⟩ := isL_n (h2 m (by omega))
    have e : cdN g f n * 32 + ((g (f + n)).toNatClampNeg - 96) = cdN g' f' m * 32 + ((g' (f' + m)).toNatClampNeg - 96) := e
    rw [k3, j3, nI_clamp (by omega), nI_clamp (by omega)] at e
    have e1 : cdN g f n = cdN g' f' m := by omega
    have e2 : k = j := by omega
    obtain ⟨q1, q2⟩ := cdN_inj n m (fun i hi => h1 i (by omega)) (fun i hi => h2 i (by omega)) e1
    subst q1
    refine ⟨rfl, fun i hi => ?_⟩
    by_cases hin : i = n
    · subst hin; rw [k3, j3, e2]
    · exact q2 i (by omega)
theorem sh_or (a : Nat) (ha : a < 2 ^ 50) {k : Nat} (h1 : 97 ≤ k) (h2 : k ≤ 122) : (Int64.ofNat a <<< (((nI 5) : Int32).toInt64 &&& 63)) ||| ((nI k).toInt64 - 96) = Int64.ofNat (a * 32 + (k - 96)) := by
  have e1 : (nI k).toInt64 - 96 = Int64.ofNat (k - 96) := by
    have : ∀ k, k < 123 → 97 ≤ k → (nI k).toInt64 - 96 = Int64.ofNat (k - 96) := by decide
    exact this k (by omega) h1
  have e2 : (((nI 5) : Int32).toInt64 &&& 63) = 5 := by decide
  rw [e1, e2]
  apply Int64.toBitVec_inj.mp
  apply BitVec.eq_of_toNat_eq
  show ((BitVec.ofNat 64 a <<< (5 : Nat)) ||| BitVec.ofNat 64 (k - 96)).toNat = (BitVec.ofNat 64 (a * 32 + (k - 96))).toNat
  rw [BitVec.toNat_or, BitVec.toNat_shiftLeft, BitVec.toNat_ofNat, BitVec.toNat_ofNat, BitVec.toNat_ofNat, Nat.mod_eq_of_lt (show a < 2 ^ 64 by omega), Nat.mod_eq_of_lt (show k - 96 < 2 ^ 64 by omega), Nat.shiftLeft_eq, Nat.mod_eq_of_lt (show a * 2 ^ 5 < 2 ^ 64 by omega), Nat.mod_eq_of_lt (show a * 32 + (k - 96) < 2 ^ 64 by omega), ← Nat.shiftLeft_eq, ← Nat.shiftLeft_add_eq_or_of_lt (show k - 96 < 2 ^ 5 by omega), Nat.shiftLeft_eq]
theorem cd8_N (h : ∀ i, i < n → isL (g (f + i)) = true) (hn : n ≤ 8) : ∀ m, m ≤ n → cd8 g f m = Int64.ofNat (cdN g f m)
  | 0, _ => rfl
  | m + 1, hm => by
    have ih := cd8_N h hn m (by omega)
    obtain ⟨k, k1, k2, k3⟩ := isL_n (h m (by omega))
    have hl := cdN_lt h m (by omega)
    have hp : 32 ^ m ≤ 32 ^ 8 := Nat.pow_le_pow_right (by decide) (by omega)
    show (cd8 g f m <<< (((nI 5) : Int32).toInt64 &&& 63)) ||| ((g (f + m)).toInt64 - 96) = Int64.ofNat (cdN g f m * 32 + ((g (f + m)).toNatClampNeg - 96))
    rw [ih, k3, nI_clamp (by omega), sh_or _ (Nat.lt_of_lt_of_le hl (Nat.le_trans hp (by decide))) k1 k2]
/-- words are the same where their numbers are -/
theorem cd8_inj (hn : n ≤ 8) (hm : m ≤ 8) (h1 : ∀ i, i < n → isL (g (f + i)) = true) (h2 : ∀ i, i < m → isL (g' (f' + i)) = true) : cd8 g f n = cd8 g' f' m ↔ n = m ∧ ∀ i, i < n → g (f + i) = g' (f' + i) := by
  constructor
  · intro e
    rw [cd8_N h1 hn n (Nat.le_refl _), cd8_N h2 hm m (Nat.le_refl _)] at e
    have b1 := cdN_lt h1 n (Nat.le_refl _)
    have b2 := cdN_lt h2 m (Nat.le_refl _)
    have p1 : 32 ^ n ≤ 32 ^ 8 := Nat.pow_le_pow_right (by decide) hn
    have p2 : 32 ^ m ≤ 32 ^ 8 := Nat.pow_le_pow_right (by decide) hm
    have e' := congrArg (fun z : Int64 => z.toBitVec.toNat) e
    have e' : (BitVec.ofNat 64 (cdN g f n)).toNat = (BitVec.ofNat 64 (cdN g' f' m)).toNat := e'
    rw [BitVec.toNat_ofNat, BitVec.toNat_ofNat, Nat.mod_eq_of_lt (Nat.lt_of_lt_of_le b1 (Nat.le_trans p1 (by decide))), Nat.mod_eq_of_lt (Nat.lt_of_lt_of_le b2 (Nat.le_trans p2 (by decide)))] at e'
    exact cdN_inj n m h1 h2 e'
  · rintro ⟨rfl, h⟩
    have : ∀ k, k ≤ n → cd8 g f k = cd8 g' f' k := by
      intro k
      induction k with
      | zero => intro _; rfl
      | succ k ih =>
        intro hk
        show (cd8 g f k <<< (((nI 5) : Int32).toInt64 &&& 63)) ||| ((g (f + k)).toInt64 - (96 : Int64)) = (cd8 g' f' k <<< (((nI 5) : Int32).toInt64 &&& 63)) ||| ((g' (f' + k)).toInt64 - (96 : Int64))
        rw [ih (by omega), h k (by omega)]
    exact this n (Nat.le_refl _)
end PCD
