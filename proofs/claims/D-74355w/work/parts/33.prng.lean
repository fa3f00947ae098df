/-! the row's ranges -/
def inI (v : Int32) (a b : Int) : Prop := a ≤ v.toInt ∧ v.toInt ≤ b
theorem inI_n {v : Int32} {b : Nat} (h : inI v 0 b) (hb : b < 2 ^ 31) : v = nI v.toNatClampNeg ∧ v.toNatClampNeg ≤ b := by
  obtain ⟨h1, h2⟩ := h
  have h0 : ¬ v < 0 := by
    rw [Int32.lt_iff_toInt_lt]
    exact Int.not_lt.mpr h1
  obtain ⟨j, hj, rfl⟩ := nI_of h0
  rw [nI_clamp hj]
  rw [nI_toInt hj] at h2
  exact ⟨rfl, by omega⟩
theorem inI_of {n b : Nat} {a : Int} (h : n ≤ b) (hb : b < 2 ^ 31) (ha : a ≤ 0) : inI (nI n) a b := by
  unfold inI
  rw [nI_toInt (by omega)]
  omega
def hB (k : Nat) (v : Int32) : Prop := if k = 0 then inI v 0 4 else if k = 1 then inI v 0 7 else if k = 2 then inI v (-1) 7 else if k = 3 then inI v 0 1 else if k = 6 then inI v 0 1 else True
def pB (k : Nat) (v : Int32) : Prop := if k = 0 then inI v 0 4 else if k = 1 then inI v 0 4 else if k = 2 then inI v 0 7 else if k = 3 then inI v 0 999 else if k = 4 then inI v (-1) 9 else if k = 6 then inI v 0 52 else if k = 7 then inI v 0 1 else if k = 8 then inI v 0 1 else if k = 10 then inI v 0 1023 else if k = 11 then inI v 0 6 else if 12 ≤ k then inI v 0 9 else True
def lB (k : Nat) (v : Int32) : Prop := if k = 0 then inI v 0 7 else if k = 1 then inI v 0 9 else if k = 4 then inI v 0 1 else if k = 5 then inI v 0 3 else True
def oB (k : Nat) (v : Int32) : Prop := if k = 0 then inI v 0 7 else if k = 1 then inI v 0 9 else inI v 0 1
def gB (i : Nat) (v : Int32) : Prop := if i = 224 then inI v 1 9 else if i = 225 then inI v 1 52 else if i = 226 then inI v 0 9 else if i = 227 then inI v 0 100 else if i = 228 then inI v 1 999 else if i = 229 then inI v 1 3 else if i = 230 then inI v 0 10 else if i = 231 then inI v 0 8 else if i = 232 then inI v 0 999 else if i = 233 then inI v 0 8 else if i = 299 then inI v 0 30 else True
def Rng (w : Rw) : Prop := (∀ h k, h < 10 → k < 8 → hB k (hF w h k)) ∧ (∀ p k, p < 8 → k < 18 → pB k (pF w p k)) ∧ (∀ i k, i < 8 → k < 8 → lB k (lF w i k)) ∧ (∀ j k, j < 30 → k < 3 → oB k (w (300 + 3 * j + k))) ∧ (∀ i, 224 ≤ i → i < 300 → gB i (w i))
section PR
variable {w : Rw} {p h k i : Nat}
theorem Rng.gH (Z : Rng w) : w 230 = nI (nH w) ∧ nH w ≤ 10 := inI_n (Z.2.2.2.2 230 (by decide) (by decide)) (by decide)
theorem Rng.gP (Z : Rng w) : w 231 = nI (nP w) ∧ nP w ≤ 8 := inI_n (Z.2.2.2.2 231 (by decide) (by decide)) (by decide)
theorem Rng.gL (Z : Rng w) : w 233 = nI (nL w) ∧ nL w ≤ 8 := inI_n (Z.2.2.2.2 233 (by decide) (by decide)) (by decide)
theorem Rng.gO (Z : Rng w) : w 299 = nI (nO w) ∧ nO w ≤ 30 := inI_n (Z.2.2.2.2 299 (by decide) (by decide)) (by decide)
theorem Rng.gW (Z : Rng w) : w 232 = nI (wN w 232) ∧ wN w 232 ≤ 999 := inI_n (Z.2.2.2.2 232 (by decide) (by decide)) (by decide)
theorem inI_pos {v : Int32} {b : Nat} (h : inI v 1 b) (hb : b < 2 ^ 31) : v = nI v.toNatClampNeg ∧ v.toNatClampNeg ≤ b ∧ 1 ≤ v.toNatClampNeg ∧ ¬ v = 0 := by
  obtain ⟨h1, h2⟩ := inI_n (v := v) (b := b) ⟨by have := h.1; omega, h.2⟩ hb
  have h3 := h.1
  rw [h1, nI_toInt (by omega)] at h3
  refine ⟨h1, h2, by omega, fun e => ?_⟩
  rw [e] at h3
  exact absurd h3 (by decide)
theorem Rng.gA (Z : Rng w) : w 228 = nI (wN w 228) ∧ wN w 228 ≤ 999 ∧ 1 ≤ wN w 228 ∧ ¬ w 228 = 0 := inI_pos (Z.2.2.2.2 228 (by decide) (by decide)) (by decide)
theorem Rng.gLo (Z : Rng w) : w 226 = nI (wN w 226) ∧ wN w 226 ≤ 9 := inI_n (Z.2.2.2.2 226 (by decide) (by decide)) (by decide)
theorem Rng.gQ (Z : Rng w) : w 227 = nI (wN w 227) ∧ wN w 227 ≤ 100 := inI_n (Z.2.2.2.2 227 (by decide) (by decide)) (by decide)
theorem Rng.p0 (Z : Rng w) (hp : p < 8) : pF w p 0 = nI (pN w p 0) ∧ pN w p 0 ≤ 4 := inI_n (Z.2.1 p 0 hp (by decide)) (by decide)
theorem Rng.p1 (Z : Rng w) (hp : p < 8) : pF w p 1 = nI (pN w p 1) ∧ pN w p 1 ≤ 4 := inI_n (Z.2.1 p 1 hp (by decide)) (by decide)
theorem Rng.p3 (Z : Rng w) (hp : p < 8) : pF w p 3 = nI (pN w p 3) ∧ pN w p 3 ≤ 999 := inI_n (Z.2.1 p 3 hp (by decide)) (by decide)
theorem Rng.p6 (Z : Rng w) (hp : p < 8) : pF w p 6 = nI (pN w p 6) ∧ pN w p 6 ≤ 52 := inI_n (Z.2.1 p 6 hp (by decide)) (by decide)
theorem Rng.p10 (Z : Rng w) (hp : p < 8) : pF w p 10 = nI (pN w p 10) ∧ pN w p 10 ≤ 1023 := inI_n (Z.2.1 p 10 hp (by decide)) (by decide)
theorem Rng.p11 (Z : Rng w) (hp : p < 8) : pF w p 11 = nI (pN w p 11) ∧ pN w p 11 ≤ 6 := inI_n (Z.2.1 p 11 hp (by decide)) (by decide)
theorem Rng.pw (Z : Rng w) (hp : p < 8) (hk : k < 6) : pF w p (12 + k) = nI (pN w p (12 + k)) ∧ pN w p (12 + k) ≤ 9 := by
  have h1 := Z.2.1 p (12 + k) hp (by omega)
  unfold pB at h1
  rw [if_neg (by omega), if_neg (by omega), if_neg (by omega), if_neg (by omega), if_neg (by omega), if_neg (by omega), if_neg (by omega), if_neg (by omega), if_neg (by omega), if_neg (by omega), if_pos (by omega)] at h1
  exact inI_n h1 (by decide)
theorem Rng.l0 (Z : Rng w) (hi : i < 8) : lF w i 0 = nI (lN_ w i 0) ∧ lN_ w i 0 ≤ 7 := inI_n (Z.2.2.1 i 0 hi (by decide)) (by decide)
theorem Rng.l1 (Z : Rng w) (hi : i < 8) : lF w i 1 = nI (lN_ w i 1) ∧ lN_ w i 1 ≤ 9 := inI_n (Z.2.2.1 i 1 hi (by decide)) (by decide)
theorem Rng.l5 (Z : Rng w) (hi : i < 8) : lF w i 5 = nI (lN_ w i 5) ∧ lN_ w i 5 ≤ 3 := inI_n (Z.2.2.1 i 5 hi (by decide)) (by decide)
theorem Rng.h0 (Z : Rng w) (hh : h < 10) : hF w h 0 = nI (hN_ w h 0) ∧ hN_ w h 0 ≤ 4 := inI_n (Z.1 h 0 hh (by decide)) (by decide)
end PR
/-- who lives where, both ways; wishes are homes -/
def Con (w : Rw) : Prop :=
  (∀ h, h < nH w → hF w h 2 = -1 ∨ ∃ p, p < nP w ∧ hF w h 2 = nI p ∧ pF w p 4 = nI h) ∧
  (∀ p, p < nP w → pF w p 4 = -1 ∨ ∃ h, h < nH w ∧ pF w p 4 = nI h ∧ hF w h 2 = nI p) ∧
  (∀ p i, p < nP w → i < pN w p 11 → pN w p (12 + i) < nH w) ∧
  (∀ p i j, p < nP w → i < pN w p 11 → j < pN w p 11 → pF w p (12 + i) = pF w p (12 + j) → i = j) ∧
  (∀ i, i < nL w → lN_ w i 0 < nP w ∧ lN_ w i 1 < nH w ∧ isIn_ w (lN_ w i 0) = false) ∧
  (∀ p, p < nP w → pN w p 10 < 2 ^ nH w)
