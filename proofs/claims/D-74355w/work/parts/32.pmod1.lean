/-! THE REFERENCE's side: small readers -/
section PM1
variable {w : Rw} {p h k i : Nat}
theorem m_at : f_X3_at (nI p) (nI k) = some (nI (80 + 18 * p + k)) := by
  simp only [f_X3_at, pk_mul, nI_add]
theorem m_of (hk : 80 + 18 * p + k < 390) : f_X3_of w (nI p) (nI k) = some (pF w p k) := by
  simp only [f_X3_of, m_at, Option.bind_some]
  rw [gdn ⟨hk, by decide⟩, nI_clamp (by omega)]
  rfl
theorem m_of0 (hk : p < 17) : f_X3_of w (nI p) 0 = some (pF w p 0) := m_of (k := 0) (by omega)
theorem m_of1 (hk : p < 17) : f_X3_of w (nI p) 1 = some (pF w p 1) := m_of (k := 1) (by omega)
theorem m_h0 (hk : 8 * h + k < 390) : f_X3_home0 w (nI h) (nI k) = some (hF w h k) := by
  simp only [f_X3_home0, pk_mul, nI_add]
  rw [gdn ⟨hk, by decide⟩, nI_clamp (by omega)]
  rfl
theorem m_h00 (hk : h < 48) : f_X3_home0 w (nI h) 0 = some (hF w h 0) := m_h0 (k := 0) (by omega)
theorem m_h01 (hk : h < 48) : f_X3_home0 w (nI h) 1 = some (hF w h 1) := m_h0 (k := 1) (by omega)
theorem m_l0 (hk : 234 + 8 * i + k < 390) : f_X3_let0 w (nI i) (nI k) = some (lF w i k) := by
  simp only [f_X3_let0, pk_mul, nI_add]
  rw [gdn ⟨hk, by decide⟩, nI_clamp (by omega)]
  rfl
theorem m_l00 (hk : i < 19) : f_X3_let0 w (nI i) 0 = some (lF w i 0) := m_l0 (k := 0) (by omega)
theorem m_l01 (hk : i < 19) : f_X3_let0 w (nI i) 1 = some (lF w i 1) := m_l0 (k := 1) (by omega)
theorem m_isFree (hh : h < 48) : f_X3_isFree w (nI h) = some (bI (isFr w h)) := by
  simp (disch := omega) only [f_X3_isFree, m_h0, Option.bind_some, isFr]
  by_cases h1 : hF w h 2 = -1 <;> by_cases h2 : hF w h 3 = 0 <;> by_cases h3 : hF w h 6 = 0 <;> simp [h1, h2, h3, bI]
theorem m_isIn (hp : p < 17) : f_X3_isIn w (nI p) = some (bI (isIn_ w p)) := by
  simp (disch := omega) only [f_X3_isIn, m_of, Option.bind_some, isIn_, bI_ite]
theorem m_mayHope (hp : p < 17) : f_X3_mayHope w (nI p) = some (bI (mayH w p)) := by
  simp (disch := omega) only [f_X3_mayHope, m_isIn, m_of, Option.bind_some, mayH, bI_0]
  by_cases h1 : isIn_ w p = true <;> by_cases h2 : pF w p 6 = 0 <;> simp [h1, h2, bI]
theorem m_isBid (hp : p < 17) : f_X3_isBid w (nI p) (nI h) = some (bI (iBd w p h)) := by
  simp (disch := omega) only [f_X3_isBid, m_of, Option.bind_some]
  exact bI_ite _
theorem m_isFrom (a b c : Int32) : f_X3_isFrom a b c = some (bI (!decide (a < b) && !decide (c < a))) := by
  unfold f_X3_isFrom
  by_cases h1 : a < b <;> by_cases h2 : c < a <;> simp [h1, h2, bI]
theorem m_doesFit (hp : p < 17) (hh : h < 48) : f_X3_doesFit w (nI p) (nI h) = some (bI (dFit w p h)) := by
  simp (disch := omega) only [f_X3_doesFit, m_h00, m_of1, m_isFrom, Option.bind_some]
  rfl
theorem m_max (a b : Int32) : f_J6_max a b = some (mx32 a b) := by
  unfold f_J6_max mx32
  split <;> rfl
theorem m_bandNow (hp : p < 17) (ha : ¬ w 228 = 0) : f_X3_bandNow w (nI p) = some (bnI w p) := by
  simp (disch := omega) only [f_X3_bandNow, m_of0, m_of, m_max, Option.bind_some]
  rw [gd_e (show nz32 (w 228) = true from decide_eq_true ha)]
  rfl
theorem m_bits : ∀ n, n < 1024 → f_X3_bits (nI n) = some (nI (pc n)) := by decide +kernel
def whN (w : Rw) (p h : Nat) : Nat := if isIn_ w p = false then 1 else if 0 < pF w p 6 then 2 else if isFr w h = false then 3 else if dFit w p h = false then 4 else if iBd w p h = true then 5 else if nI (pc (pN w p 10)) < w 229 then 0 else 6
theorem m_whyNot (hp : p < 17) (hh : h < 48) (hb : pF w p 10 = nI (pN w p 10)) (hb2 : pN w p 10 < 1024) : f_X3_whyNot w (nI p) (nI h) = some (nI (whN w p h)) := by
  simp (disch := omega) only [f_X3_whyNot, m_isIn, m_of, m_isFree, m_doesFit, m_isBid, Option.bind_some, bI_0, whN]
  by_cases h1 : isIn_ w p = false
  · rw [if_pos h1, if_pos h1]; rfl
  rw [if_neg h1, if_neg h1]
  by_cases h2 : pF w p 6 ≤ 0
  · rw [if_pos h2, if_neg (Int32.not_lt.mpr h2)]
    by_cases h3 : isFr w h = false
    · rw [if_pos h3, if_pos h3]
    rw [if_neg h3, if_neg h3]
    by_cases h4 : dFit w p h = false
    · rw [if_pos h4, if_pos h4]
    rw [if_neg h4, if_neg h4]
    by_cases h5 : iBd w p h = true
    · rw [if_neg (by rw [h5]; nofun), if_pos h5]
    rw [if_pos (Bool.eq_false_iff.mpr h5), if_neg h5, hb, m_bits _ hb2, Option.bind_some]
    split <;> rfl
  · rw [if_neg h2, if_pos (Int32.not_le.mp h2)]
theorem nI_leR (n : Nat) : nI n ≤ nI n := Int32.le_refl _
end PM1
