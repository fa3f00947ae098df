/-! THE REFERENCE's side: weights, firsts -/
section PM3
variable {w : Rw} {p h k i : Nat}
theorem mx_n {b q : Nat} (hb : b < 2 ^ 30) (hq : q < 2 ^ 30) : mx32 1 (nI b - nI q) = nI (max 1 (b - q)) := by
  unfold mx32
  by_cases h : q ≤ b
  · rw [pk_sub h]
    by_cases h2 : 1 < b - q
    · rw [if_pos (show (1 : Int32) < nI (b - q) from nI_lt (a := 1) h2 (by omega)), Nat.max_eq_right (by omega)]
    · rw [if_neg (show ¬ (1 : Int32) < nI (b - q) from nI_nlt (b := b - q) (a := 1) (by omega) (by decide)), Nat.max_eq_left (by omega)]; rfl
  · have h3 := pk_sneg hq (show b < q by omega)
    rw [if_neg (fun h4 => by
      rw [Int32.lt_iff_toInt_lt] at h3 h4
      have e1 : (1 : Int32).toInt = 1 := by decide
      have e0 : (0 : Int32).toInt = 0 := by decide
      omega), Nat.max_eq_left (by omega)]; rfl
theorem wtI_n (Z : Rng w) (hp : p < 8) : wtI w p = nI (wtd w p) ∧ wtd w p ≤ 7993 := by
  obtain ⟨e1, e2⟩ := Z.gW
  obtain ⟨f1, f2⟩ := Z.p3 hp
  unfold wtI wtd
  rw [e1, f1, pk_mul, nI_add, pk_sub (by omega)]
  exact ⟨rfl, by omega⟩
theorem bn_n (Z : Rng w) (hp : p < 8) : bnI w p = nI (bnd w p) ∧ 1 ≤ bnd w p ∧ bnd w p ≤ 4 := by
  obtain ⟨e1, e2⟩ := wtI_n Z hp
  obtain ⟨f1, f2⟩ := Z.p0 hp
  obtain ⟨g1, g2, g3, g4⟩ := Z.gA
  unfold bnI bnd
  have hd : wtd w p / wN w 228 ≤ wtd w p := Nat.div_le_self _ _
  rw [e1, f1, show w 228 = nI (wN w 228) from g1, pk_div (by omega) (by omega) (by omega), mx_n (by omega) (by omega)]
  exact ⟨rfl, Nat.le_max_left _ _, Nat.max_le.mpr ⟨by omega, Nat.le_trans (Nat.sub_le _ _) f2⟩⟩
theorem m_weight3 (Z : Rng w) (hp : p < 8) (hh : h < 10) {band : Nat} (hb : band ≤ 4) : f_X3_weight_2 w (nI p) (nI h) (nI band) = some (nI (wt3 w p h band)) := by
  obtain ⟨f1, f2⟩ := Z.p3 hp
  have key : ∀ (x y : Nat), f_X3_weight_2_52 w (nI p) (nI band) (nI x) (nI y) = some (nI ((((2 * x + y) * 5 + band) * 1000 + pN w p 3) * 8 + p)) := by
    intro x y
    simp only [f_X3_weight_2_52]
    rw [m_of (by omega), Option.bind_some, f1]
    simp only [pk_mul, nI_add]
  have k0 := fun x => key x 0
  have k1 := fun x => key x 1
  have key2 : ∀ (x : Nat), f_X3_weight_2_28 w (nI p) (nI band) (nI x) = some (nI ((((2 * x + (if qta w = true ∧ pF w p 4 = -1 then 1 else 0)) * 5 + band) * 1000 + pN w p 3) * 8 + p)) := by
    intro x
    simp only [f_X3_weight_2_28, m_isQuota Z, Option.bind_some, bI_0]
    rw [m_of (by omega), Option.bind_some]
    cases hq : qta w
    · rw [if_pos rfl, if_neg (by simp)]; exact k0 x
    · rw [if_neg (by simp)]
      by_cases h4 : pF w p 4 = -1
      · rw [if_pos h4, if_pos ⟨rfl, h4⟩]; exact k1 x
      · rw [if_neg h4, if_neg (fun z => h4 z.2)]; exact k0 x
  unfold wt3
  simp only [f_X3_weight_2, m_isLocal Z hh, Option.bind_some, bI_0]
  rw [m_of (by omega), Option.bind_some, m_h01 (by omega), Option.bind_some]
  cases hl : lcl w h
  · rw [if_pos rfl]; exact key2 0
  · rw [if_neg (by simp)]
    by_cases h4 : pF w p 2 = hF w h 1
    · rw [if_pos h4, if_neg (fun z => z.2 h4)]; exact key2 0
    · rw [if_neg h4, if_pos ⟨rfl, h4⟩]; exact key2 1
theorem wt3_lt (Z : Rng w) (hp : p < 8) {band : Nat} (hb : band ≤ 4) : wt3 w p h band < 160000 := by
  obtain ⟨f1, f2⟩ := Z.p3 hp
  unfold wt3
  split <;> split <;> omega
theorem m_weight (Z : Rng w) (hp : p < 8) (hh : h < 10) : f_X3_weight w (nI p) (nI h) = some (nI (wgt w h p)) := by
  obtain ⟨e1, e2, e3⟩ := bn_n Z hp
  simp only [f_X3_weight, m_bandNow (show p < 17 by omega) Z.gA.2.2.2, Option.bind_some, e1, m_weight3 Z hp hh e3]
  rfl
theorem wgt_lt (Z : Rng w) (hp : p < 8) : wgt w h p < 160000 := wt3_lt Z hp (bn_n Z hp).2.2
theorem m_firstOf (Z : Rng w) {st : Nat} (hs : st < 1024) (hh : h < 10) : f_X3_firstOf w (nI st) (nI h) = some (eO (am (fun p => st.testBit p) (wgt w h) (nP w))) := by
  obtain ⟨e1, e2⟩ := Z.gP
  have key := lp_upI (fun n i s => f_X3_firstOf_5 n w (nI st) (nI h) (eO s) (nI i)) (fun s => some (eO s)) (amF (fun p => st.testBit p) (wgt w h)) (nP w) (fun i s => ∀ q, s = some q → q < i) ?_ ?_ ?_ FU 0 none (Nat.zero_le _) (FU_lt (by omega)) (fun q hq => by cases hq)
  · exact key.1
  · intro n s _
    simp only [f_X3_firstOf_5]
    rw [e1, if_pos (nI_leR _)]
  · intro n i s hi hs2
    simp only [f_X3_firstOf_5]
    rw [e1, if_neg (nI_ge hi (by omega)), nI_1]
    have hb := btN st hs i (by omega)
    unfold bt at hb
    unfold amF
    cases ht : st.testBit i
    · rw [ht] at hb
      rw [if_neg (of_decide_eq_false hb), if_neg (by simp [ht])]
    · rw [ht] at hb
      rw [if_pos (of_decide_eq_true hb), if_pos ht]
      cases s with
      | none => rw [if_pos (show eO none = -1 from rfl)]; rfl
      | some q =>
        have hq := hs2 q rfl
        rw [if_neg (show ¬ eO (some q) = -1 from nI_m1 (by omega)), m_weight Z (by omega) hh, Option.bind_some]
        rw [show eO (some q) = nI q from rfl, m_weight Z (by omega) hh, Option.bind_some]
        have b1 := wgt_lt (h := h) Z (p := i) (by omega)
        have b2 := wgt_lt (h := h) Z (p := q) (by omega)
        by_cases hk : wgt w h i < wgt w h q
        · rw [if_neg (nI_ge hk (by omega))]
          simp only [if_pos hk]; rfl
        · rw [if_pos (nI_le (by omega) (by omega))]
          simp only [if_neg hk]; rfl
  · intro i s hi hs2 q hq
    unfold amF at hq
    split at hq
    · cases s with
      | none => cases hq; omega
      | some r =>
        have := hs2 r rfl
        dsimp only at hq
        split at hq <;> (cases hq; omega)
    · have := hs2 q hq; omega
end PM3
