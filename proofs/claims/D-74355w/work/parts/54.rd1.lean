/-! what is asked, first row: many, home, house, rule, why, bids, turn -/
def ir (a lo hi : Int32) : Bool := !decide (a < lo) && !decide (hi < a)
def an_many (w : Rw) (ac a : Int32) : Int32 × Int32 := if a = 0 then (w 230, 0) else if a = 1 then (w 231, 0) else if a = nI 2 then (w 232, 0) else if a = nI 3 then (w 233, 0) else if a = nI 4 then (nI (tot w), 0) else if a = nI 5 then (nI (cnN (isFr w) (nH w)), 0) else if a = nI 6 then (nI (cnN (isIn_ w) (nP w)), 0) else if a = nI 7 then (ac, 0) else if a = nI 8 then (w 298, 0) else if a = nI 9 then (w 299, 0) else (-1, 1)
def an_home (w : Rw) (a b : Int32) : Int32 × Int32 := if ir b 0 (nI 7) = false then (-1, 1) else if isHm w a = false then (-1, nI 2) else if b = 0 then (hF w a.toNatClampNeg 0, 0) else if b = 1 then (hF w a.toNatClampNeg 1, 0) else if b = nI 2 then (if hF w a.toNatClampNeg 2 = -1 then (-1, nI 5) else (hF w a.toNatClampNeg 2, 0)) else if b = nI 3 then (bI (isFr w a.toNatClampNeg), 0) else if b = nI 4 then (nI (cnN (fun p => iBd w p a.toNatClampNeg) (nP w)), 0) else if b = nI 5 then (hF w a.toNatClampNeg 4, 0) else (hF w a.toNatClampNeg b.toNatClampNeg, 0)
def an_house (w : Rw) (a b : Int32) : Int32 × Int32 := if ir b 0 (nI 11) = false ∧ ir b (nI 20) (nI 25) = false then (-1, 1) else if isHs w a = false then (-1, nI 2) else if ir b (nI 20) (nI 25) = true then (if b - nI 20 < pF w a.toNatClampNeg 11 then (pF w a.toNatClampNeg (12 + (b.toNatClampNeg - 20)), 0) else (-1, nI 5)) else if b = 0 then (pF w a.toNatClampNeg 0, 0) else if b = 1 then (bnI w a.toNatClampNeg, 0) else if b = nI 2 then (pF w a.toNatClampNeg 1, 0) else if b = nI 3 then (pF w a.toNatClampNeg 2, 0) else if b = nI 4 then (pF w a.toNatClampNeg 3, 0) else if b = nI 5 then (if pF w a.toNatClampNeg 4 = -1 then (-1, nI 5) else (pF w a.toNatClampNeg 4, 0)) else if b = nI 6 then (pF w a.toNatClampNeg 5, 0) else if b = nI 7 then (pF w a.toNatClampNeg 6, 0) else if b = nI 8 then (pF w a.toNatClampNeg 8, 0) else if b = nI 9 then (nI (pc (pN w a.toNatClampNeg 10)), 0) else if b = nI 10 then (pF w a.toNatClampNeg 11, 0) else (pF w a.toNatClampNeg 9, 0)
def an_rule (w : Rw) (a : Int32) : Int32 × Int32 := if ir a 0 (nI 5) = false then (-1, 1) else (w (224 + a.toNatClampNeg), 0)
def an_why (w : Rw) (a b : Int32) : Int32 × Int32 := if (isHs w a && isHm w b) = false then (-1, nI 2) else (nI (whN w a.toNatClampNeg b.toNatClampNeg), 0)
def an_bids (w : Rw) (a b : Int32) : Int32 × Int32 := if (isHs w a && isHm w b) = false then (-1, nI 2) else (bI (iBd w a.toNatClampNeg b.toNatClampNeg), 0)
def an_turn (w : Rw) (a b : Int32) : Int32 × Int32 := if ir b 0 1 = false then (-1, 1) else if isHm w a = false then (-1, nI 2) else if b = 0 then (bI (lcl w a.toNatClampNeg), 0) else (bI (qta w), 0)
/-- the reference's answers: value, nothing thrown, status -/
def rA (a : Int32 × Int32) : Option (Int32 × Int32 × Int32) := some (a.1, 0, a.2)
section PRD1
variable {w : Rw} {th st ac a b : Int32} {p x i : Nat}
theorem m_from (a lo hi : Int32) : f_X3_isFrom a lo hi = some (bI (ir a lo hi)) := m_isFrom a lo hi
theorem m_allBids (Z : Rng w) : f_X3_allBids w = some (nI (tot w)) := by
  obtain ⟨e1, e2⟩ := Z.gP
  refine (lp_up (fun n i s => f_X3_allBids_4 n w (nI s) (nI i)) (fun s => some (nI s)) (fun i s => s + pc (pN w i 10)) (nP w) ?_ ?_ FU 0 0 (Nat.zero_le _) (FU_lt (by omega)))
  · intro n s
    simp only [f_X3_allBids_4]
    rw [e1, if_pos (nI_leR _)]
  · intro n i s hi
    simp only [f_X3_allBids_4]
    have hb := Z.p10 (p := i) (by omega)
    rw [e1, if_neg (nI_ge hi (by omega)), m_of (by omega), Option.bind_some, hb.1, m_bits _ (by omega), Option.bind_some, nI_add, nI_1]
theorem m_many (Z : Rng w) : f_X3_many ac w th st a = rA (an_many w ac a) := by
  simp only [f_X3_many, m_allBids Z, m_freeOnes Z, m_inOnes Z, f_X3_gives, f_X3_refuse, Option.bind_some, an_many, rA]
  by_cases h0_ : a = 0
  · rw [if_pos h0_, if_pos h0_] <;> rfl
  rw [if_neg h0_, if_neg h0_]
  by_cases h1_ : a = 1
  · rw [if_pos h1_, if_pos h1_] <;> rfl
  rw [if_neg h1_, if_neg h1_]
  by_cases h2_ : a = nI 2
  · rw [if_pos h2_, if_pos h2_] <;> rfl
  rw [if_neg h2_, if_neg h2_]
  by_cases h3_ : a = nI 3
  · rw [if_pos h3_, if_pos h3_] <;> rfl
  rw [if_neg h3_, if_neg h3_]
  by_cases h4_ : a = nI 4
  · rw [if_pos h4_, if_pos h4_] <;> rfl
  rw [if_neg h4_, if_neg h4_]
  by_cases h5_ : a = nI 5
  · rw [if_pos h5_, if_pos h5_] <;> rfl
  rw [if_neg h5_, if_neg h5_]
  by_cases h6_ : a = nI 6
  · rw [if_pos h6_, if_pos h6_] <;> rfl
  rw [if_neg h6_, if_neg h6_]
  by_cases h7_ : a = nI 7
  · rw [if_pos h7_, if_pos h7_] <;> rfl
  rw [if_neg h7_, if_neg h7_]
  by_cases h8_ : a = nI 8
  · rw [if_pos h8_, if_pos h8_] <;> rfl
  rw [if_neg h8_, if_neg h8_]
  by_cases h9_ : a = nI 9
  · rw [if_pos h9_, if_pos h9_] <;> rfl
  rw [if_neg h9_, if_neg h9_]
theorem m_rule : f_X3_rule w th st a = rA (an_rule w a) := by
  simp only [f_X3_rule, m_from, f_X3_gives, f_X3_refuse, Option.bind_some, an_rule, rA, bI_0]
  by_cases hv : ir a 0 (nI 5) = false
  · rw [if_pos hv, if_pos hv]
  · rw [if_neg hv, if_neg hv]
    obtain ⟨x, hx, rfl⟩ := (rg_c (by decide)).mp (Bool.not_eq_false _ ▸ hv)
    rw [nI_add, gdn ⟨by omega, by decide⟩, nI_clamp (by omega), nI_clamp (by omega)]
theorem m_why (Z : Rng w) : f_X3_why w th st a b = rA (an_why w a b) := by
  simp only [f_X3_why, m_areOnes, f_X3_gives, f_X3_refuse, Option.bind_some, an_why, rA, bI_0]
  by_cases hv : (isHs w a && isHm w b) = false
  · rw [if_pos hv, if_pos hv]
  · rw [if_neg hv, if_neg hv]
    have hv' := Bool.not_eq_false _ ▸ hv
    rw [Bool.and_eq_true] at hv'
    obtain ⟨p, hp, rfl⟩ := (hs_t Z).mp hv'.1
    obtain ⟨x, hx, rfl⟩ := (hm_t Z).mp hv'.2
    have := Z.gP.2
    have := Z.gH.2
    have hb := Z.p10 (p := p) (by omega)
    rw [m_whyNot (by omega) (by omega) hb.1 (by omega), Option.bind_some, nI_clamp (by omega), nI_clamp (by omega)]
theorem m_bids (Z : Rng w) : f_X3_bids w th st a b = rA (an_bids w a b) := by
  simp only [f_X3_bids, m_areOnes, f_X3_gives, f_X3_refuse, Option.bind_some, an_bids, rA, bI_0, f_X3_bids_24]
  by_cases hv : (isHs w a && isHm w b) = false
  · rw [if_pos hv, if_pos hv]
  · rw [if_neg hv, if_neg hv]
    have hv' := Bool.not_eq_false _ ▸ hv
    rw [Bool.and_eq_true] at hv'
    obtain ⟨p, hp, rfl⟩ := (hs_t Z).mp hv'.1
    obtain ⟨x, hx, rfl⟩ := (hm_t Z).mp hv'.2
    have := Z.gP.2
    have := Z.gH.2
    rw [m_isBid (by omega), Option.bind_some, nI_clamp (by omega), nI_clamp (by omega)]
    cases iBd w p x <;> rfl
theorem m_turn (Z : Rng w) : f_X3_turn w th st a b = rA (an_turn w a b) := by
  simp only [f_X3_turn, m_from, m_isHome, f_X3_gives, f_X3_refuse, Option.bind_some, an_turn, rA, bI_0, f_X3_turn_57, m_isQuota Z]
  by_cases hv : ir b 0 1 = false
  · rw [if_pos hv, if_pos hv]
  rw [if_neg hv, if_neg hv]
  by_cases hh : isHm w a = false
  · rw [if_pos hh, if_pos hh]
  rw [if_neg hh, if_neg hh]
  obtain ⟨x, hx, rfl⟩ := (hm_t Z).mp (Bool.not_eq_false _ ▸ hh)
  have := Z.gH.2
  rw [m_isLocal Z (by omega), Option.bind_some, nI_clamp (by omega)]
  by_cases hb : b = 0
  · rw [if_pos hb, if_pos hb]; cases lcl w x <;> rfl
  · rw [if_neg hb, if_neg hb]; cases qta w <;> rfl
theorem m_home (Z : Rng w) : f_X3_home w th st a b = rA (an_home w a b) := by
  simp only [f_X3_home, m_from, m_isHome, f_X3_gives, f_X3_refuse, Option.bind_some, an_home, rA, bI_0, f_X3_home_133]
  by_cases hv : ir b 0 (nI 7) = false
  · rw [if_pos hv, if_pos hv]
  rw [if_neg hv, if_neg hv]
  by_cases hh : isHm w a = false
  · rw [if_pos hh, if_pos hh]
  rw [if_neg hh, if_neg hh]
  obtain ⟨x, hx, rfl⟩ := (hm_t Z).mp (Bool.not_eq_false _ ▸ hh)
  obtain ⟨k, hk, rfl⟩ := (rg_c (by decide)).mp (Bool.not_eq_false _ ▸ hv)
  have := Z.gH.2
  rw [m_h00 (by omega), m_h01 (by omega), m_h0 (k := 2) (by omega), m_h0 (k := 4) (by omega), m_h0 (k := k) (by omega), m_isFree (by omega), m_bidders Z]
  simp only [Option.bind_some, nI_clamp (show x < 2 ^ 31 by omega), nI_clamp (show k < 2 ^ 31 by omega), bI_0]
  by_cases h0_ : (nI k) = 0
  · rw [if_pos h0_, if_pos h0_] <;> rfl
  rw [if_neg h0_, if_neg h0_]
  by_cases h1_ : (nI k) = 1
  · rw [if_pos h1_, if_pos h1_] <;> rfl
  rw [if_neg h1_, if_neg h1_]
  by_cases h2 : nI k = nI 2
  · rw [if_pos h2, if_pos h2]; split <;> rfl
  rw [if_neg h2, if_neg h2]
  by_cases h3 : nI k = nI 3
  · rw [if_pos h3, if_pos h3]; cases isFr w x <;> rfl
  rw [if_neg h3, if_neg h3]
  by_cases h0_ : (nI k) = nI 4
  · rw [if_pos h0_, if_pos h0_] <;> rfl
  rw [if_neg h0_, if_neg h0_]
  by_cases h1_ : (nI k) = nI 5
  · rw [if_pos h1_, if_pos h1_] <;> rfl
  rw [if_neg h1_, if_neg h1_]
theorem m_house (Z : Rng w) : f_X3_house w th st a b = rA (an_house w a b) := by
  have h27 : ¬ (ir b 0 (nI 11) = false ∧ ir b (nI 20) (nI 25) = false) → f_X3_house_27 w a b th st = rA (an_house w a b) := by
    intro hv
    simp only [f_X3_house_27, m_isHouse, f_X3_gives, f_X3_refuse, Option.bind_some, an_house, rA, bI_0]
    rw [if_neg hv]
    by_cases hh : isHs w a = false
    · rw [if_pos hh, if_pos hh]
    rw [if_neg hh, if_neg hh]
    obtain ⟨p, hp, rfl⟩ := (hs_t Z).mp (Bool.not_eq_false _ ▸ hh)
    have := Z.gP.2
    have h11 := Z.p11 (p := p) (by omega)
    by_cases h20 : ir b (nI 20) (nI 25) = true
    · rw [if_pos h20]
      have hb : ∃ k, k < 6 ∧ b = nI (20 + k) := by
        have h20' := h20
        unfold ir at h20'
        rw [Bool.and_eq_true, Bool.not_eq_true', Bool.not_eq_true', decide_eq_false_iff_not, decide_eq_false_iff_not] at h20'
        obtain ⟨j, hj, rfl⟩ := nI_of (show ¬ b < 0 from fun z => h20'.1 (Int32.lt_trans z (by decide)))
        have h1 : 20 ≤ j := Nat.not_lt.mp (fun z => h20'.1 (nI_lt z (by decide)))
        have h2 : j ≤ 25 := Nat.not_lt.mp (fun z => h20'.2 (nI_lt z hj))
        exact ⟨j - 20, by omega, by rw [show 20 + (j - 20) = j by omega]⟩
      obtain ⟨k, hk, rfl⟩ := hb
      rw [if_neg (nI_nlt (by omega) (by omega)), show nI (20 + k) - nI 20 = nI k by rw [← nI_add]; grind, m_of (by omega), nI_add, show nI (12 + (20 + k)) - nI 20 = nI (12 + k) by rw [show 12 + (20 + k) = 20 + (12 + k) by omega, ← nI_add]; grind, m_of (by omega)]
      simp only [Option.bind_some, nI_clamp (show p < 2 ^ 31 by omega), nI_clamp (show 20 + k < 2 ^ 31 by omega)]
      rw [show 20 + k - 20 = k by omega]
      by_cases hw : nI k < pF w p 11
      · rw [if_neg (Int32.not_le.mpr hw), if_pos hw]
      · rw [if_pos (Int32.not_lt.mp hw), if_neg hw]
    · rw [if_neg h20]
      have h20f := Bool.eq_false_iff.mpr h20
      have h0 : ir b 0 (nI 11) = true := by
        cases hz : ir b 0 (nI 11) with
        | true => rfl
        | false => exact absurd ⟨hz, h20f⟩ hv
      obtain ⟨k, hk, rfl⟩ := (rg_c (by decide)).mp h0
      rw [if_pos (nI_lt (by omega) (by omega)), m_of0 (by omega), m_bandNow (by omega) Z.gA.2.2.2, m_of1 (by omega), m_of (k := 2) (by omega), m_of (k := 3) (by omega), m_of (k := 4) (by omega), m_of (k := 5) (by omega), m_of (k := 6) (by omega), m_of (k := 8) (by omega), m_of (k := 10) (by omega), m_of (k := 11) (by omega), m_of (k := 9) (by omega)]
      have hb := Z.p10 (p := p) (by omega)
      simp only [Option.bind_some, nI_clamp (show p < 2 ^ 31 by omega)]
      rw [hb.1, m_bits _ (by omega)]
      simp only [Option.bind_some]
      by_cases h0_ : (nI k) = 0
      · rw [if_pos h0_, if_pos h0_] <;> rfl
      rw [if_neg h0_, if_neg h0_]
      by_cases h1_ : (nI k) = 1
      · rw [if_pos h1_, if_pos h1_] <;> rfl
      rw [if_neg h1_, if_neg h1_]
      by_cases h2_ : (nI k) = nI 2
      · rw [if_pos h2_, if_pos h2_] <;> rfl
      rw [if_neg h2_, if_neg h2_]
      by_cases h3_ : (nI k) = nI 3
      · rw [if_pos h3_, if_pos h3_] <;> rfl
      rw [if_neg h3_, if_neg h3_]
      by_cases h4_ : (nI k) = nI 4
      · rw [if_pos h4_, if_pos h4_] <;> rfl
      rw [if_neg h4_, if_neg h4_]
      by_cases h5 : nI k = nI 5
      · rw [if_pos h5, if_pos h5]; split <;> rfl
      rw [if_neg h5, if_neg h5]
      by_cases h0_ : (nI k) = nI 6
      · rw [if_pos h0_, if_pos h0_] <;> rfl
      rw [if_neg h0_, if_neg h0_]
      by_cases h1_ : (nI k) = nI 7
      · rw [if_pos h1_, if_pos h1_] <;> rfl
      rw [if_neg h1_, if_neg h1_]
      by_cases h2_ : (nI k) = nI 8
      · rw [if_pos h2_, if_pos h2_] <;> rfl
      rw [if_neg h2_, if_neg h2_]
      by_cases h3_ : (nI k) = nI 9
      · rw [if_pos h3_, if_pos h3_] <;> rfl
      rw [if_neg h3_, if_neg h3_]
      by_cases h4_ : (nI k) = nI 10
      · rw [if_pos h4_, if_pos h4_] <;> rfl
      rw [if_neg h4_, if_neg h4_]
  simp only [f_X3_house, m_from, Option.bind_some, bI_0, f_X3_refuse]
  by_cases h1 : ir b 0 (nI 11) = false
  · rw [if_pos h1]
    by_cases h2 : ir b (nI 20) (nI 25) = false
    · rw [if_pos h2]
      unfold an_house
      rw [if_pos ⟨h1, h2⟩]
      rfl
    · rw [if_neg h2]; exact h27 (fun z => h2 z.2)
  · rw [if_neg h1]; exact h27 (fun z => h1 z.1)
end PRD1
