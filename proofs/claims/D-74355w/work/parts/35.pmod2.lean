/-! THE REFERENCE's side: loops of readers -/
section PM2
variable {w : Rw} {p h k i : Nat}
theorem eO_find (o : Option Nat) : (match o with | some j => some (nI j) | none => some (-1)) = some (eO o) := by cases o <;> rfl
theorem m_wishOf (Z : Rng w) (hp : p < 8) : f_X3_wishOf w (nI p) (nI h) = some (eO (wsh w p h)) := by
  obtain ⟨e1, e2⟩ := Z.p11 hp
  refine (lp_fd (fun n i => f_X3_wishOf_2 n w (nI p) (nI h) (nI i)) (fun i => some (nI i)) (some (-1)) (fun k => decide (pF w p (12 + k) = nI h)) (pN w p 11) ?_ ?_ FU 0 (Nat.zero_le _) (FU_lt (by omega))).trans (eO_find _)
  · intro n
    simp only [f_X3_wishOf_2]
    rw [m_of (by omega), Option.bind_some, e1, if_pos (nI_leR _)]
  · intro n i hi
    simp only [f_X3_wishOf_2]
    rw [m_of (by omega), Option.bind_some, e1, if_neg (nI_ge hi (by omega)), nI_add, m_of (by omega), Option.bind_some]
    by_cases hb : pF w p (12 + i) = nI h
    · rw [if_pos hb, if_pos (decide_eq_true hb)]
    · rw [if_neg hb, if_neg (by simpa using hb), nI_1]
theorem eO_m1 {o : Option Nat} (h : ∀ q, o = some q → q < 2 ^ 31) : (eO o = -1) ↔ o = none := by
  cases o with
  | none => simp [eO]
  | some q => simp [eO, nI_m1 (h q rfl)]
theorem wsh_lt {q : Nat} (hq : wsh w p h = some q) : q < pN w p 11 := by
  have := fdN_some hq
  omega
theorem m_wouldTake (Z : Rng w) (hp : p < 8) : f_X3_wouldTake w (nI p) (nI h) = some (bI (wTk w p h)) := by
  have e := Z.p11 hp
  simp (disch := omega) only [f_X3_wouldTake, m_of, m_wishOf Z hp, Option.bind_some, wTk]
  have key := eO_m1 (o := wsh w p h) (fun q hq => by have := wsh_lt hq; omega)
  by_cases h1 : pF w p 11 = 0
  · simp [h1, bI]
  · rw [if_neg h1, decide_eq_false h1]
    cases h2 : wsh w p h with
    | none => rw [if_pos (h2 ▸ key.mpr h2)]; rfl
    | some q => rw [if_neg (fun z => by rw [← h2] at z; rw [key.mp z] at h2; cases h2)]; rfl
theorem m_couldHave (Z : Rng w) (hp : p < 8) (hh : h < 48) : f_X3_couldHave w (nI p) (nI h) = some (bI (cHv w p h)) := by
  simp (disch := omega) only [f_X3_couldHave, m_mayHope, m_doesFit, m_wouldTake Z hp, Option.bind_some, bI_0, cHv]
  cases mayH w p <;> cases dFit w p h <;> cases wTk w p h <;> simp [bI]
theorem m_bidders (Z : Rng w) : f_X3_bidders w (nI h) = some (nI (cnN (fun p => iBd w p h) (nP w))) := by
  obtain ⟨e1, e2⟩ := Z.gP
  refine (lp_up (fun n i s => f_X3_bidders_4 n w (nI h) (nI s) (nI i)) (fun s => some (nI s)) (fun i s => s + if iBd w i h = true then 1 else 0) (nP w) ?_ ?_ FU 0 0 (Nat.zero_le _) (FU_lt (by omega)))
  · intro n s
    simp only [f_X3_bidders_4]
    rw [e1, if_pos (nI_leR _)]
  · intro n i s hi
    simp only [f_X3_bidders_4]
    rw [e1, if_neg (nI_ge hi (by omega)), m_isBid (by omega), Option.bind_some]
    by_cases hb : iBd w i h = true <;> simp [hb, bI, nI_1]
theorem m_biddersOf (Z : Rng w) : f_X3_biddersOf w (nI h) = some (nI (stN (fun p => iBd w p h) (nP w))) := by
  obtain ⟨e1, e2⟩ := Z.gP
  have key := lp_upI (fun n i s => f_X3_biddersOf_4 n w (nI h) (nI s) (nI i)) (fun s => some (nI s)) (fun p s => if iBd w p h = true then s ||| 2 ^ p else s) (nP w) (fun i s => i ≤ 8 ∧ s < 1024) ?_ ?_ ?_ FU 0 0 (Nat.zero_le _) (FU_lt (by omega)) ⟨by omega, by omega⟩
  · exact key.1
  · intro n s _
    simp only [f_X3_biddersOf_4]
    rw [e1, if_pos (nI_leR _)]
  · intro n i s hi hs
    simp only [f_X3_biddersOf_4]
    rw [e1, if_neg (nI_ge hi (by omega)), m_isBid (by omega), Option.bind_some, or_0, or_n s hs.2 i (by omega), nI_1]
    by_cases hb : iBd w i h = true <;> simp [hb, bI]
  · intro i s hi hs
    refine ⟨by omega, ?_⟩
    show (if iBd w i h = true then s ||| 2 ^ i else s) < 1024
    split
    · exact or_lt (m := 10) hs.2 (by omega)
    · exact hs.2
theorem m_livedLets (Z : Rng w) : f_X3_livedLets w = some (nI (lvd w)) := by
  obtain ⟨e1, e2⟩ := Z.gL
  refine (lp_up (fun n i s => f_X3_livedLets_4 n w (nI s) (nI i)) (fun s => some (nI s)) (fun i s => s + if lvb w i = true then 1 else 0) (nL w) ?_ ?_ FU 0 0 (Nat.zero_le _) (FU_lt (by omega)))
  · intro n s
    simp only [f_X3_livedLets_4]
    rw [e1, if_pos (nI_leR _)]
  · intro n i s hi
    simp only [f_X3_livedLets_4]
    rw [e1, if_neg (nI_ge hi (by omega)), m_l0 (by omega), Option.bind_some, nI_1]
    have key : lF w i 5 >>> (1 &&& 31) = nI (if lvb w i = true then 1 else 0) := by
      obtain ⟨h1, h2⟩ := Z.l5 (i := i) (by omega)
      unfold lvb
      rw [h1]
      have : ∀ n, n ≤ 3 → nI n >>> (1 &&& 31) = nI (if (!decide (nI n >>> (1 &&& 31) = 0)) = true then 1 else 0) := by decide +kernel
      exact this _ h2
    rw [key, nI_add]
theorem m_isQuota (Z : Rng w) : f_X3_isQuota w = some (bI (qta w)) := by
  simp only [f_X3_isQuota, m_livedLets Z, Option.bind_some, qta]
  by_cases hb : w 227 * w 233 ≤ nI 100 * nI (lvd w)
  · rw [if_pos hb, decide_eq_false (Int32.not_lt.mpr hb)]; rfl
  · rw [if_neg hb, decide_eq_true (Int32.not_le.mp hb)]; rfl
theorem m_isLocal (Z : Rng w) (hh : h < 10) : f_X3_isLocal w (nI h) = some (bI (lcl w h)) := by
  obtain ⟨e1, e2⟩ := Z.gL
  unfold f_X3_isLocal lcl
  by_cases h0 : w 226 = 0
  · rw [if_pos h0, decide_eq_true h0]; rfl
  rw [if_neg h0, decide_eq_false h0]
  refine (lp_up (fun n i s => f_X3_isLocal_17 n w (nI h) (nI (s + 1)) (nI i)) (fun s => some (bI (decide (nI (s + 1) - nI (s + 1) / w 226 * w 226 = 0)))) (fun i s => s + if decide (hF w (lN_ w i 1) 1 = hF w h 1) = true then 1 else 0) (nL w) ?_ ?_ FU 0 0 (Nat.zero_le _) (FU_lt (by omega)))
  · intro n s
    simp only [f_X3_isLocal_17]
    rw [e1, if_pos (nI_leR _), gd_e (show nz32 (w 226) = true from decide_eq_true h0)]
    exact bI_ite _
  · intro n i s hi
    simp only [f_X3_isLocal_17]
    have hl1 := Z.l1 (i := i) (by omega)
    rw [e1, if_neg (nI_ge hi (by omega)), m_l01 (by omega), Option.bind_some, hl1.1, m_h01 (by omega), m_h01 (by omega), Option.bind_some, Option.bind_some, nI_1, nI_1, iadd0]
    by_cases hb : hF w (lN_ w i 1) 1 = hF w h 1
    · rw [if_pos hb, decide_eq_true hb, if_pos rfl, Nat.add_right_comm]
    · rw [if_neg hb, decide_eq_false hb]; rfl
theorem m_freeOnes (Z : Rng w) : f_X3_freeOnes w = some (nI (cnN (isFr w) (nH w))) := by
  obtain ⟨hH, hH2⟩ := Z.gH
  obtain ⟨hP, hP2⟩ := Z.gP
  refine (lp_up (fun n i s => f_X3_freeOnes_4 n w (nI s) (nI i)) (fun s => some (nI s)) (fun i s => s + if isFr w i = true then 1 else 0) (nH w) ?_ ?_ FU 0 0 (Nat.zero_le _) (FU_lt (by omega)))
  · intro n s
    simp only [f_X3_freeOnes_4]
    rw [hH, if_pos (nI_leR _)]
  · intro n i s hi
    simp only [f_X3_freeOnes_4]
    rw [hH, if_neg (nI_ge hi (by omega)), m_isFree (by omega), Option.bind_some]
    by_cases hb : isFr w i = true <;> simp [hb, bI, nI_1]
theorem m_inOnes (Z : Rng w) : f_X3_inOnes w = some (nI (cnN (isIn_ w) (nP w))) := by
  obtain ⟨hH, hH2⟩ := Z.gH
  obtain ⟨hP, hP2⟩ := Z.gP
  refine (lp_up (fun n i s => f_X3_inOnes_4 n w (nI s) (nI i)) (fun s => some (nI s)) (fun i s => s + if isIn_ w i = true then 1 else 0) (nP w) ?_ ?_ FU 0 0 (Nat.zero_le _) (FU_lt (by omega)))
  · intro n s
    simp only [f_X3_inOnes_4]
    rw [hP, if_pos (nI_leR _)]
  · intro n i s hi
    simp only [f_X3_inOnes_4]
    rw [hP, if_neg (nI_ge hi (by omega)), m_isIn (by omega), Option.bind_some]
    by_cases hb : isIn_ w i = true <;> simp [hb, bI, nI_1]
end PM2
