/-! THE REFERENCE's side: a home is taken -/
/-- a loop along a known row of states -/
theorem lp_sq {S R : Type} (F : Nat → Nat → S → Option R) (s : Nat → S) (r : Option R) (N : Nat) (h0 : ∀ n, F (n + 1) N (s N) = r) (h1 : ∀ n i, i < N → F (n + 1) i (s i) = F n (i + 1) (s (i + 1))) : ∀ n i, i ≤ N → N - i < n → F n i (s i) = r
  | 0, _, _, h => absurd h (by omega)
  | n + 1, i, hi, hn => by
    by_cases h : i < N
    · rw [h1 n i h]; exact lp_sq F s r N h0 h1 n (i + 1) (by omega) (by omega)
    · have : i = N := by omega
      subst this
      exact h0 n
section AG
variable {w w' : Rw} {p h k i x : Nat}
def Agr (w w' : Rw) : Prop := ∀ i, i < 234 + 8 * nL w → w' i = w i
theorem ag_p (A : Agr w w') (hp : p < 8) (hk : k < 18) : pF w' p k = pF w p k := A _ (by omega)
theorem ag_h (A : Agr w w') (hh : h < 10) (hk : k < 8) : hF w' h k = hF w h k := A _ (by omega)
theorem ag_l (A : Agr w w') (hi : i < nL w) (hk : k < 8) : lF w' i k = lF w i k := A _ (by omega)
theorem ag_nL (A : Agr w w') : nL w' = nL w := by unfold nL wN; rw [A 233 (by omega)]
theorem ag_nP (A : Agr w w') : nP w' = nP w := by unfold nP wN; rw [A 231 (by omega)]
theorem ag_nH (A : Agr w w') : nH w' = nH w := by unfold nH wN; rw [A 230 (by omega)]
theorem ag_lcl (A : Agr w w') (Z : Rng w) (hx : x < 10) : lcl w' x = lcl w x := by
  have e8 := Z.gL.2
  have key : lcN w' (hF w' x 1) = lcN w (hF w x 1) := by
    unfold lcN
    rw [(ag_nL A), ag_h A hx (by decide)]
    refine cnN_c _ (fun j hj => ?_)
    have h1 : lN_ w' j 1 = lN_ w j 1 := by unfold lN_; rw [ag_l A hj (by decide)]
    have h2 := (Z.l1 (i := j) (by omega)).2
    rw [h1, ag_h A (by omega) (by decide)]
  unfold lcl
  rw [key, A 226 (by omega)]
theorem ag_qta (A : Agr w w') : qta w' = qta w := by
  have key : lvd w' = lvd w := by
    unfold lvd
    rw [(ag_nL A)]
    refine cnN_c _ (fun j hj => ?_)
    unfold lvb
    rw [ag_l A hj (by decide)]
  unfold qta
  rw [key, A 227 (by omega), A 233 (by omega)]
theorem ag_bn (A : Agr w w') (hp : p < 8) : bnI w' p = bnI w p := by
  unfold bnI wtI
  rw [ag_p A hp (by decide), ag_p A hp (by decide), A 232 (by omega), A 228 (by omega)]
theorem ag_mh (A : Agr w w') (hp : p < 8) : mayH w' p = mayH w p := by
  unfold mayH isIn_
  rw [ag_p A hp (by decide), ag_p A hp (by decide)]
theorem ag_ib (A : Agr w w') (hp : p < 8) : iBd w' p x = iBd w p x := by
  unfold iBd
  rw [ag_p A hp (by decide)]
end AG
def cnd (m : Rw) (h : Nat) (band : Int32) (q : Nat) : Bool := iBd m q h && mayH m q && decide (bnI m q < band)
def psj (m : Rw) (h : Nat) (band : Int32) (j : Nat) : Rw := fun i => if 80 ≤ i ∧ i < 80 + 18 * j ∧ (i - 80) % 18 = 9 ∧ cnd m h band ((i - 80) / 18) = true then m i + 1 else m i
section PS
variable {m : Rw} {h j i q k : Nat} {band : Int32}
theorem psj_o (hi : i < 80 ∨ 80 + 18 * j ≤ i ∨ ¬ (i - 80) % 18 = 9) : psj m h band j i = m i := by
  unfold psj; rw [if_neg (by omega)]
theorem psj_0 : psj m h band 0 = m := funext fun i => psj_o (by omega)
theorem psj_p (hk : k < 18) (h9 : k ≠ 9) : pF (psj m h band j) q k = pF m q k := by
  unfold pF; exact psj_o (by omega)
theorem psj_9 : pF (psj m h band j) q 9 = if q < j ∧ cnd m h band q = true then pF m q 9 + 1 else pF m q 9 := by
  unfold pF psj
  have h1 : (80 + 18 * q + 9 - 80) / 18 = q := by omega
  rw [h1]
  by_cases hq : q < j ∧ cnd m h band q = true
  · rw [if_pos ⟨by omega, by omega, by omega, hq.2⟩, if_pos hq]
  · rw [if_neg (fun z => hq ⟨by omega, z.2.2.2⟩), if_neg hq]
theorem psj_1 : psj m h band (j + 1) = if cnd m h band j = true then upd (psj m h band j) (80 + 18 * j + 9) (pF (psj m h band j) j 9 + 1) else psj m h band j := by
  funext i
  by_cases hi : i = 80 + 18 * j + 9
  · subst hi
    have h1 : psj m h band j (80 + 18 * j + 9) = m (80 + 18 * j + 9) := psj_o (by omega)
    have h2 : (80 + 18 * j + 9 - 80) / 18 = j := by omega
    by_cases hc : cnd m h band j = true
    · rw [if_pos hc, upd_s]
      unfold pF
      rw [h1]
      unfold psj
      rw [h2, if_pos ⟨by omega, by omega, by omega, hc⟩]
    · rw [if_neg hc, h1]
      unfold psj
      rw [h2, if_neg (fun z => hc z.2.2.2)]
  · have h1 : psj m h band (j + 1) i = psj m h band j i := by
      unfold psj
      by_cases hc : 80 ≤ i ∧ i < 80 + 18 * j ∧ (i - 80) % 18 = 9 ∧ cnd m h band ((i - 80) / 18) = true
      · rw [if_pos hc, if_pos ⟨hc.1, by omega, hc.2.2⟩]
      · rw [if_neg hc, if_neg (fun z => hc ⟨z.1, by omega, z.2.2⟩)]
    rw [h1]
    split
    · rw [upd_n hi]
    · rfl
theorem cnd_psj (hq : q < 8) : cnd (psj m h band j) h band q = cnd m h band q := by
  unfold cnd iBd mayH isIn_ bnI wtI
  rw [psj_p (by decide) (by decide), psj_p (by decide) (by decide), psj_p (by decide) (by decide), psj_p (by decide) (by decide), psj_p (by decide) (by decide)]
  by_cases hj : j ≤ 8
  · rw [psj_o (i := 232) (by omega), psj_o (i := 228) (by omega)]
  · rw [psj_o (i := 232) (by omega), psj_o (i := 228) (by omega)]
end PS
def tk1 (w : Rw) (p h off : Nat) : Rw := upd (upd (upd (upd (upd (upd (upd (upd w (234 + 8 * nL w) (nI p)) (234 + 8 * nL w + 1) (nI h)) (234 + 8 * nL w + 2) (w 232)) (234 + 8 * nL w + 3) (hF w h 5 + 1)) (234 + 8 * nL w + 4) (bI (lcl w h))) (234 + 8 * nL w + 5) (bI (qta w) + (if pF w p 4 = -1 then 0 else nI 2))) (234 + 8 * nL w + 6) (nI off)) (234 + 8 * nL w + 7) (bnI w p)
def tk2 (w : Rw) (p h off : Nat) : Rw := upd (upd (upd (upd (psj (tk1 w p h off) h (bnI w p) (nP w)) 233 (nI (nL w + 1))) (80 + 18 * p + 8) 1) (80 + 18 * p + 4) (nI h)) (8 * h + 2) (nI p)
def tk3 (w : Rw) (p h off : Nat) : Rw := upd (tk2 w p h off) (8 * h + 4) (hF w h 4 + 1)
def takd (w : Rw) (p h off : Nat) : Rw := if pF w p 4 = -1 then tk3 w p h off else lvsd (tk3 w p h off) (pN w p 4) (hF w h 5 + 1)
section TK
variable {w : Rw} {p h off i : Nat}
theorem tk1_o (hi : i < 234 + 8 * nL w ∨ 234 + 8 * nL w + 8 ≤ i) : tk1 w p h off i = w i := by
  unfold tk1
  rw [upd_n (by omega), upd_n (by omega), upd_n (by omega), upd_n (by omega), upd_n (by omega), upd_n (by omega), upd_n (by omega), upd_n (by omega)]
theorem tk1_a : Agr w (tk1 w p h off) := fun _ hi => tk1_o (Or.inl hi)
theorem m_takes (Z : Rng w) (hp : p < 8) (hh : h < 10) (hl : nL w < 8) (hw : pF w p 4 = -1 ∨ ∃ x, x < 10 ∧ pF w p 4 = nI x) : f_X3_takes w (nI p) (nI h) (nI off) = some (takd w p h off) := by
  obtain ⟨e1, e2⟩ := Z.gL
  obtain ⟨g1, g2⟩ := Z.gP
  have ha := Z.gA.2.2.2
  -- the end
  have fin : f_X3_takes_165 FU (nI p) (nI h) (nI (234 + 8 * nL w)) (bnI w p) (pF w p 4) 0 (tk1 w p h off) = some (takd w p h off) := by
    have key := lp_sq (fun n j s => f_X3_takes_165 n (nI p) (nI h) (nI (234 + 8 * nL w)) (bnI w p) (pF w p 4) (nI j) s) (psj (tk1 w p h off) h (bnI w p)) (some (takd w p h off)) (nP w) ?_ ?_ FU 0 (Nat.zero_le _) (FU_lt (by omega))
    · rw [psj_0] at key; exact key
    · intro n
      have x231 : psj (tk1 w p h off) h (bnI w p) (nP w) 231 = w 231 := (psj_o (by omega)).trans (tk1_o (by omega))
      have x233 : psj (tk1 w p h off) h (bnI w p) (nP w) 233 = w 233 := (psj_o (by omega)).trans (tk1_o (by omega))
      simp only [f_X3_takes_165]
      rw [x231, g1, if_pos (nI_leR _), x233, e1, nI_1, m_puts (by omega), Option.bind_some, m_puts (by omega), Option.bind_some, m_putsHome (by omega), Option.bind_some]
      rw [show upd (upd (upd (upd (psj (tk1 w p h off) h (bnI w p) (nP w)) 233 (nI (nL w + 1))) (80 + 18 * p + 8) 1) (80 + 18 * p + 4) (nI h)) (8 * h + 2) (nI p) = tk2 w p h off from rfl, m_h0 (by omega), Option.bind_some, m_putsHome (by omega), Option.bind_some]
      have x4 : hF (tk2 w p h off) h 4 = hF w h 4 := by
        unfold hF tk2
        rw [upd_n (by omega), upd_n (by omega), upd_n (by omega), upd_n (by omega), psj_o (by omega), tk1_o (by omega)]
      rw [x4]
      have x3 : upd (tk2 w p h off) (8 * h + 4) (hF w h 4 + 1) (234 + 8 * nL w + 3) = hF w h 5 + 1 := by
        rw [upd_n (by omega)]
        unfold tk2
        rw [upd_n (by omega), upd_n (by omega), upd_n (by omega), upd_n (by omega), psj_o (by omega)]
        unfold tk1
        rw [upd_n (by omega), upd_n (by omega), upd_n (by omega), upd_n (by omega), upd_s]
      unfold takd tk3
      rcases hw with hw | ⟨x, hx, hw⟩
      · rw [if_pos hw, if_pos hw]
      · have hne : ¬ nI x = -1 := nI_m1 (by omega)
        have hpn : pN w p 4 = x := by unfold pN; rw [hw]; exact nI_clamp (by omega)
        rw [hpn]
        simp only [hw]
        rw [if_neg hne, if_neg hne, nI_add, gdn ⟨by omega, by decide⟩, nI_clamp (by omega), x3, m_leaves hx, Option.bind_some]
    · intro n j hj
      have x231 : psj (tk1 w p h off) h (bnI w p) j 231 = w 231 := (psj_o (by omega)).trans (tk1_o (by omega))
      have x228 : psj (tk1 w p h off) h (bnI w p) j 228 = w 228 := (psj_o (by omega)).trans (tk1_o (by omega))
      have hc := cnd_psj (m := tk1 w p h off) (h := h) (band := bnI w p) (j := j) (q := j) (by omega)
      rw [psj_1, ← hc]
      simp only [f_X3_takes_165]
      rw [x231, g1, if_neg (nI_ge hj (by omega)), m_isBid (by omega), Option.bind_some, m_mayHope (by omega), Option.bind_some, m_bandNow (by omega) (by rw [x228]; exact ha), Option.bind_some, m_of (by omega), Option.bind_some, m_puts (by omega), Option.bind_some, nI_1]
      unfold cnd
      simp only [bI_0]
      cases iBd (psj (tk1 w p h off) h (bnI w p) j) j h
      · simp
      · cases mayH (psj (tk1 w p h off) h (bnI w p) j) j
        · simp
        · by_cases hb : bnI (psj (tk1 w p h off) h (bnI w p) j) j < bnI w p
          · simp [hb, Int32.not_le.mpr hb]
          · simp [hb, Int32.not_lt.mp hb]
  simp only [f_X3_takes, e1, pk_mul, nI_add, nI_1, bd]
  rw [m_bandNow (by omega) ha, Option.bind_some, m_of (by omega), Option.bind_some, gdn ⟨by omega, by decide⟩, gdn ⟨by omega, by decide⟩, gdn ⟨by omega, by decide⟩, nI_clamp (by omega), nI_clamp (by omega), nI_clamp (by omega), nI_clamp (by omega)]
  have y232 : upd (upd w (234 + 8 * nL w) (nI p)) (234 + 8 * nL w + 1) (nI h) 232 = w 232 := by rw [upd_n (by omega), upd_n (by omega)]
  rw [y232, m_h0 (by omega), Option.bind_some]
  have y5 : hF (upd (upd (upd w (234 + 8 * nL w) (nI p)) (234 + 8 * nL w + 1) (nI h)) (234 + 8 * nL w + 2) (w 232)) h 5 = hF w h 5 := by
    unfold hF; rw [upd_n (by omega), upd_n (by omega), upd_n (by omega)]
  rw [y5, gdn ⟨by omega, by decide⟩]
  obtain ⟨m9, hm9⟩ : ∃ m : Rw, m = upd (upd (upd (upd w (234 + 8 * nL w) (nI p)) (234 + 8 * nL w + 1) (nI h)) (234 + 8 * nL w + 2) (w 232)) (234 + 8 * nL w + 3) (hF w h 5 + 1) := ⟨_, rfl⟩
  rw [← hm9]
  have A9 : Agr w m9 := fun i hi => by rw [hm9, upd_n (by omega), upd_n (by omega), upd_n (by omega), upd_n (by omega)]
  have Z9 : Rng m9 := by
    rw [hm9]
    exact Rng_l (k := 3) (Rng_l (k := 2) (Rng_l (k := 1) (Rng_l (k := 0) Z hl (by decide) (inI_of (b := 7) (by omega) (by decide) (by decide))) hl (by decide) (inI_of (b := 9) (by omega) (by decide) (by decide))) hl (by decide) (by unfold lB; simp)) hl (by decide) (by unfold lB; simp)
  have A10 : Agr w (upd m9 (234 + 8 * nL w + 4) (bI (lcl w h))) := fun i hi => by rw [upd_n (by omega)]; exact A9 i hi
  have hb1 : ∀ b : Bool, inI (bI b) 0 1 := fun b => by cases b <;> exact ⟨by decide, by decide⟩
  have Z10 : Rng (upd m9 (234 + 8 * nL w + 4) (bI (lcl w h))) := Rng_l (k := 4) Z9 hl (by decide) (hb1 _)
  have k105 : f_X3_takes_105 (nI p) (nI h) (nI off) (nI (234 + 8 * nL w)) (bnI w p) (pF w p 4) (nI (234 + 8 * nL w + 4)) (bI (lcl w h)) m9 = some (takd w p h off) := by
    have k137 : ∀ y3 : Int32, y3 = (if pF w p 4 = -1 then 0 else nI 2) → f_X3_takes_137 (nI p) (nI h) (nI off) (nI (234 + 8 * nL w)) (bnI w p) (pF w p 4) (nI (234 + 8 * nL w + 5)) (bI (qta w)) y3 (upd m9 (234 + 8 * nL w + 4) (bI (lcl w h))) = some (takd w p h off) := by
      intro y3 hy
      simp only [f_X3_takes_137, nI_add, bd]
      rw [gdn ⟨by omega, by decide⟩, gdn ⟨by omega, by decide⟩, gdn ⟨by omega, by decide⟩, nI_clamp (by omega), nI_clamp (by omega), nI_clamp (by omega), hy, hm9]
      exact fin
    have k126 : f_X3_takes_126 (nI p) (nI h) (nI off) (nI (234 + 8 * nL w)) (bnI w p) (pF w p 4) (nI (234 + 8 * nL w + 5)) (bI (qta w)) (upd m9 (234 + 8 * nL w + 4) (bI (lcl w h))) = some (takd w p h off) := by
      simp only [f_X3_takes_126]
      by_cases hx : pF w p 4 = -1
      · rw [if_pos hx]; exact k137 0 (by rw [if_pos hx])
      · rw [if_neg hx]; exact k137 (nI 2) (by rw [if_neg hx])
    simp only [f_X3_takes_105, nI_add]
    rw [gdn ⟨by omega, by decide⟩, nI_clamp (by omega), m_isQuota Z10, Option.bind_some, ag_qta A10]
    rw [← k126]
    cases qta w <;> rfl
  rw [m_isLocal Z9 hh, Option.bind_some, ag_lcl A9 Z hh, ← k105]
  cases lcl w h <;> rfl
end TK
