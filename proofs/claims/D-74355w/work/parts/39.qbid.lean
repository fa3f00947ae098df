/-! THE REFERENCE's side: bids as they would -/
section PQB
variable {w W : Rw} {p q h k i n : Nat}
def bw (w : Rw) (p n : Nat) : Rw := upd w (80 + 18 * p + 10) (nI n)
def bdH (w : Rw) (p k : Nat) : Nat := if pF w p 11 = 0 then k else pN w p (12 + k)
def bdn (w : Rw) (p k n : Nat) : Nat := if whN (bw w p n) p (bdH w p k) = 0 then n ||| 2 ^ bdH w p k else n
def bdM (w : Rw) (p : Nat) : Nat := if pF w p 11 = 0 then nH w else pN w p 11
def bdV (w : Rw) (p : Nat) : Nat := flN (bdn w p) 0 (bdM w p) (pN w p 10)
def bdP (p : Nat) (w : Rw) : Rw := bw w p (bdV w p)
def bdA (w : Rw) : Rw := flN bdP 0 (nP w) w
def tot (w : Rw) : Nat := smN (fun q => pc (pN w q 10)) (nP w)
theorem bw_o (hi : i ≠ 80 + 18 * p + 10) : bw w p n i = w i := upd_n hi
theorem bw_p (hq : q < 8) (hk : k < 18) (hn : ¬ (q = p ∧ k = 10)) : pF (bw w p n) q k = pF w q k := by unfold pF; exact bw_o (by omega)
theorem bw_s : pF (bw w p n) p 10 = nI n := by unfold pF bw; exact upd_s
theorem bw_h {y : Nat} (hy : y < 10) (hk : k < 8) : hF (bw w p n) y k = hF w y k := by unfold hF; exact bw_o (by omega)
theorem bw_bw {m : Nat} : upd (bw w p n) (80 + 18 * p + 10) (nI m) = bw w p m := by
  funext i
  unfold bw
  by_cases e : i = 80 + 18 * p + 10
  · rw [e, upd_s, upd_s]
  · rw [upd_n e, upd_n e, upd_n e]
theorem bw_self (he : pF w p 10 = nI (pN w p 10)) : bw w p (pN w p 10) = w := by
  funext i
  unfold bw
  by_cases e : i = 80 + 18 * p + 10
  · rw [e, upd_s, ← he]; rfl
  · exact upd_n e
theorem Rng_bw (Z : Rng w) (hp : p < 8) (hn : n < 1024) : Rng (bw w p n) := Rng_p Z hp (by decide) (inI_of (b := 1023) (by omega) (by decide) (by decide))
theorem bw_nH (hp : p < 8) : nH (bw w p n) = nH w := by unfold nH wN; rw [bw_o (by omega)]
theorem bw_nP (hp : p < 8) : nP (bw w p n) = nP w := by unfold nP wN; rw [bw_o (by omega)]
theorem bw_nL (hp : p < 8) : nL (bw w p n) = nL w := by unfold nL wN; rw [bw_o (by omega)]
theorem pc_or {n k : Nat} (hk : k < 10) (hb : n.testBit k = false) : pc (n ||| 2 ^ k) = pc n + 1 := by
  unfold pc
  exact cnN_up (q := k) 10 hk hb (by rw [or_tb]; simp) (fun j _ hne => by rw [or_tb]; simp [hne])
theorem whN_lt : whN w p h < 10 := by
  unfold whN
  repeat' split
  all_goals decide
theorem whN_0 {w : Rw} (hp : whN w p h = 0) : isIn_ w p = true ∧ ¬ 0 < pF w p 6 ∧ isFr w h = true ∧ dFit w p h = true ∧ iBd w p h = false := by
  unfold whN at hp
  split at hp
  · cases hp
  · rename_i h1
    split at hp
    · cases hp
    · rename_i h2
      split at hp
      · cases hp
      · rename_i h3
        split at hp
        · cases hp
        · rename_i h4
          split at hp
          · cases hp
          · rename_i h5
            exact ⟨by simpa using h1, h2, by simpa using h3, by simpa using h4, by simpa using h5⟩
theorem bdH_lt (Z : Rng w) (C : Con w) (hp : p < nP w) (hk : k < bdM w p) : bdH w p k < nH w := by
  unfold bdH bdM at *
  by_cases e : pF w p 11 = 0
  · rw [if_pos e] at hk ⊢; exact hk
  · rw [if_neg e] at hk ⊢; exact C.2.2.1 p k hp hk
theorem bdM_le (Z : Rng w) (hp : p < 8) : bdM w p ≤ 10 := by
  unfold bdM
  have h1 := Z.gH.2
  have h2 := (Z.p11 hp).2
  split <;> omega
/-- while p bids: the set stays one of homes; its number grows by one a bid -/
theorem bdn_ok (Z : Rng w) (C : Con w) (hp : p < nP w) (hk : k < bdM w p) (hn : n < 2 ^ nH w) : bdn w p k n < 2 ^ nH w ∧ pc n ≤ pc (bdn w p k n) := by
  have b1 := Z.gH.2
  have b2 := Z.gP.2
  have hh := bdH_lt Z C hp hk
  have hn2 : n < 1024 := Nat.lt_of_lt_of_le hn (Nat.pow_le_pow_right (n := 2) (by decide) b1)
  unfold bdn
  split
  · rename_i h0
    have hb := (whN_0 h0).2.2.2.2
    unfold iBd at hb
    rw [bw_s, btN n hn2 _ (by omega)] at hb
    rw [pc_or (by omega) hb]
    exact ⟨or_lt hn hh, by omega⟩
  · exact ⟨hn, Nat.le_refl _⟩
theorem m_bidsBy (Z : Rng w) (C : Con w) (hp : p < nP w) : f_X3_bidsBy w (nI p) = some (nI (pc (bdV w p) - pc (pN w p 10)), bdP p w) ∧ bdV w p < 2 ^ nH w ∧ pc (pN w p 10) ≤ pc (bdV w p) := by
  have b1 := Z.gH.2
  have b2 := Z.gP.2
  have hp8 : p < 8 := by omega
  obtain ⟨e10, l10⟩ := Z.p10 hp8
  obtain ⟨e11, l11⟩ := Z.p11 hp8
  have hM := bdM_le Z hp8
  have h2 : 2 ^ nH w ≤ 2 ^ 10 := Nat.pow_le_pow_right (by decide) b1
  have key := lp_upI (fun n k m => f_X3_bidsBy_34 n (nI p) (nI (pc m - pc (pN w p 10))) (nI (bdM w p)) (nI k) (bw w p m)) (fun m => some (nI (pc m - pc (pN w p 10)), bw w p m)) (bdn w p) (bdM w p) (fun k m => m < 2 ^ nH w ∧ pc (pN w p 10) ≤ pc m) ?_ ?_ ?_ FU 0 (pN w p 10) (Nat.zero_le _) (FU_lt (by omega)) ⟨C.2.2.2.2.2 p hp, Nat.le_refl _⟩
  · have h34 := key.1
    rw [bw_self e10, Nat.sub_self] at h34
    refine ⟨?_, key.2⟩
    simp only [f_X3_bidsBy]
    rw [m_of (by omega), Option.bind_some, Option.bind_some]
    have hm : (if pF w p 11 = 0 then f_X3_bidsBy_34 FU (nI p) 0 (w 230) 0 w else f_X3_bidsBy_34 FU (nI p) 0 (pF w p 11) 0 w) = f_X3_bidsBy_34 FU (nI p) (nI 0) (nI (bdM w p)) (nI 0) w := by
      unfold bdM
      by_cases e : pF w p 11 = 0
      · rw [if_pos e, if_pos e, Z.gH.1]; rfl
      · rw [if_neg e, if_neg e, ← e11]; rfl
    rw [hm, h34]
    rfl
  · intro n m _
    simp only [f_X3_bidsBy_34]
    rw [if_pos (nI_leR _)]
  · intro n k m hk hm
    have hm2 : m < 1024 := by omega
    have hh := bdH_lt Z C hp hk
    have Zb := Rng_bw (p := p) (n := m) Z hp8 hm2
    have hpn : pN (bw w p m) p 10 = m := by unfold pN; rw [bw_s]; exact nI_clamp (by omega)
    have r11 : pF (bw w p m) p 11 = pF w p 11 := bw_p hp8 (by decide) (by omega)
    have r65 : ∀ h : Nat, h = bdH w p k → f_X3_bidsBy_65 (f_X3_bidsBy_34 n) (nI p) (nI (pc m - pc (pN w p 10))) (nI (bdM w p)) (nI k) (nI h) (bw w p m) = f_X3_bidsBy_34 n (nI p) (nI (pc (bdn w p k m) - pc (pN w p 10))) (nI (bdM w p)) (nI (k + 1)) (bw w p (bdn w p k m)) := by
      intro h he
      subst he
      simp only [f_X3_bidsBy_65]
      rw [m_whyNot (by omega) (by omega) (Zb.p10 hp8).1 (by rw [hpn]; exact hm2), Option.bind_some, m_of (by omega), Option.bind_some, bw_s, or_n m hm2 _ (by omega), m_puts (by omega), Option.bind_some, bw_bw, nI_1, nI_1]
      unfold bdn
      by_cases h0 : whN (bw w p m) p (bdH w p k) = 0
      · have hb := (whN_0 h0).2.2.2.2
        unfold iBd at hb
        rw [bw_s, btN m hm2 _ (by omega)] at hb
        rw [if_pos (by rw [h0]; rfl), if_pos h0, pc_or (by omega) hb, show pc m + 1 - pc (pN w p 10) = pc m - pc (pN w p 10) + 1 by omega]
      · have hle := whN_lt (w := bw w p m) (p := p) (h := bdH w p k)
        rw [if_neg (nI_ne0 (by omega) (by omega)), if_neg h0]
    simp only [f_X3_bidsBy_34]
    rw [if_neg (nI_ge hk (by omega)), m_of (by omega), Option.bind_some, r11]
    by_cases e : pF w p 11 = 0
    · rw [if_pos e]
      exact r65 k (by unfold bdH; rw [if_pos e])
    · have hk6 : k < 6 := by unfold bdM at hk; rw [if_neg e] at hk; omega
      rw [if_neg e, nI_add, m_of (by omega), Option.bind_some, bw_p hp8 (by omega) (by omega), (Z.pw hp8 hk6).1]
      exact r65 _ (by unfold bdH; rw [if_neg e])
  · intro k m hk hm
    have := bdn_ok Z C hp hk hm.1
    exact ⟨this.1, Nat.le_trans hm.2 this.2⟩
theorem Con_bw (Z : Rng w) (C : Con w) (hp : p < nP w) (hn : n < 2 ^ nH w) : Con (bw w p n) := by
  have b1 := Z.gH.2
  have b2 := Z.gP.2
  have hp8 : p < 8 := by omega
  obtain ⟨c1, c2, c3, c4, c5, c6⟩ := C
  have h2 : 2 ^ nH w ≤ 2 ^ 10 := Nat.pow_le_pow_right (by decide) b1
  have n6 : ∀ q, q < 8 → pN w q 11 ≤ 6 := fun q hq => (Z.p11 hq).2
  have n11 : ∀ q, q < 8 → pN (bw w p n) q 11 = pN w q 11 := fun q hq => by unfold pN; rw [bw_p hq (by decide) (by omega)]
  refine ⟨fun y hy => ?_, fun q hq => ?_, fun q i hq hi => ?_, fun q i j hq hi hj he => ?_, fun i hi => ?_, fun q hq => ?_⟩
  · rw [bw_nH hp8] at hy
    rw [bw_h (by omega) (by decide), bw_nP hp8]
    rcases c1 y hy with z | ⟨q, z1, z2, z3⟩
    · exact Or.inl z
    · exact Or.inr ⟨q, z1, z2, by rw [bw_p (by omega) (by decide) (by omega)]; exact z3⟩
  · rw [bw_nP hp8] at hq
    rw [bw_p (by omega) (by decide) (by omega), bw_nH hp8]
    rcases c2 q hq with z | ⟨y, z1, z2, z3⟩
    · exact Or.inl z
    · exact Or.inr ⟨y, z1, z2, by rw [bw_h (by omega) (by decide)]; exact z3⟩
  · rw [bw_nP hp8] at hq
    rw [n11 q (by omega)] at hi
    have := n6 q (by omega)
    have h1 : pN (bw w p n) q (12 + i) = pN w q (12 + i) := by unfold pN; rw [bw_p (by omega) (by omega) (by omega)]
    rw [h1, bw_nH hp8]
    exact c3 q i hq hi
  · rw [bw_nP hp8] at hq
    rw [n11 q (by omega)] at hi hj
    have := n6 q (by omega)
    rw [bw_p (by omega) (by omega) (by omega), bw_p (by omega) (by omega) (by omega)] at he
    exact c4 q i j hq hi hj he
  · rw [bw_nL hp8] at hi
    have l8 := Z.gL.2
    have h0 : lN_ (bw w p n) i 0 = lN_ w i 0 := by unfold lN_ lF; rw [bw_o (by omega)]
    have h1 : lN_ (bw w p n) i 1 = lN_ w i 1 := by unfold lN_ lF; rw [bw_o (by omega)]
    obtain ⟨z1, z2, z3⟩ := c5 i hi
    rw [h0, h1, bw_nH hp8, bw_nP hp8]
    refine ⟨z1, z2, ?_⟩
    unfold isIn_ at z3 ⊢
    rw [bw_p (by omega) (by decide) (by omega)]
    exact z3
  · rw [bw_nP hp8] at hq
    rw [bw_nH hp8]
    by_cases e : q = p
    · subst e
      have : pN (bw w q n) q 10 = n := by unfold pN; rw [bw_s]; exact nI_clamp (by omega)
      rw [this]; exact hn
    · have h1 : pN (bw w p n) q 10 = pN w q 10 := by unfold pN; rw [bw_p (by omega) (by decide) (by omega)]
      rw [h1]; exact c6 q hq
theorem Cn_bw (Z : Rng w) (N : Cn w) (hp : p < 8) : Cn (bw w p n) := by
  have b2 := Z.gP.2
  unfold Cn
  rw [bw_nL hp, bw_nP hp, cnN_c (C := fun q => !isIn_ w q) _ (fun q hq => by show (!isIn_ _ q) = _; unfold isIn_; rw [bw_p (by omega) (by decide) (by omega)])]
  exact N
/-- a sum, one part changed -/
theorem smN_up {f g : Nat → Nat} {q d : Nat} : ∀ n, q < n → g q = f q + d → (∀ j, j < n → j ≠ q → g j = f j) → smN g n = smN f n + d
  | 0, h, _, _ => absurd h (by omega)
  | n + 1, h, hq, he => by
    rw [smN_1, smN_1]
    by_cases e : q = n
    · subst e
      rw [hq, smN_c q (fun j hj => he j (by omega) (by omega))]; omega
    · rw [smN_up n (by omega) hq (fun j hj hne => he j (by omega) hne), he n (by omega) (fun z => e z.symm)]; omega
/-- rows that differ in bids alone -/
def BS (w W : Rw) : Prop := ∀ i, (∀ q, q < 8 → i ≠ 80 + 18 * q + 10) → W i = w i
theorem BS.pp (B : BS w W) {q k : Nat} (hq : q < 8) (hk : k < 18) (h10 : k ≠ 10) : pF W q k = pF w q k := B _ (fun z hz => by omega)
theorem BS.hh (B : BS w W) {y k : Nat} (hy : y < 10) (hk : k < 8) : hF W y k = hF w y k := B _ (fun z hz => by omega)
theorem BS.g (B : BS w W) {i : Nat} (hi : 224 ≤ i) : W i = w i := B _ (fun z hz => by omega)
theorem m_allBid (Z : Rng w) (C : Con w) (N : Cn w) : f_X3_allBid w = some (nI (tot (bdA w) - tot w), bdA w) ∧ tot w ≤ tot (bdA w) ∧ Rng (bdA w) ∧ Con (bdA w) ∧ Cn (bdA w) ∧ BS w (bdA w) := by
  have b1 := Z.gH.2
  obtain ⟨hP, b2⟩ := Z.gP
  have key := lp_upI (fun n j s => f_X3_allBid_4 n (nI (tot s - tot w)) (nI j) s) (fun s => some (nI (tot s - tot w), s)) bdP (nP w) (fun j s => Rng s ∧ Con s ∧ Cn s ∧ BS w s ∧ tot w ≤ tot s) ?_ ?_ ?_ FU 0 w (Nat.zero_le _) (FU_lt (by omega)) ⟨Z, C, N, fun _ _ => rfl, Nat.le_refl _⟩
  · have h1 := key.1
    rw [Nat.sub_self] at h1
    obtain ⟨k1, k2, k3, k4, k5⟩ := key.2
    exact ⟨h1, k5, k1, k2, k3, k4⟩
  · intro n s hs
    simp only [f_X3_allBid_4]
    rw [hs.2.2.2.1.g (by decide), hP, if_pos (nI_leR _)]
  · intro n j s hj hs
    obtain ⟨Zs, Cs, Ns, Bs, ht⟩ := hs
    have eP : nP s = nP w := by unfold nP wN; rw [Bs.g (by decide)]
    obtain ⟨m1, m2, m3⟩ := m_bidsBy Zs Cs (p := j) (by rw [eP]; exact hj)
    simp only [f_X3_allBid_4]
    rw [Bs.g (by decide), hP, if_neg (nI_ge hj (by omega)), m1, Option.bind_some, nI_1, nI_add]
    have e1 : tot (bdP j s) = tot s + (pc (bdV s j) - pc (pN s j 10)) := by
      unfold tot bdP
      rw [bw_nP (by omega)]
      have h2 : 2 ^ nH s ≤ 2 ^ 10 := Nat.pow_le_pow_right (by decide) Zs.gH.2
      refine smN_up (q := j) _ (by rw [eP]; exact hj) ?_ (fun q hq hne => ?_)
      · have : pN (bw s j (bdV s j)) j 10 = bdV s j := by unfold pN; rw [bw_s]; exact nI_clamp (by omega)
        rw [this]; omega
      · rw [eP] at hq
        have : pN (bw s j (bdV s j)) q 10 = pN s q 10 := by unfold pN; rw [bw_p (by omega) (by decide) (by omega)]
        rw [this]
    rw [e1, show tot s + (pc (bdV s j) - pc (pN s j 10)) - tot w = tot s - tot w + (pc (bdV s j) - pc (pN s j 10)) by omega]
  · intro j s hj hs
    obtain ⟨Zs, Cs, Ns, Bs, ht⟩ := hs
    have eP : nP s = nP w := by unfold nP wN; rw [Bs.g (by decide)]
    obtain ⟨m1, m2, m3⟩ := m_bidsBy Zs Cs (p := j) (by rw [eP]; exact hj)
    have h2 : 2 ^ nH s ≤ 2 ^ 10 := Nat.pow_le_pow_right (by decide) Zs.gH.2
    refine ⟨Rng_bw Zs (by omega) (by omega), Con_bw Zs Cs (by rw [eP]; exact hj) m2, Cn_bw Zs Ns (by omega), fun i hi => ?_, ?_⟩
    · show bw s j (bdV s j) i = w i
      rw [bw_o (hi j (by omega))]; exact Bs i hi
    · have e1 : tot (bdP j s) = tot s + (pc (bdV s j) - pc (pN s j 10)) := by
        unfold tot bdP
        rw [bw_nP (by omega)]
        refine smN_up (q := j) _ (by rw [eP]; exact hj) ?_ (fun q hq hne => ?_)
        · have : pN (bw s j (bdV s j)) j 10 = bdV s j := by unfold pN; rw [bw_s]; exact nI_clamp (by omega)
          rw [this]; omega
        · rw [eP] at hq
          have : pN (bw s j (bdV s j)) q 10 = pN s q 10 := by unfold pN; rw [bw_p (by omega) (by decide) (by omega)]
          rw [this]
      omega
end PQB
