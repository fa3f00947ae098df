/-! what stays so from act to act: shut, need, wish, unwish -/
section PNW
variable {w W s u : Rw} {a b v : Int32} {p q x y i k n : Nat}
theorem BS_dr (hp : p < 8) : BS s (drF x p s) := fun i hi => by
  show upd s _ _ i = s i
  exact upd_n (hi p hp)
theorem BS_trans {a b c : Rw} (h1 : BS a b) (h2 : BS b c) : BS a c := fun i hi => (h2 i hi).trans (h1 i hi)
theorem iB_dr (Z : Rng w) (hp : p < 8) (hq : q < 8) (hy : y < 10) : iBd (drF x p w) q y = if q = p then (iBd w q y && !decide (y = x)) else iBd w q y := by
  have h10 := Z.p10 (p := p) hp
  unfold drF
  rw [iB_bw hp hq (by have := clr_le (pN w p 10) x; omega) hy]
  by_cases h : q = p
  · subst h; rw [if_pos rfl, if_pos rfl, clr_tb hy, iB_n Z hq hy]
  · rw [if_neg h, if_neg h]
theorem shW_bits (G : Gd w) (hx : x < 10) (hb : b = 0 ∨ b = 1) : ∀ k, k ≤ nP w → BS (upd w (8 * x + 6) b) (flN (drF x) 0 k (upd w (8 * x + 6) b)) ∧ ∀ q y, q < 8 → y < 10 → iBd (flN (drF x) 0 k (upd w (8 * x + 6) b)) q y = (iBd w q y && !(decide (q < k) && decide (y = x)))
  | 0, _ => by
    refine ⟨fun _ _ => rfl, fun q y hq hy => ?_⟩
    rw [decide_eq_false (Nat.not_lt_zero q), Bool.false_and, Bool.not_false, Bool.and_true]
    unfold iBd
    show bt (pF (upd w (8 * x + 6) b) q 10) y = _
    rw [show pF (upd w (8 * x + 6) b) q 10 = pF w q 10 by unfold pF; exact upd_n (by omega)]
  | k + 1, hk => by
    have b1 := G.1.gP.2
    obtain ⟨h1, h2⟩ := shW_bits G hx hb k (by omega)
    obtain ⟨g1, g2, g3⟩ := shW_ok G hx hb k (by omega)
    rw [flN_1, Nat.zero_add]
    refine ⟨BS_trans h1 (BS_dr (by omega)), fun q y hq hy => ?_⟩
    rw [iB_dr g1.1 (by omega) hq hy, h2 q y hq hy]
    by_cases hqk : q = k
    · subst hqk
      rw [if_pos rfl, decide_eq_false (Nat.lt_irrefl q), decide_eq_true (Nat.lt_succ_self q)]
      simp
    · rw [if_neg hqk]
      have : decide (q < k + 1) = decide (q < k) := by
        by_cases z : q < k
        · rw [decide_eq_true z, decide_eq_true (by omega)]
        · rw [decide_eq_false z, decide_eq_false (by omega)]
      rw [this]
theorem inv_shut (H : Inv w) (hx : x < nH w) (hb : b = 0 ∨ b = 1) : Inv (shW w x b) := by
  obtain ⟨G, hL, hV, hX⟩ := H
  have b1 := G.1.gP.2
  have b2 := G.1.gH.2
  have b3 := G.1.gL.2
  obtain ⟨h1, h2⟩ := shW_bits G (show x < 10 by omega) hb (nP w) (Nat.le_refl _)
  obtain ⟨g1, g2, g3⟩ := shW_ok G (show x < 10 by omega) hb (nP w) (Nat.le_refl _)
  have eu : ∀ i, i ≠ 8 * x + 6 → upd w (8 * x + 6) b i = w i := fun i hi => upd_n hi
  have e0 : ∀ i, 80 ≤ i → (∀ q, q < 8 → i ≠ 80 + 18 * q + 10) → shW w x b i = w i := fun i hi h => (h1 i h).trans (eu i (by omega))
  have ep : ∀ q k, q < 8 → k < 18 → k ≠ 10 → pF (shW w x b) q k = pF w q k := fun q k hq hk h10 => (h1.pp hq hk h10).trans (by unfold pF; exact upd_n (by omega))
  have eh : ∀ y k, y < 10 → k < 8 → k ≠ 6 → hF (shW w x b) y k = hF w y k := fun y k hy hk h6 => (h1.hh hy hk).trans (by unfold hF; exact upd_n (by omega))
  have eh6 : ∀ y, y < 10 → hF (shW w x b) y 6 = if y = x then b else hF w y 6 := fun y hy => by
    rw [show hF (shW w x b) y 6 = hF (upd w (8 * x + 6) b) y 6 from h1.hh hy (by decide)]
    unfold hF
    by_cases h : y = x
    · subst h; rw [if_pos rfl, upd_s]
    · rw [if_neg h, upd_n (by omega)]
  have hLE : LE w (shW w x b) := ⟨g2, g3, by unfold nL wN; rw [e0 _ (by decide) (fun q hq => by omega)], fun i k hi hk => e0 _ (by omega) (fun q hq => by omega), fun q hq => ⟨ep q 4 hq (by decide) (by decide), ep q 8 hq (by decide) (by decide)⟩, fun y hy => eh y 4 hy (by decide) (by decide)⟩
  have hbit : ∀ q y, q < nP w → y < nH w → iBd (shW w x b) q y = true → iBd w q y = true ∧ y ≠ x := fun q y hq hy hz => by
    have := h2 q y (by omega) (by omega)
    have hz' : iBd (flN (drF x) 0 (nP w) (upd w (8 * x + 6) b)) q y = true := hz
    rw [this, Bool.and_eq_true, decide_eq_true hq, Bool.true_and, Bool.not_eq_true', decide_eq_false_iff_not] at hz'
    exact hz'
  refine ⟨g1, hLE.li G hL, fun q y hq hy hz => ?_, fun q y hq hy hz => ?_⟩
  · rw [show nP (shW w x b) = nP w from g2] at hq
    rw [show nH (shW w x b) = nH w from g3] at hy
    obtain ⟨z1, z2⟩ := hbit q y hq hy hz
    rw [mayH_c (ep q 8 (by omega) (by decide) (by decide)) (ep q 6 (by omega) (by decide) (by decide)), dFit_c (ep q 1 (by omega) (by decide) (by decide)) (eh y 0 (by omega) (by decide) (by decide))]
    exact hV q y hq hy z1
  · rw [show nP (shW w x b) = nP w from g2] at hq
    rw [show nH (shW w x b) = nH w from g3] at hy
    obtain ⟨z1, z2⟩ := hbit q y hq hy hz
    rw [eh6 y (by omega), if_neg z2]
    exact hX q y hq hy z1
theorem ndW_bits (G : Gd w) (hp : p < nP w) (hb : ir b 1 (nI 4) = true) : ∀ k, k ≤ nH w → BS (upd w (80 + 18 * p + 1) b) (flN (ndF p) 0 k (upd w (80 + 18 * p + 1) b)) ∧ ∀ q y, q < 8 → y < 10 → iBd (flN (ndF p) 0 k (upd w (80 + 18 * p + 1) b)) q y = (iBd w q y && !(decide (q = p) && decide (y < k) && !dFit (upd w (80 + 18 * p + 1) b) p y))
  | 0, _ => by
    refine ⟨fun _ _ => rfl, fun q y hq hy => ?_⟩
    rw [decide_eq_false (Nat.not_lt_zero y), Bool.and_false, Bool.false_and, Bool.not_false, Bool.and_true]
    unfold iBd
    show bt (pF (upd w (80 + 18 * p + 1) b) q 10) y = _
    rw [show pF (upd w (80 + 18 * p + 1) b) q 10 = pF w q 10 by unfold pF; exact upd_n (by omega)]
  | k + 1, hk => by
    have b1 := G.1.gP.2
    have b2 := G.1.gH.2
    obtain ⟨h1, h2⟩ := ndW_bits G hp hb k (by omega)
    obtain ⟨g1, g2, g3⟩ := ndW_ok G hp hb k (by omega)
    rw [flN_1, Nat.zero_add]
    have ef : dFit (flN (ndF p) 0 k (upd w (80 + 18 * p + 1) b)) p k = dFit (upd w (80 + 18 * p + 1) b) p k := dFit_c (h1.pp (by omega) (by decide) (by decide)) (h1.hh (by omega) (by decide))
    have split : ∀ q y, q < 8 → y < 10 → ∀ B : Bool, B = dFit (upd w (80 + 18 * p + 1) b) p k → (if B = true ∨ ¬ (q = p ∧ y = k) then (iBd w q y && !(decide (q = p) && decide (y < k) && !dFit (upd w (80 + 18 * p + 1) b) p y)) else false) = (iBd w q y && !(decide (q = p) && decide (y < k + 1) && !dFit (upd w (80 + 18 * p + 1) b) p y)) := fun q y hq hy B hB => by
      by_cases hc : q = p ∧ y = k
      · obtain ⟨rfl, rfl⟩ := hc
        rw [decide_eq_true (rfl : q = q), decide_eq_false (Nat.lt_irrefl y), decide_eq_true (Nat.lt_succ_self y), ← hB]
        cases B <;> simp
      · rw [if_pos (Or.inr hc)]
        by_cases hqp : q = p
        · have hyk : y ≠ k := fun e => hc ⟨hqp, e⟩
          have : decide (y < k + 1) = decide (y < k) := by
            by_cases z : y < k
            · rw [decide_eq_true z, decide_eq_true (by omega)]
            · rw [decide_eq_false z, decide_eq_false (by omega)]
          rw [this]
        · rw [decide_eq_false hqp]; simp
    cases hf : dFit (upd w (80 + 18 * p + 1) b) p k
    case true =>
      rw [ndF_t (ef.trans hf)]
      refine ⟨h1, fun q y hq hy => ?_⟩
      rw [h2 q y hq hy, ← split q y hq hy true hf.symm, if_pos (Or.inl rfl)]
    case false =>
      rw [ndF_f (ef.trans hf)]
      refine ⟨BS_trans h1 (BS_dr (by omega)), fun q y hq hy => ?_⟩
      rw [iB_dr g1.1 (by omega) hq hy, h2 q y hq hy, ← split q y hq hy false hf.symm]
      by_cases hqp : q = p
      · rw [if_pos hqp]
        by_cases hyk : y = k
        · rw [if_neg (by intro z; rcases z with z | z; (cases z); exact z ⟨hqp, hyk⟩), decide_eq_true hyk]; simp
        · rw [if_pos (Or.inr (fun z => hyk z.2)), decide_eq_false hyk]; simp
      · rw [if_neg hqp, if_pos (Or.inr (fun z => hqp z.1))]
theorem inv_need (H : Inv w) (hp : p < nP w) (hb : ir b 1 (nI 4) = true) : Inv (ndW w p b) := by
  obtain ⟨G, hL, hV, hX⟩ := H
  have b1 := G.1.gP.2
  have b2 := G.1.gH.2
  have b3 := G.1.gL.2
  obtain ⟨h1, h2⟩ := ndW_bits G hp hb (nH w) (Nat.le_refl _)
  obtain ⟨g1, g2, g3⟩ := ndW_ok G hp hb (nH w) (Nat.le_refl _)
  have eu : ∀ i, i ≠ 80 + 18 * p + 1 → upd w (80 + 18 * p + 1) b i = w i := fun i hi => upd_n hi
  have ep : ∀ q k, q < 8 → k < 18 → k ≠ 10 → k ≠ 1 → pF (ndW w p b) q k = pF w q k := fun q k hq hk h10 h11 => (h1.pp hq hk h10).trans (by unfold pF; exact upd_n (by omega))
  have eh : ∀ y k, y < 10 → k < 8 → hF (ndW w p b) y k = hF w y k := fun y k hy hk => (h1.hh hy hk).trans (by unfold hF; exact upd_n (by omega))
  have e2 : ∀ i, 224 ≤ i → ndW w p b i = w i := fun i hi => (h1.g hi).trans (eu i (by omega))
  have hLE : LE w (ndW w p b) := ⟨g2, g3, by unfold nL wN; rw [e2 _ (by decide)], fun i k hi hk => e2 _ (by omega), fun q hq => ⟨ep q 4 hq (by decide) (by decide) (by decide), ep q 8 hq (by decide) (by decide) (by decide)⟩, fun y hy => eh y 4 hy (by decide)⟩
  have hbit : ∀ q y, q < nP w → y < nH w → iBd (ndW w p b) q y = true → iBd w q y = true ∧ (q = p → dFit (ndW w p b) p y = true) := fun q y hq hy hz => by
    have := h2 q y (by omega) (by omega)
    have hz' : iBd (flN (ndF p) 0 (nH w) (upd w (80 + 18 * p + 1) b)) q y = true := hz
    rw [this, Bool.and_eq_true, decide_eq_true hy, Bool.and_true] at hz'
    refine ⟨hz'.1, fun hqp => ?_⟩
    have h3 := hz'.2
    rw [decide_eq_true hqp, Bool.true_and, Bool.not_not] at h3
    have ef : dFit (ndW w p b) p y = dFit (upd w (80 + 18 * p + 1) b) p y := dFit_c (h1.pp (by omega) (by decide) (by decide)) (h1.hh (by omega) (by decide))
    rw [ef]; exact h3
  refine ⟨g1, hLE.li G hL, fun q y hq hy hz => ?_, fun q y hq hy hz => ?_⟩
  · rw [show nP (ndW w p b) = nP w from g2] at hq
    rw [show nH (ndW w p b) = nH w from g3] at hy
    obtain ⟨z1, z2⟩ := hbit q y hq hy hz
    obtain ⟨v1, v2⟩ := hV q y hq hy z1
    rw [mayH_c (ep q 8 (by omega) (by decide) (by decide) (by decide)) (ep q 6 (by omega) (by decide) (by decide) (by decide))]
    refine ⟨v1, ?_⟩
    by_cases hqp : q = p
    · rw [hqp]; exact z2 hqp
    · rw [dFit_c (W := ndW w p b) (w := w) ((h1.pp (by omega) (by decide) (by decide)).trans (by unfold pF; exact upd_n (by omega))) (eh y 0 (by omega) (by decide))]
      exact v2
  · rw [show nP (ndW w p b) = nP w from g2] at hq
    rw [show nH (ndW w p b) = nH w from g3] at hy
    obtain ⟨z1, z2⟩ := hbit q y hq hy hz
    rw [eh y 6 (by omega) (by decide)]
    exact hX q y hq hy z1
/-- rows that differ in one house's wishes: what else is owed -/
theorem inv_ws (H : Inv w) (hp : p < nP w) (hW : WS p w W) (Zw : Rng W) (c3 : ∀ i, i < pN W p 11 → pN W p (12 + i) < nH w) (c4 : ∀ i j, i < pN W p 11 → j < pN W p 11 → pF W p (12 + i) = pF W p (12 + j) → i = j) : Inv W := by
  obtain ⟨⟨Z, C, N⟩, hL, hV, hX⟩ := H
  have b1 := Z.gP.2
  have b2 := Z.gH.2
  have b3 := Z.gL.2
  have hp8 : p < 8 := by omega
  obtain ⟨⟨kH, kP, -, -⟩, kL, -, kl, -⟩ := hW.kv hp8 Z
  have ep : ∀ q k, q < 8 → k < 18 → (q ≠ p ∨ k < 11) → pF W q k = pF w q k := fun q k hq hk h => hW.pf hp8 hq hk h
  have eh : ∀ y k, y < 10 → k < 8 → hF W y k = hF w y k := fun y k hy hk => hW _ (by omega)
  have elN : ∀ i k, i < nL w → k < 8 → lN_ W i k = lN_ w i k := fun i k hi hk => by unfold lN_; rw [kl i k hi hk]
  have hLE : LE w W := ⟨kP, kH, kL, kl, fun q hq => ⟨ep q 4 hq (by decide) (Or.inr (by decide)), ep q 8 hq (by decide) (Or.inr (by decide))⟩, fun y hy => eh y 4 hy (by decide)⟩
  have ein : ∀ q, q < 8 → isIn_ W q = isIn_ w q := fun q hq => by unfold isIn_; rw [ep q 8 hq (by decide) (Or.inr (by decide))]
  have Cw : Con W := by
    refine ⟨fun h hh' => ?_, fun q hq => ?_, fun q i hq hi => ?_, fun q i j hq hi hj he => ?_, fun i hi => ?_, fun q hq => ?_⟩
    · rw [kH] at hh'
      rw [eh h 2 (by omega) (by decide), kP]
      rcases C.1 h hh' with t | ⟨q, hq, t1, t2⟩
      · exact Or.inl t
      · exact Or.inr ⟨q, hq, t1, by rw [ep q 4 (by omega) (by decide) (Or.inr (by decide))]; exact t2⟩
    · rw [kP] at hq
      rw [kH, ep q 4 (by omega) (by decide) (Or.inr (by decide))]
      rcases C.2.1 q hq with t | ⟨h, hh', t1, t2⟩
      · exact Or.inl t
      · exact Or.inr ⟨h, hh', t1, by rw [eh h 2 (by omega) (by decide)]; exact t2⟩
    · rw [kP] at hq
      rw [kH]
      by_cases hqp : q = p
      · subst hqp; exact c3 i hi
      · have e11 : pN W q 11 = pN w q 11 := by unfold pN; rw [ep q 11 (by omega) (by decide) (Or.inl hqp)]
        rw [e11] at hi
        have := (Z.p11 (p := q) (by omega)).2
        rw [show pN W q (12 + i) = pN w q (12 + i) by unfold pN; rw [ep q (12 + i) (by omega) (by omega) (Or.inl hqp)]]
        exact C.2.2.1 q i hq hi
    · rw [kP] at hq
      by_cases hqp : q = p
      · subst hqp; exact c4 i j hi hj he
      · have e11 : pN W q 11 = pN w q 11 := by unfold pN; rw [ep q 11 (by omega) (by decide) (Or.inl hqp)]
        rw [e11] at hi hj
        have := (Z.p11 (p := q) (by omega)).2
        rw [ep q (12 + i) (by omega) (by omega) (Or.inl hqp), ep q (12 + j) (by omega) (by omega) (Or.inl hqp)] at he
        exact C.2.2.2.1 q i j hq hi hj he
    · rw [kL] at hi
      obtain ⟨t1, t2, t3⟩ := C.2.2.2.2.1 i hi
      rw [elN i 0 hi (by decide), elN i 1 hi (by decide), kP, kH, ein _ (by omega)]
      exact ⟨t1, t2, t3⟩
    · rw [kP] at hq
      rw [kH, show pN W q 10 = pN w q 10 by unfold pN; rw [ep q 10 (by omega) (by decide) (Or.inr (by decide))]]
      exact C.2.2.2.2.2 q hq
  have Nw : Cn W := by
    unfold Cn at N ⊢
    rw [kL, kP]
    exact Nat.le_trans N (cnN_mn _ (fun j hj hb => by rw [ein j (by omega)]; exact hb))
  refine ⟨⟨Zw, Cw, Nw⟩, hLE.li ⟨Z, C, N⟩ hL, fun q y hq hy hz => ?_, fun q y hq hy hz => ?_⟩
  · rw [kP] at hq; rw [kH] at hy
    have : iBd W q y = iBd w q y := by unfold iBd; rw [ep q 10 (by omega) (by decide) (Or.inr (by decide))]
    rw [this] at hz
    rw [mayH_c (ep q 8 (by omega) (by decide) (Or.inr (by decide))) (ep q 6 (by omega) (by decide) (Or.inr (by decide))), dFit_c (ep q 1 (by omega) (by decide) (Or.inr (by decide))) (eh y 0 (by omega) (by decide))]
    exact hV q y hq hy hz
  · rw [kP] at hq; rw [kH] at hy
    have : iBd W q y = iBd w q y := by unfold iBd; rw [ep q 10 (by omega) (by decide) (Or.inr (by decide))]
    rw [this] at hz
    rw [eh y 6 (by omega) (by decide)]
    exact hX q y hq hy hz
theorem inv_wish (H : Inv w) (hp : p < nP w) (hx : x < nH w) (h6 : pN w p 11 < 6) (hw : (wsh w p x).isSome = false) : Inv (wsW w p x) := by
  have Z := H.1.1
  have b1 := Z.gP.2
  have b2 := Z.gH.2
  have eW : ∀ i, i < pN w p 11 → pF (wsW w p x) p (12 + i) = pF w p (12 + i) := fun i hi => by
    unfold wsW pF
    rw [upd_n (by omega), upd_n (by omega)]
  have eX : pF (wsW w p x) p (12 + pN w p 11) = nI x := by
    unfold wsW pF
    rw [upd_n (by omega)]; exact upd_s
  have e11 : pN (wsW w p x) p 11 = pN w p 11 + 1 := by
    show (pF (wsW w p x) p 11).toNatClampNeg = _
    rw [show pF (wsW w p x) p 11 = nI (pN w p 11 + 1) by unfold wsW pF; rw [upd_s], nI_clamp (by omega)]
  have hno : ∀ k, k < pN w p 11 → pF w p (12 + k) ≠ nI x := fun k hk e => by
    have : (wsh w p x).isSome = true := fdN_any.mpr ⟨k, by omega, by omega, decide_eq_true e⟩
    rw [hw] at this; cases this
  refine inv_ws H hp (WS_wish h6) ?_ (fun i hi => ?_) (fun i j hi hj he => ?_)
  · unfold wsW
    exact Rng_p (Rng_p Z (by omega) (by omega) (by
      unfold pB
      rw [if_neg (by omega), if_neg (by omega), if_neg (by omega), if_neg (by omega), if_neg (by omega), if_neg (by omega), if_neg (by omega), if_neg (by omega), if_neg (by omega), if_neg (by omega), if_pos (by omega)]
      exact inI_of (b := 9) (by omega) (by decide) (by decide))) (by omega) (by decide) (show inI (nI (pN w p 11 + 1)) 0 6 from inI_of (b := 6) (by omega) (by decide) (by decide))
  · rw [e11] at hi
    by_cases hin : i = pN w p 11
    · subst hin
      show (pF (wsW w p x) p (12 + pN w p 11)).toNatClampNeg < _
      rw [eX, nI_clamp (by omega)]; exact hx
    · show (pF (wsW w p x) p (12 + i)).toNatClampNeg < _
      rw [eW i (by omega)]
      exact H.1.2.1.2.2.1 p i hp (by omega)
  · rw [e11] at hi hj
    by_cases hin : i = pN w p 11
    · by_cases hjn : j = pN w p 11
      · omega
      · subst hin
        rw [eX, eW j (by omega)] at he
        exact absurd he.symm (hno j (by omega))
    · by_cases hjn : j = pN w p 11
      · subst hjn
        rw [eX, eW i (by omega)] at he
        exact absurd he (hno i (by omega))
      · rw [eW i (by omega), eW j (by omega)] at he
        exact H.1.2.1.2.2.2.1 p i j hp (by omega) (by omega) he
theorem us_rng (hp : p < 8) : ∀ (k i : Nat) (s : Rw), i + k ≤ 5 → Rng s → Rng (flN (usF p) i k s)
  | 0, i, s, _, Z => Z
  | k + 1, i, s, hi, Z => by
    have e : flN (usF p) i (k + 1) s = flN (usF p) (i + 1) k (usF p i s) := rfl
    rw [e]
    refine us_rng hp k (i + 1) _ (by omega) (Rng_p Z hp (by omega) ?_)
    have h1 := Z.2.1 p (12 + i + 1) hp (by omega)
    unfold pB at h1 ⊢
    rw [if_neg (by omega), if_neg (by omega), if_neg (by omega), if_neg (by omega), if_neg (by omega), if_neg (by omega), if_neg (by omega), if_neg (by omega), if_neg (by omega), if_neg (by omega), if_pos (by omega)] at h1 ⊢
    exact h1
theorem inv_unwish {kk : Nat} (H : Inv w) (hp : p < nP w) (hk : kk < pN w p 11) : Inv (usW w p kk) := by
  have Z := H.1.1
  have b1 := Z.gP.2
  have b2 := Z.gH.2
  have h11 := Z.p11 (p := p) (by omega)
  obtain ⟨u1, u2⟩ := us_at (p := p) (by omega) (pN w p 11 - 1 - kk) kk w (by omega)
  have eW : ∀ i, i < 6 → pF (usW w p kk) p (12 + i) = if kk ≤ i ∧ i < kk + (pN w p 11 - 1 - kk) then pF w p (12 + i + 1) else pF w p (12 + i) := fun i hi => by
    rw [← u1 i hi]
    unfold usW pF
    exact upd_n (by omega)
  have e11 : pN (usW w p kk) p 11 = pN w p 11 - 1 := by
    show (pF (usW w p kk) p 11).toNatClampNeg = _
    rw [show pF (usW w p kk) p 11 = nI (pN w p 11 - 1) by unfold usW pF; rw [upd_s], nI_clamp (by omega)]
  have at' : ∀ i, i < pN w p 11 - 1 → ∃ i', i' < pN w p 11 ∧ pF (usW w p kk) p (12 + i) = pF w p (12 + i') ∧ i' = if kk ≤ i then i + 1 else i := fun i hi => by
    by_cases hc : kk ≤ i
    · exact ⟨i + 1, by omega, by rw [eW i (by omega), if_pos (by omega)]; rfl, by rw [if_pos hc]⟩
    · exact ⟨i, by omega, by rw [eW i (by omega), if_neg (by omega)], by rw [if_neg hc]⟩
  refine inv_ws H hp (fun i hi => ?_) ?_ (fun i hi => ?_) (fun i j hi hj he => ?_)
  · unfold usW
    rw [upd_n (by omega)]
    exact u2 i (by omega)
  · unfold usW
    exact Rng_p (us_rng (by omega) _ _ _ (by omega) Z) (by omega) (by decide) (show inI (nI (pN w p 11 - 1)) 0 6 from inI_of (b := 6) (by omega) (by decide) (by decide))
  · rw [e11] at hi
    obtain ⟨i', z1, z2, -⟩ := at' i hi
    show (pF (usW w p kk) p (12 + i)).toNatClampNeg < _
    rw [z2]
    exact H.1.2.1.2.2.1 p i' hp z1
  · rw [e11] at hi hj
    obtain ⟨i', z1, z2, z3⟩ := at' i hi
    obtain ⟨j', y1, y2, y3⟩ := at' j hj
    rw [z2, y2] at he
    have := H.1.2.1.2.2.2.1 p i' j' hp z1 y1 he
    rw [z3, y3] at this
    split at this <;> split at this <;> omega
end PNW
