/-! what stays so from act to act -/
def Inv (w : Rw) : Prop := Gd w ∧ LI w ∧ Iv2 w ∧ Iv3 w
section PNV
variable {w W s : Rw} {a b v : Int32} {p q x y i k n : Nat}
theorem iB_n (Z : Rng w) (hp : p < 8) (hy : y < 10) : iBd w p y = (pN w p 10).testBit y := by
  have h10 := Z.p10 (p := p) hp
  unfold iBd
  rw [h10.1, btN _ (by omega) y hy]
theorem iB_bw (hp : p < 8) (hq : q < 8) (hn : n < 1024) (hy : y < 10) : iBd (bw w p n) q y = if q = p then n.testBit y else iBd w q y := by
  unfold iBd
  by_cases h : q = p
  · subst h; rw [if_pos rfl, bw_s, btN n hn y hy]
  · rw [if_neg h, bw_p hq (by decide) (by omega)]
theorem mayH_c (h8 : pF W q 8 = pF w q 8) (h6 : pF W q 6 = pF w q 6) : mayH W q = mayH w q := by unfold mayH isIn_; rw [h8, h6]
theorem dFit_c (h1 : pF W q 1 = pF w q 1) (h0 : hF W y 0 = hF w y 0) : dFit W q y = dFit w q y := by unfold dFit; rw [h1, h0]
theorem Inv_of (H : Inv w) (G : Gd W) (hE : LE w W) (hb : ∀ q y, q < nP w → y < nH w → iBd W q y = true → iBd w q y = true ∨ (mayH w q = true ∧ dFit w q y = true ∧ hF w y 6 = 0)) (hm : ∀ q, q < nP w → pF W q 8 = pF w q 8 ∧ pF W q 6 = pF w q 6 ∧ pF W q 1 = pF w q 1) (hh : ∀ y, y < nH w → hF W y 0 = hF w y 0 ∧ hF W y 6 = hF w y 6) : Inv W := by
  obtain ⟨h1, h2, h3, h4⟩ := H
  have E := hE
  obtain ⟨e1, e2, -⟩ := hE
  refine ⟨G, E.li h1 h2, fun q y hq hy hz => ?_, fun q y hq hy hz => ?_⟩
  · rw [e1] at hq; rw [e2] at hy
    obtain ⟨m1, m2, m3⟩ := hm q hq
    rw [mayH_c m1 m2, dFit_c m3 (hh y hy).1]
    rcases hb q y hq hy hz with z | ⟨z1, z2, -⟩
    · exact h3 q y hq hy z
    · exact ⟨z1, z2⟩
  · rw [e1] at hq; rw [e2] at hy
    rw [(hh y hy).2]
    rcases hb q y hq hy hz with z | ⟨-, -, z⟩
    · exact h4 q y hq hy z
    · exact z
theorem LE_bw (G : Gd w) (hp : p < 8) : LE w (bw w p n) := LE_u G (Or.inr (Or.inl ⟨p, hp, Or.inr (Or.inr (Or.inr rfl))⟩))
theorem why_0 (G : Gd w) (hp : p < 8) (hw : whN w p x = 0) : mayH w p = true ∧ dFit w p x = true ∧ hF w x 6 = 0 := by
  obtain ⟨z1, z2, z3, z4, z5⟩ := whN_0 hw
  refine ⟨?_, z4, ?_⟩
  · unfold mayH
    rw [z1, Bool.true_and]
    obtain ⟨y1, y2⟩ := G.1.p6 (p := p) hp
    rw [y1] at z2 ⊢
    have : pN w p 6 = 0 := by
      rcases Nat.eq_zero_or_pos (pN w p 6) with y | y
      · exact y
      · exact absurd (nI_lt (a := 0) y (by omega)) z2
    rw [this]; rfl
  · unfold isFr at z3
    rw [Bool.and_eq_true] at z3
    exact of_decide_eq_true z3.2
theorem inv_bid (H : Inv w) (hp : p < nP w) (hx : x < nH w) (hw : whN w p x = 0) : Inv (bw w p (pN w p 10 ||| 2 ^ x)) := by
  have G := H.1
  have b1 := G.1.gP.2
  have b2 := G.1.gH.2
  have hc := G.2.1.2.2.2.2.2 p hp
  have hn : pN w p 10 ||| 2 ^ x < 2 ^ nH w := or_lt hc hx
  have hn2 : pN w p 10 ||| 2 ^ x < 1024 := Nat.lt_of_lt_of_le hn (Nat.pow_le_pow_right (n := 2) (by decide) b2)
  refine Inv_of H (Gd_bw G hp hn) (LE_bw G (by omega)) (fun q y hq hy hz => ?_) (fun q hq => ⟨bw_p (by omega) (by decide) (by omega), bw_p (by omega) (by decide) (by omega), bw_p (by omega) (by decide) (by omega)⟩) (fun y hy => ⟨bw_h (by omega) (by decide), bw_h (by omega) (by decide)⟩)
  rw [iB_bw (by omega) (by omega) hn2 (by omega)] at hz
  by_cases hqp : q = p
  · subst hqp
    rw [if_pos rfl, or_tb, Bool.or_eq_true] at hz
    rcases hz with z | z
    · exact Or.inl (by rw [iB_n G.1 (by omega) (by omega)]; exact z)
    · have := of_decide_eq_true z
      subst this
      exact Or.inr (why_0 G (by omega) hw)
  · rw [if_neg hqp] at hz; exact Or.inl hz
theorem inv_drop (H : Inv w) (hp : p < nP w) : Inv (drF x p w) := by
  have G := H.1
  have b1 := G.1.gP.2
  have b2 := G.1.gH.2
  have h10 := G.1.p10 (p := p) (by omega)
  have hn2 : clr (pN w p 10) x < 1024 := by have := clr_le (pN w p 10) x; omega
  refine Inv_of H (Gd_dr G hp) (LE_bw G (by omega)) (fun q y hq hy hz => ?_) (fun q hq => ⟨bw_p (by omega) (by decide) (by omega), bw_p (by omega) (by decide) (by omega), bw_p (by omega) (by decide) (by omega)⟩) (fun y hy => ⟨bw_h (by omega) (by decide), bw_h (by omega) (by decide)⟩)
  unfold drF at hz
  rw [iB_bw (by omega) (by omega) hn2 (by omega)] at hz
  by_cases hqp : q = p
  · subst hqp
    rw [if_pos rfl, clr_tb (by omega), Bool.and_eq_true] at hz
    exact Or.inl (by rw [iB_n G.1 (by omega) (by omega)]; exact hz.1)
  · rw [if_neg hqp] at hz; exact Or.inl hz
theorem inv_week (H : Inv w) (hk : wN w 232 < 999) : Inv (wkE w) := by
  obtain ⟨G, hL, -, -⟩ := H
  obtain ⟨G1, K, -, -, -, h10, -⟩ := wk_ok G hk
  have no : ∀ q y, q < nP (wkE w) → iBd (wkE w) q y = true → False := fun q y hq hz => by
    rw [K.eP] at hq
    unfold iBd at hz
    rw [h10 q hq] at hz
    unfold bt at hz
    have : (0 : Int32) >>> (nI y &&& 31) = 0 := Int32.zero_shiftRight
    rw [this] at hz
    exact absurd hz (by decide)
  exact ⟨G1, (wk_inv G hL hk).1, fun q y hq _ hz => (no q y hq hz).elim, fun q y hq _ hz => (no q y hq hz).elim⟩
theorem inv_rule (H : Inv w) {r : Nat} (hr : r < 6) (hv : ir b (loR r) (hiR r) = true) : Inv (upd w (224 + r) b) := by
  have G := H.1
  have b3 := G.1.gL.2
  refine Inv_of H (Gd_rule G hr hv) ⟨by unfold nP wN; rw [upd_n (by omega)], by unfold nH wN; rw [upd_n (by omega)], by unfold nL wN; rw [upd_n (by omega)], fun i k hi hk => by unfold lF; exact upd_n (by omega), fun q hq => ⟨by unfold pF; exact upd_n (by omega), by unfold pF; exact upd_n (by omega)⟩, fun y hy => by unfold hF; exact upd_n (by omega)⟩ (fun q y hq hy hz => Or.inl ?_) (fun q hq => ?_) (fun y hy => ?_)
  · have b1 := G.1.gP.2
    unfold iBd at hz ⊢
    rw [show pF (upd w (224 + r) b) q 10 = pF w q 10 by unfold pF; exact upd_n (by omega)] at hz
    exact hz
  · have b1 := G.1.gP.2
    refine ⟨?_, ?_, ?_⟩ <;> (unfold pF; exact upd_n (by omega))
  · have b1 := G.1.gH.2
    refine ⟨?_, ?_⟩ <;> (unfold hF; exact upd_n (by omega))
theorem inv_bdA (H : Inv w) : Inv (bdA w) := by
  have G := H.1
  have b1 := G.1.gP.2
  have b2 := G.1.gH.2
  have key : ∀ j, j ≤ nP w → Inv (flN bdP 0 j w) ∧ nP (flN bdP 0 j w) = nP w ∧ nH (flN bdP 0 j w) = nH w := by
    intro j
    induction j with
    | zero => intro _; exact ⟨H, rfl, rfl⟩
    | succ j ih =>
      intro hj
      obtain ⟨i1, i2, i3⟩ := ih (by omega)
      rw [flN_1, Nat.zero_add]
      have key2 : ∀ (s : Rw), Inv s → j < nP s → ∀ k, k ≤ bdM s j → flN (bdn s j) 0 k (pN s j 10) < 2 ^ nH s ∧ Inv (bw s j (flN (bdn s j) 0 k (pN s j 10))) := by
        intro s Hs hjs k
        have Gs := Hs.1
        have bs1 := Gs.1.gP.2
        have bs2 := Gs.1.gH.2
        induction k with
        | zero =>
          intro _
          refine ⟨Gs.2.1.2.2.2.2.2 j hjs, ?_⟩
          show Inv (bw s j (pN s j 10))
          rw [bw_self (Gs.1.p10 (p := j) (by omega)).1]
          exact Hs
        | succ k ih2 =>
          intro hk
          obtain ⟨l1, l2⟩ := ih2 (by omega)
          rw [flN_1, Nat.zero_add]
          have hx := bdH_lt Gs.1 Gs.2.1 hjs (k := k) (by omega)
          generalize flN (bdn s j) 0 k (pN s j 10) = N at l1 l2 ⊢
          unfold bdn
          have hN : N < 1024 := Nat.lt_of_lt_of_le l1 (Nat.pow_le_pow_right (n := 2) (by decide) bs2)
          by_cases hw : whN (bw s j N) j (bdH s j k) = 0
          · rw [if_pos hw]
            refine ⟨or_lt l1 hx, ?_⟩
            have := inv_bid l2 (p := j) (x := bdH s j k) (by rw [bw_nP (by omega)]; exact hjs) (by rw [bw_nH (by omega)]; exact hx) hw
            rw [pN_bw hN] at this
            have e : bw (bw s j N) j (N ||| 2 ^ bdH s j k) = bw s j (N ||| 2 ^ bdH s j k) := upd_upd
            rw [e] at this
            exact this
          · rw [if_neg hw]; exact ⟨l1, l2⟩
      obtain ⟨l1, l2⟩ := key2 _ i1 (by omega) _ (Nat.le_refl _)
      refine ⟨l2, ?_, ?_⟩
      · exact (bw_nP (by omega)).trans i2
      · exact (bw_nH (by omega)).trans i3
  exact (key (nP w) (Nat.le_refl _)).1
theorem bit_0 : bt 0 y = false := by
  unfold bt
  have : (0 : Int32) >>> (nI y &&& 31) = 0 := Int32.zero_shiftRight
  rw [this]; decide
theorem cnN_mn {B C : Nat → Bool} : ∀ n, (∀ j, j < n → B j = true → C j = true) → cnN B n ≤ cnN C n
  | 0, _ => Nat.le_refl _
  | n + 1, h => by
    have := cnN_mn n (fun j hj => h j (by omega))
    rw [cnN_1, cnN_1]
    by_cases hb : B n = true
    · rw [if_pos hb, if_pos (h n (by omega) hb)]; omega
    · rw [if_neg hb]; omega
theorem qtd_p (hp : p < 8) (hq : q < 8) (hk : k < 18) (hh : pF w p 4 = -1 ∨ pN w p 4 < 10) : pF (qtd w p) q k = if q = p ∧ k = 4 then -1 else if q = p ∧ k = 8 then 1 else if q = p ∧ k = 10 then 0 else pF w q k := by
  have hu : ∀ j, 80 ≤ j → (if pF w p 4 = -1 then w else lvsd w (pN w p 4) 0) j = w j := fun j hj => by
    by_cases h4 : pF w p 4 = -1
    · rw [if_pos h4]
    · rw [if_neg h4]
      have : pN w p 4 < 10 := by rcases hh with z | z; (exact absurd z h4); exact z
      unfold lvsd
      rw [upd_n (by omega), upd_n (by omega), upd_n (by omega)]
  unfold qtd qt3 pF at *
  by_cases h10 : 80 + 18 * q + k = 80 + 18 * p + 10
  · rw [h10, upd_s, if_neg (by omega), if_neg (by omega), if_pos (by omega)]
  rw [upd_n h10]
  by_cases h8 : 80 + 18 * q + k = 80 + 18 * p + 8
  · rw [h8, upd_s, if_neg (by omega), if_pos (by omega)]
  rw [upd_n h8]
  by_cases h4 : 80 + 18 * q + k = 80 + 18 * p + 4
  · rw [h4, upd_s, if_pos (by omega)]
  rw [upd_n h4, hu _ (by omega), if_neg (by omega), if_neg (by omega), if_neg (by omega)]
theorem qtd_g (hp : p < 8) (hh : pF w p 4 = -1 ∨ pN w p 4 < 10) {i : Nat} (hi : 224 ≤ i) : qtd w p i = w i := by
  unfold qtd qt3
  rw [upd_n (by omega), upd_n (by omega), upd_n (by omega)]
  by_cases h4 : pF w p 4 = -1
  · rw [if_pos h4]
  · rw [if_neg h4]
    have : pN w p 4 < 10 := by rcases hh with z | z; (exact absurd z h4); exact z
    unfold lvsd
    rw [upd_n (by omega), upd_n (by omega), upd_n (by omega)]
theorem qtd_h (hy : y < 10) (hk : k < 8) : hF (qtd w p) y k = if pF w p 4 = -1 then hF w y k else if y = pN w p 4 ∧ k = 2 then -1 else if y = pN w p 4 ∧ k = 3 then 1 else if y = pN w p 4 ∧ k = 5 then 0 else hF w y k := by
  unfold qtd qt3 hF
  rw [upd_n (by omega), upd_n (by omega), upd_n (by omega)]
  by_cases h4 : pF w p 4 = -1
  · rw [if_pos h4, if_pos h4]
  rw [if_neg h4, if_neg h4]
  unfold lvsd
  by_cases h5 : 8 * y + k = 8 * pN w p 4 + 5
  · rw [h5, upd_s, if_neg (by omega), if_neg (by omega), if_pos (by omega)]
  rw [upd_n h5]
  by_cases h3 : 8 * y + k = 8 * pN w p 4 + 3
  · rw [h3, upd_s, if_neg (by omega), if_pos (by omega)]
  rw [upd_n h3]
  by_cases h2 : 8 * y + k = 8 * pN w p 4 + 2
  · rw [h2, upd_s, if_pos (by omega)]
  rw [upd_n h2, if_neg (by omega), if_neg (by omega), if_neg (by omega)]
theorem inv_leave (H : Inv w) (hp : p < nP w) (hin : isIn_ w p = true) : Inv (qtd w p) ∧ nP (qtd w p) = nP w ∧ nH (qtd w p) = nH w := by
  obtain ⟨⟨Z, C, N⟩, hL, hV, hX⟩ := H
  have b1 := Z.gP.2
  have b2 := Z.gH.2
  have b3 := Z.gL.2
  have hp8 : p < 8 := by omega
  have h4 : pF w p 4 = -1 ∨ (∃ y, y < nH w ∧ pF w p 4 = nI y ∧ hF w y 2 = nI p ∧ pN w p 4 = y) := by
    rcases C.2.1 p hp with z | ⟨y, hy, z1, z2⟩
    · exact Or.inl z
    · refine Or.inr ⟨y, hy, z1, z2, ?_⟩
      show (pF w p 4).toNatClampNeg = y
      rw [z1, nI_clamp (by omega)]
  have hh : pF w p 4 = -1 ∨ pN w p 4 < 10 := by
    rcases h4 with z | ⟨y, hy, -, -, z⟩
    · exact Or.inl z
    · exact Or.inr (by omega)
  have ep : ∀ q k, q < 8 → k < 18 → pF (qtd w p) q k = _ := fun q k hq hk => qtd_p hp8 hq hk hh
  have eg : ∀ i, 224 ≤ i → qtd w p i = w i := fun i hi => qtd_g hp8 hh hi
  have eP : nP (qtd w p) = nP w := by unfold nP wN; rw [eg _ (by decide)]
  have eH : nH (qtd w p) = nH w := by unfold nH wN; rw [eg _ (by decide)]
  have eL : nL (qtd w p) = nL w := by unfold nL wN; rw [eg _ (by decide)]
  have el : ∀ i k, lF (qtd w p) i k = lF w i k := fun i k => by unfold lF; exact eg _ (by omega)
  have elN : ∀ i k, lN_ (qtd w p) i k = lN_ w i k := fun i k => by unfold lN_; rw [el]
  have ein : ∀ q, q < 8 → isIn_ (qtd w p) q = (if q = p then false else isIn_ w q) := fun q hq => by
    unfold isIn_
    rw [ep q 8 hq (by decide)]
    by_cases h : q = p
    · rw [if_neg (by omega), if_pos ⟨h, rfl⟩, if_pos h]; rfl
    · rw [if_neg (by omega), if_neg (by omega), if_neg (by omega), if_neg h]
  have ek : ∀ q k, q < 8 → k < 18 → k ≠ 4 → k ≠ 8 → k ≠ 10 → pF (qtd w p) q k = pF w q k := fun q k hq hk a1 a2 a3 => by
    rw [ep q k hq hk, if_neg (by omega), if_neg (by omega), if_neg (by omega)]
  have en : ∀ q k, q < 8 → k < 18 → q ≠ p → pF (qtd w p) q k = pF w q k := fun q k hq hk a1 => by
    rw [ep q k hq hk, if_neg (by omega), if_neg (by omega), if_neg (by omega)]
  have eh : ∀ y k, y < 10 → k < 8 → k ≠ 2 → k ≠ 3 → k ≠ 5 → hF (qtd w p) y k = hF w y k := fun y k hy hk a1 a2 a3 => by
    rw [qtd_h hy hk]
    split
    · rfl
    · rw [if_neg (by omega), if_neg (by omega), if_neg (by omega)]
  have Zq : Rng (qtd w p) := by
    unfold qtd qt3
    have Zu : Rng (if pF w p 4 = -1 then w else lvsd w (pN w p 4) 0) := by
      by_cases z : pF w p 4 = -1
      · rw [if_pos z]; exact Z
      · rw [if_neg z]
        have : pN w p 4 < 10 := by rcases hh with y | y; (exact absurd y z); exact y
        unfold lvsd
        exact Rng_h (Rng_h (Rng_h Z this (by decide) (show inI (-1) (-1) 7 from ⟨by decide, by decide⟩)) this (by decide) (show inI 1 0 1 from ⟨by decide, by decide⟩)) this (by decide) trivial
    exact Rng_p (Rng_p (Rng_p Zu hp8 (by decide) (show inI (-1) (-1) 9 from ⟨by decide, by decide⟩)) hp8 (by decide) (show inI 1 0 1 from ⟨by decide, by decide⟩)) hp8 (by decide) (show inI 0 0 1023 from ⟨by decide, by decide⟩)
  have lp : ∀ i, i < nL w → lN_ w i 0 ≠ p := fun i hi e => by
    have := (C.2.2.2.2.1 i hi).2.2
    rw [e, hin] at this; cases this
  have Cq : Con (qtd w p) := by
    refine ⟨fun h hh' => ?_, fun q hq => ?_, fun q i hq hi => ?_, fun q i j hq hi hj he => ?_, fun i hi => ?_, fun q hq => ?_⟩
    · rw [eH] at hh'
      rw [eP, qtd_h (by omega) (by decide)]
      rcases h4 with z | ⟨y, hy, z1, z2, z3⟩
      · rw [if_pos z]
        rcases C.1 h hh' with t | ⟨q, hq, t1, t2⟩
        · exact Or.inl t
        · refine Or.inr ⟨q, hq, t1, ?_⟩
          rw [en q 4 (by omega) (by decide) (fun e => by rw [e, z] at t2; exact absurd t2.symm (nI_m1 (by omega)))]
          exact t2
      · have hne : ¬ pF w p 4 = -1 := by rw [z1]; exact nI_m1 (by omega)
        rw [if_neg hne, z3]
        by_cases hhy : h = y
        · rw [if_pos ⟨hhy, rfl⟩]; exact Or.inl rfl
        · rw [if_neg (by omega), if_neg (by omega), if_neg (by omega)]
          rcases C.1 h hh' with t | ⟨q, hq, t1, t2⟩
          · exact Or.inl t
          · refine Or.inr ⟨q, hq, t1, ?_⟩
            rw [en q 4 (by omega) (by decide) (fun e => by rw [e, z1] at t2; exact hhy ((nI_eq (by omega) (by omega)).mp t2).symm)]
            exact t2
    · rw [eP] at hq
      rw [eH]
      by_cases hqp : q = p
      · left
        rw [ep q 4 (by omega) (by decide), if_pos ⟨hqp, rfl⟩]
      · rw [en q 4 (by omega) (by decide) hqp]
        rcases C.2.1 q hq with t | ⟨h, hh', t1, t2⟩
        · exact Or.inl t
        · refine Or.inr ⟨h, hh', t1, ?_⟩
          rw [qtd_h (by omega) (by decide)]
          rcases h4 with z | ⟨y, hy, z1, z2, z3⟩
          · rw [if_pos z]; exact t2
          · have hne : ¬ pF w p 4 = -1 := by rw [z1]; exact nI_m1 (by omega)
            have hhy : h ≠ y := fun e => by rw [e, z2] at t2; exact hqp ((nI_eq (by omega) (by omega)).mp t2).symm
            rw [if_neg hne, z3, if_neg (by omega), if_neg (by omega), if_neg (by omega)]
            exact t2
    · rw [eP] at hq
      have e11 : pN (qtd w p) q 11 = pN w q 11 := by unfold pN; rw [ek q 11 (by omega) (by decide) (by decide) (by decide) (by decide)]
      rw [e11] at hi
      have := (Z.p11 (p := q) (by omega)).2
      rw [eH, show pN (qtd w p) q (12 + i) = pN w q (12 + i) by unfold pN; rw [ek q (12 + i) (by omega) (by omega) (by omega) (by omega) (by omega)]]
      exact C.2.2.1 q i hq hi
    · rw [eP] at hq
      have e11 : pN (qtd w p) q 11 = pN w q 11 := by unfold pN; rw [ek q 11 (by omega) (by decide) (by decide) (by decide) (by decide)]
      rw [e11] at hi hj
      have := (Z.p11 (p := q) (by omega)).2
      rw [ek q (12 + i) (by omega) (by omega) (by omega) (by omega) (by omega), ek q (12 + j) (by omega) (by omega) (by omega) (by omega) (by omega)] at he
      exact C.2.2.2.1 q i j hq hi hj he
    · rw [eL] at hi
      obtain ⟨t1, t2, t3⟩ := C.2.2.2.2.1 i hi
      rw [elN, elN, eP, eH, ein _ (by omega), if_neg (lp i hi)]
      exact ⟨t1, t2, t3⟩
    · rw [eP] at hq
      rw [eH]
      by_cases hqp : q = p
      · have : pN (qtd w p) q 10 = 0 := by
          show (pF (qtd w p) q 10).toNatClampNeg = 0
          rw [ep q 10 (by omega) (by decide), if_neg (by omega), if_neg (by omega), if_pos ⟨hqp, rfl⟩]; rfl
        rw [this]
        exact Nat.two_pow_pos _
      · have : pN (qtd w p) q 10 = pN w q 10 := by unfold pN; rw [en q 10 (by omega) (by decide) hqp]
        rw [this]
        exact C.2.2.2.2.2 q hq
  have Nq : Cn (qtd w p) := by
    unfold Cn at N ⊢
    rw [eL, eP]
    refine Nat.le_trans N (cnN_mn _ (fun j hj hb => ?_))
    rw [ein j (by omega)]
    by_cases hjp : j = p
    · rw [if_pos hjp]; rfl
    · rw [if_neg hjp]; exact hb
  refine ⟨⟨⟨Zq, Cq, Nq⟩, ⟨fun i j hi hj he => ?_, fun i hi => ?_, fun h hh' => ?_⟩, fun q y hq hy hz => ?_, fun q y hq hy hz => ?_⟩, eP, eH⟩
  · rw [eL] at hi hj
    rw [el, el] at he
    exact hL.1 i j hi hj he
  · rw [eL] at hi
    have := (Z.l0 (i := i) (by omega)).2
    rw [elN, el, en _ 4 (by omega) (by decide) (lp i hi)]
    exact hL.2.1 i hi
  · rw [eH] at hh'
    rw [eh h 4 (by omega) (by decide) (by decide) (by decide) (by decide), eL, hL.2.2 h hh']
    exact congrArg nI (cnN_c _ (fun j hj => by rw [el]))
  · rw [eP] at hq; rw [eH] at hy
    by_cases hqp : q = p
    · unfold iBd at hz
      rw [ep q 10 (by omega) (by decide), if_neg (by omega), if_neg (by omega), if_pos ⟨hqp, rfl⟩, bit_0] at hz
      cases hz
    · have : iBd (qtd w p) q y = iBd w q y := by unfold iBd; rw [en q 10 (by omega) (by decide) hqp]
      rw [this] at hz
      obtain ⟨v1, v2⟩ := hV q y hq hy hz
      rw [mayH_c (en q 8 (by omega) (by decide) hqp) (en q 6 (by omega) (by decide) hqp), dFit_c (en q 1 (by omega) (by decide) hqp) (eh y 0 (by omega) (by decide) (by decide) (by decide) (by decide))]
      exact ⟨v1, v2⟩
  · rw [eP] at hq; rw [eH] at hy
    rw [eh y 6 (by omega) (by decide) (by decide) (by decide) (by decide)]
    by_cases hqp : q = p
    · unfold iBd at hz
      rw [ep q 10 (by omega) (by decide), if_neg (by omega), if_neg (by omega), if_pos ⟨hqp, rfl⟩, bit_0] at hz
      cases hz
    · have : iBd (qtd w p) q y = iBd w q y := by unfold iBd; rw [en q 10 (by omega) (by decide) hqp]
      rw [this] at hz
      exact hX q y hq hy hz
end PNV
