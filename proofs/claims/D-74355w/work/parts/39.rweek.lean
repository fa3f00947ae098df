/-! a week's end keeps the row good -/
section PRW
variable {w W s : Rw} {p q h y k i n : Nat} {v : Int32}
def KT (w W : Rw) : Prop := (∀ q k, q < 8 → k < 18 → k < 4 ∨ 11 ≤ k → pF W q k = pF w q k) ∧ (∀ y k, y < 10 → k = 0 ∨ k = 1 ∨ k = 6 → hF W y k = hF w y k) ∧ ∀ i, 224 ≤ i → i < 232 → W i = w i
theorem KT.rfl' : KT w w := ⟨fun _ _ _ _ _ => rfl, fun _ _ _ _ => rfl, fun _ _ _ => rfl⟩
theorem KT.trans {a b c : Rw} (h1 : KT a b) (h2 : KT b c) : KT a c := ⟨fun q k a1 a2 a3 => (h2.1 q k a1 a2 a3).trans (h1.1 q k a1 a2 a3), fun y k a1 a2 => (h2.2.1 y k a1 a2).trans (h1.2.1 y k a1 a2), fun i a1 a2 => (h2.2.2 i a1 a2).trans (h1.2.2 i a1 a2)⟩
theorem KS.kt (K : KS w W) : KT w W := ⟨fun q k a1 a2 a3 => K.1 q k a1 a2 (by omega), K.2.1, fun i a1 a2 => K.2.2 i a1 (by omega)⟩
theorem BS.kt (B : BS w W) : KT w W := ⟨fun q k a1 a2 a3 => B.pp a1 a2 (by omega), fun y k a1 a2 => B.hh a1 (by omega), fun i a1 a2 => B.g a1⟩
theorem KT.eH (K : KT w W) : nH W = nH w := by show (W 230).toNatClampNeg = _; rw [K.2.2 230 (by decide) (by decide)]; rfl
theorem KT.eP (K : KT w W) : nP W = nP w := by show (W 231).toNatClampNeg = _; rw [K.2.2 231 (by decide) (by decide)]; rfl
/-- a good row -/
def Gd (w : Rw) : Prop := Rng w ∧ Con w ∧ Cn w
theorem Gd_of (G : Gd w) (hR : Rng W) (e1 : nH W = nH w) (e2 : nP W = nP w) (e3 : nL W = nL w) (e4 : ∀ y, y < 10 → hF W y 2 = hF w y 2) (e5 : ∀ q k, q < 8 → k = 4 ∨ k = 8 ∨ k = 10 ∨ k = 11 ∨ (12 ≤ k ∧ k < 18) → pF W q k = pF w q k) (e6 : ∀ i k, i < nL w → k = 0 ∨ k = 1 → lF W i k = lF w i k) : Gd W := by
  have b2 := G.1.gP.2
  refine ⟨hR, Con_of G.1 G.2.1 e1 e2 e3 e4 e5 e6, ?_⟩
  unfold Cn
  rw [e3, e2, cnN_c (C := fun q => !isIn_ w q) _ (fun q hq => by show (!isIn_ _ q) = _; unfold isIn_; rw [e5 q 8 (by omega) (by omega)])]
  exact G.2.2
theorem Gd_p (G : Gd w) (hp : p < 8) (hk : k = 5 ∨ k = 6 ∨ k = 7 ∨ k = 9) (hv : pB k v) : Gd (upd w (80 + 18 * p + k) v) :=
  Gd_of G (Rng_p G.1 hp (by omega) hv) (by unfold nH wN; rw [upd_n (by omega)]) (by unfold nP wN; rw [upd_n (by omega)]) (by unfold nL wN; rw [upd_n (by omega)]) (fun y hy => by unfold hF; exact upd_n (by omega)) (fun q j hq hj => by unfold pF; exact upd_n (by omega)) (fun i j hi hj => by unfold lF; exact upd_n (by omega))
theorem Gd_h (G : Gd w) (hh : h < 10) (hk : k < 8) (h2 : k ≠ 2) (hv : hB k v) : Gd (upd w (8 * h + k) v) :=
  Gd_of G (Rng_h G.1 hh hk hv) (by unfold nH wN; rw [upd_n (by omega)]) (by unfold nP wN; rw [upd_n (by omega)]) (by unfold nL wN; rw [upd_n (by omega)]) (fun y hy => by unfold hF; exact upd_n (by omega)) (fun q j hq hj => by unfold pF; exact upd_n (by omega)) (fun i j hi hj => by unfold lF; exact upd_n (by omega))
theorem Gd_bw (G : Gd w) (hp : p < nP w) (hn : n < 2 ^ nH w) : Gd (bw w p n) := by
  have b1 := G.1.gH.2
  have b2 := G.1.gP.2
  have h2 : 2 ^ nH w ≤ 2 ^ 10 := Nat.pow_le_pow_right (by decide) b1
  exact ⟨Rng_bw G.1 (by omega) (by omega), Con_bw G.1 G.2.1 hp hn, Cn_bw G.1 G.2.2 (by omega)⟩
theorem mx_dec {n : Nat} (hn : n ≤ 52) : mx32 0 (nI n - 1) = nI (n - 1) := by
  have : ∀ n, n ≤ 52 → mx32 0 (nI n - 1) = nI (n - 1) := by decide +kernel
  exact this n hn
theorem edF_ok (G : Gd s) (hp : p < nP s) : Gd (edF p s) ∧ KT s (edF p s) ∧ nL (edF p s) = nL s ∧ edF p s 232 = s 232 ∧ nO (edF p s) = nO s ∧ ∀ q, q < 8 → pF (edF p s) q 10 = if q = p then 0 else pF s q 10 := by
  have b2 := G.1.gP.2
  have hp8 : p < 8 := by omega
  have h0 : Gd (bw s p 0) := Gd_bw G hp (Nat.two_pow_pos _)
  have e0 : upd s (80 + 18 * p + 10) 0 = bw s p 0 := rfl
  obtain ⟨e6, l6⟩ := G.1.p6 hp8
  have out : ∀ i, i ≠ 80 + 18 * p + 10 → i ≠ 80 + 18 * p + 6 → i ≠ 80 + 18 * p + 7 → edF p s i = s i := by
    intro i n10 n6 n7
    unfold edF
    rw [upd_n n7]
    split
    · rw [upd_n n6, upd_n n10]
    · rw [upd_n n10]
  refine ⟨?_, ⟨fun q k a1 a2 a3 => ?_, fun y k a1 a2 => ?_, fun i a1 a2 => out i (by omega) (by omega) (by omega)⟩, ?_, out 232 (by omega) (by omega) (by omega), ?_, fun q hq => ?_⟩
  · unfold edF
    rw [e0]
    have f7 : inI (0 : Int32) 0 1 := ⟨by decide, by decide⟩
    split
    · rw [e6, mx_dec l6]
      exact Gd_p (Gd_p h0 hp8 (by omega) (inI_of (b := 52) (by omega) (by decide) (by decide))) hp8 (by omega) f7
    · exact Gd_p h0 hp8 (by omega) f7
  · unfold pF; exact out _ (by omega) (by omega) (by omega)
  · unfold hF; exact out _ (by omega) (by omega) (by omega)
  · unfold nL wN; rw [out 233 (by omega) (by omega) (by omega)]
  · unfold nO wN; rw [out 299 (by omega) (by omega) (by omega)]
  · by_cases e : q = p
    · subst e
      rw [if_pos rfl]
      unfold edF pF
      rw [upd_n (by omega)]
      split
      · rw [upd_n (by omega), upd_s]
      · rw [upd_s]
    · rw [if_neg e]; unfold pF; exact out _ (by omega) (by omega) (by omega)
theorem w1_ok (G : Gd w) : Gd (w1E w) ∧ KT w (w1E w) ∧ nL w ≤ nL (w1E w) ∧ w1E w 232 = w 232 ∧ nO (w1E w) ≤ 30 := by
  have b1 := G.1.gH.2
  have e0 : nH (upd w 299 0) = nH w := by unfold nH wN; rw [upd_n (by decide)]
  have eL : nL (upd w 299 0) = nL w := by unfold nL wN; rw [upd_n (by decide)]
  have H := P60_N (w := upd w 299 0) (fr := frE w) (s := upd w 299 0) (by rw [e0]; exact b1) (nH w) 0 (by rw [e0]; omega) (P60_0 G.1 G.2.1 G.2.2)
  rw [e0] at H
  obtain ⟨g1, g2, g3, g4, g5, g6, g7⟩ := H
  have K0 : KT w (upd w 299 0) := ⟨fun q k a1 a2 a3 => by unfold pF; exact upd_n (by omega), fun y k a1 a2 => by unfold hF; exact upd_n (by omega), fun i a1 a2 => upd_n (by omega)⟩
  exact ⟨⟨g1, g2, g3⟩, K0.trans g4.kt, by rw [eL] at g6; exact g6, (g4.2.2 232 (by decide) (by decide)).trans (upd_n (by decide)), Nat.le_trans g5 (by omega)⟩
theorem w2_ok (G : Gd w) : Gd (w2E w) ∧ KT w (w2E w) ∧ nL w ≤ nL (w2E w) ∧ w2E w 232 = w 232 ∧ nO (w2E w) ≤ 30 ∧ ∀ y, y < nH w → hF (w2E w) y 3 = 0 := by
  have b1 := G.1.gH.2
  obtain ⟨g1, g2, g3, g4, g5⟩ := w1_ok G
  have key := flN_i (f := fun h s => upd s (8 * h + 3) 0) (fun j s => Gd s ∧ KT w s ∧ nL w ≤ nL s ∧ s 232 = w 232 ∧ nO s ≤ 30 ∧ ∀ y, y < j → hF s y 3 = 0) (nH w) 0 (w1E w) ⟨g1, g2, g3, g4, g5, fun y hy => absurd hy (by omega)⟩ (fun j s h1 h2 H => by
    obtain ⟨a1, a2, a3, a4, a5, a6⟩ := H
    refine ⟨Gd_h a1 (by omega) (by decide) (by decide) (show inI 0 0 1 from ⟨by decide, by decide⟩), a2.trans ⟨fun q k c1 c2 c3 => by unfold pF; exact upd_n (by omega), fun y k c1 c2 => by unfold hF; exact upd_n (by omega), fun i c1 c2 => upd_n (by omega)⟩, ?_, ?_, ?_, fun y hy => ?_⟩
    · have : nL (upd s (8 * j + 3) 0) = nL s := by unfold nL wN; rw [upd_n (by omega)]
      rw [this]; exact a3
    · rw [← a4]; exact upd_n (by omega)
    · have : nO (upd s (8 * j + 3) 0) = nO s := by unfold nO wN; rw [upd_n (by omega)]
      rw [this]; exact a5
    · by_cases e : y = j
      · subst e; unfold hF; exact upd_s
      · rw [← a6 y (by omega)]; unfold hF; exact upd_n (by omega))
  rw [Nat.zero_add] at key
  exact key
theorem wk_ok (G : Gd w) (hk : wN w 232 < 999) : Gd (wkE w) ∧ KT w (wkE w) ∧ nL w ≤ nL (wkE w) ∧ wkE w 232 = nI (wN w 232 + 1) ∧ nO (wkE w) ≤ 30 ∧ (∀ q, q < nP w → pF (wkE w) q 10 = 0) ∧ ∀ y, y < nH w → hF (wkE w) y 3 = 0 := by
  have b1 := G.1.gH.2
  have b2 := G.1.gP.2
  obtain ⟨g1, g2, g3, g4, g5, g6⟩ := w2_ok G
  have key := flN_i (f := edF) (fun j s => Gd s ∧ KT w s ∧ nL w ≤ nL s ∧ s 232 = w 232 ∧ nO s ≤ 30 ∧ (∀ q, q < j → pF s q 10 = 0) ∧ ∀ y, y < nH w → hF s y 3 = 0) (nP w) 0 (w2E w) ⟨g1, g2, g3, g4, g5, fun q hq => absurd hq (by omega), g6⟩ (fun j s h1 h2 H => by
    obtain ⟨a1, a2, a3, a4, a5, a6, a7⟩ := H
    obtain ⟨c1, c2, c3, c4, c5, c6⟩ := edF_ok a1 (p := j) (by rw [a2.eP]; omega)
    refine ⟨c1, a2.trans c2, by rw [c3]; exact a3, by rw [c4]; exact a4, by rw [c5]; exact a5, fun q hq => ?_, fun y hy => ?_⟩
    · rw [c6 q (by omega)]
      split
      · rfl
      · exact a6 q (by omega)
    · rw [← a7 y hy]
      unfold edF hF
      rw [upd_n (by omega)]
      split
      · rw [upd_n (by omega), upd_n (by omega)]
      · rw [upd_n (by omega)])
  rw [Nat.zero_add] at key
  obtain ⟨a1, a2, a3, a4, a5, a6, a7⟩ := key
  have e3 : w3E w = flN edF 0 (nP w) (w2E w) := rfl
  rw [← e3] at a1 a2 a3 a4 a5 a6 a7
  have hv : w3E w 232 + 1 = nI (wN w 232 + 1) := by rw [a4, G.1.gW.1, nI_1]
  unfold wkE
  rw [hv]
  refine ⟨Gd_of a1 (Rng_g a1.1 (by decide) (inI_of (b := 999) (by omega) (by decide) (by decide))) (by unfold nH wN; rw [upd_n (by decide)]) (by unfold nP wN; rw [upd_n (by decide)]) (by unfold nL wN; rw [upd_n (by decide)]) (fun y hy => by unfold hF; exact upd_n (by omega)) (fun q j hq hj => by unfold pF; exact upd_n (by omega)) (fun i j hi hj => by unfold lF; exact upd_n (by omega)), a2.trans ⟨fun q k c1 c2 c3 => by unfold pF; exact upd_n (by omega), fun y k c1 c2 => by unfold hF; exact upd_n (by omega), fun i c1 c2 => upd_n (by omega)⟩, ?_, upd_s, ?_, fun q hq => ?_, fun y hy => ?_⟩
  · have : nL (upd (w3E w) 232 (nI (wN w 232 + 1))) = nL (w3E w) := by unfold nL wN; rw [upd_n (by decide)]
    rw [this]; exact a3
  · have : nO (upd (w3E w) 232 (nI (wN w 232 + 1))) = nO (w3E w) := by unfold nO wN; rw [upd_n (by decide)]
    rw [this]; exact a5
  · rw [← a6 q hq]; unfold pF; exact upd_n (by omega)
  · rw [← a7 y hy]; unfold hF; exact upd_n (by omega)
/-- bids and a week's end, as the reference does it -/
def omE (w : Rw) : Rw := wkE (bdA w)
theorem m_oneMore (G : Gd w) (hk : wN w 232 < 999) : f_X3_oneMore w = some (omE w) ∧ Gd (omE w) ∧ KT w (omE w) ∧ nL w ≤ nL (omE w) ∧ omE w 232 = nI (wN w 232 + 1) ∧ nO (omE w) ≤ 30 ∧ (∀ q, q < nP w → pF (omE w) q 10 = 0) := by
  obtain ⟨m1, m2, m3, m4, m5, m6⟩ := m_allBid G.1 G.2.1 G.2.2
  have G1 : Gd (bdA w) := ⟨m3, m4, m5⟩
  have e2 : bdA w 232 = w 232 := m6.g (by decide)
  have eN : wN (bdA w) 232 = wN w 232 := by unfold wN; rw [e2]
  obtain ⟨a1, a2, a3, a4, a5, a6, a7⟩ := wk_ok G1 (by rw [eN]; exact hk)
  simp only [f_X3_oneMore, m1, Option.bind_some]
  rw [e2, G.1.gW.1, if_neg (nI_ge hk (by decide)), m_weekEnds G1.1 G1.2.1 G1.2.2, Option.bind_some]
  have eL : nL (bdA w) = nL w := by unfold nL wN; rw [m6.g (by decide)]
  rw [eL] at a3
  rw [eN] at a4
  exact ⟨rfl, a1, m6.kt.trans a2, a3, a4, a5, fun q hq => a6 q (by rw [m6.kt.eP]; exact hq)⟩
end PRW
