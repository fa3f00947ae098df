/-! the order's sign is that of the weights -/
section PCS
variable {w : Rw} {x a b : Nat} {lf lb : Int32}
theorem sub_i {m n : Nat} (hm : m < 2 ^ 30) (hn : n < 2 ^ 30) : (nI m - nI n = 0 ↔ m = n) ∧ (nI m - nI n).toInt = (m : Int) - n := by
  have h := pk_sub_toInt hm hn
  refine ⟨⟨fun e => ?_, fun e => by rw [e]; exact Int32.sub_self _⟩, h⟩
  rw [e] at h
  have : (0 : Int32).toInt = 0 := by decide
  omega
def fst1 (w : Rw) (x p : Nat) : Nat := if lcl w x = true ∧ ¬ pF w p 2 = hF w x 1 then 1 else 0
def snd1 (w : Rw) (p : Nat) : Nat := if qta w = true ∧ pF w p 4 = -1 then 1 else 0
theorem td_f (w : Rw) (x a b : Nat) : bI (tdB w x b) - bI (tdB w x a) = nI (fst1 w x a) - nI (fst1 w x b) := by
  unfold tdB fst1
  cases lcl w x
  · simp [bI]
  · by_cases h1 : pF w a 2 = hF w x 1 <;> by_cases h2 : pF w b 2 = hF w x 1 <;> simp [h1, h2, bI] <;> decide
theorem mv_s (C : Con w) (ha : a < nP w) (hb : b < nP w) (h2 : nH w ≤ 10) : bI (mvB w b) - bI (mvB w a) = nI (snd1 w a) - nI (snd1 w b) := by
  have key : ∀ p, p < nP w → (decide (pF w p 4 < 0) = decide (pF w p 4 = -1)) := by
    intro p hp
    rcases C.2.1 p hp with h | ⟨h, hh, g1, g2⟩
    · rw [h]; decide
    · rw [g1, decide_eq_false (nI_pos (by omega)), decide_eq_false (nI_m1 (by omega))]
  unfold mvB snd1
  rw [key a ha, key b hb]
  cases qta w
  · simp [bI]
  · by_cases h1 : pF w a 4 = -1 <;> by_cases h2 : pF w b 4 = -1 <;> simp [h1, h2, bI] <;> decide
theorem cm_gen (Z : Rng w) (C : Con w) (ha : a < nP w) (hb : b < nP w) {ba bb : Nat} (h1 : btI w lf lb a = nI ba) (h2 : btI w lf lb b = nI bb) (ba4 : ba ≤ 4) (bb4 : bb ≤ 4) :
    (cmI w lf lb x a b < 0 ↔ wt3 w a x ba < wt3 w b x bb) ∧ (0 < cmI w lf lb x a b ↔ wt3 w b x bb < wt3 w a x ba) := by
  have e8 := Z.gP.2
  obtain ⟨d1, d2⟩ := Z.p3 (p := a) (by omega)
  obtain ⟨d3, d4⟩ := Z.p3 (p := b) (by omega)
  have z0 : (0 : Int32).toInt = 0 := by decide
  have f1 : fst1 w x a ≤ 1 := by unfold fst1; split <;> omega
  have f2 : fst1 w x b ≤ 1 := by unfold fst1; split <;> omega
  have s1 : snd1 w a ≤ 1 := by unfold snd1; split <;> omega
  have s2 : snd1 w b ≤ 1 := by unfold snd1; split <;> omega
  have t1 := sub_i (m := fst1 w x a) (n := fst1 w x b) (by omega) (by omega)
  have t2 := sub_i (m := snd1 w a) (n := snd1 w b) (by omega) (by omega)
  have t3 := sub_i (m := ba) (n := bb) (by omega) (by omega)
  have t4 := sub_i (m := pN w a 3) (n := pN w b 3) (by omega) (by omega)
  have t5 := sub_i (m := a) (n := b) (by omega) (by omega)
  have hw : ∀ p q, wt3 w p x q = (((2 * fst1 w x p + snd1 w p) * 5 + q) * 1000 + pN w p 3) * 8 + p := fun p q => rfl
  rw [hw, hw, Int32.lt_iff_toInt_lt, Int32.lt_iff_toInt_lt, z0]
  unfold cmI plI
  rw [td_f, mv_s C ha hb Z.gH.2, h1, h2, d1, d3]
  by_cases c1 : fst1 w x a = fst1 w x b
  · rw [if_pos (t1.1.mpr c1)]
    by_cases c2 : snd1 w a = snd1 w b
    · rw [if_pos (t2.1.mpr c2)]
      by_cases c3 : ba = bb
      · rw [if_pos (t3.1.mpr c3)]
        by_cases c4 : pN w a 3 = pN w b 3
        · rw [if_pos (t4.1.mpr c4)]
          by_cases c5 : a = b
          · rw [if_pos (t5.1.mpr c5), if_pos rfl, z0]; omega
          · rw [if_neg (fun z => c5 (t5.1.mp z)), if_neg (fun z => c5 (t5.1.mp z)), t5.2]; omega
        · rw [if_neg (fun z => c4 (t4.1.mp z)), if_neg (fun z => c4 (t4.1.mp z)), t4.2]; omega
      · rw [if_neg (fun z => c3 (t3.1.mp z)), if_neg (fun z => c3 (t3.1.mp z)), t3.2]; omega
    · rw [if_neg (fun z => c2 (t2.1.mp z)), t2.2]; omega
  · rw [if_neg (fun z => c1 (t1.1.mp z)), t1.2]; omega
theorem bt_0 (Z : Rng w) (ha : a < nP w) : btI w lf 0 a = nI (bnd w a) ∧ bnd w a ≤ 4 := by
  have e8 := Z.gP.2
  obtain ⟨e1, e2, e3⟩ := bn_n Z (p := a) (by omega)
  refine ⟨?_, e3⟩
  unfold btI
  rw [e1]
  split <;> exact Int32.sub_zero _
theorem cm_0 (Z : Rng w) (C : Con w) (ha : a < nP w) (hb : b < nP w) : (cmI w lf 0 x a b < 0 ↔ wgt w x a < wgt w x b) ∧ (0 < cmI w lf 0 x a b ↔ wgt w x b < wgt w x a) :=
  cm_gen Z C ha hb (bt_0 (lf := lf) Z ha).1 (bt_0 (lf := lf) Z hb).1 (bt_0 (lf := lf) Z ha).2 (bt_0 (lf := lf) Z hb).2
end PCS
