/-! a list loses one; the acts that are remembered -/
section PRM
variable {h h1 : AH} {E : bE} {a e n cap nx i k : Nat} {f : Nat → Nat} {g : Nat → Option Nat}
theorem cR_self (q : h e = some (rO cap g)) (hk : i + 1 + k ≤ cap) (hc : cap < 2 ^ 30) (hst : ∀ j, j < k → ∀ v ∈ g (i + 1 + j), stO 4 (h v) = true) : cR h e (nI i + 1) e (nI i) (nI k) = some (hu h e (rO cap (va_cpy g g (i + 1) i k))) := by
  have r0 : cpR (nI (i + 1)) (nI k) cap = true := by
    unfold cpR
    rw [nI_toInt (by omega), nI_toInt (by omega)]
    exact decide_eq_true ⟨by omega, by omega, by omega⟩
  have r1 : cpR (nI i) (nI k) cap = true := by
    unfold cpR
    rw [nI_toInt (by omega), nI_toInt (by omega)]
    exact decide_eq_true ⟨by omega, by omega, by omega⟩
  rw [nI_1]
  simp only [cR, arR, q, rO, if_true, Option.bind_some, r0, r1, gdT]
  rw [nI_clamp (by omega), nI_clamp (by omega), nI_clamp (by omega), gd_e (decide_eq_true (fun j hj v hv => hst j hj v hv))]
theorem L_remove (L : LstC h a e n f cap) (hi : i < n) (hf : ∀ j, j < n → stO 4 (h (f j)) = true) : ∃ h', f_J2_remove E h nx a (nI i) = some (f i, h', 0, 0) ∧ LstC h' a e (n - 1) (fun j => if j < i then f j else f (j + 1)) cap ∧ ∀ q, q ≠ a → q ≠ e → h' q = h q := by
  obtain ⟨m, g, q1, q2, q3, q4, q5, q6, q7⟩ := L
  have q1 : h a = some (lO m e n) := q1
  have q2 : h e = some (rO cap g) := q2
  have hne := ne_lr q1 q2
  have a1 : hu h a (lO (m + 1) e n) a = some (lO (m + 1) e n) := hu_s
  have e1 : hu h a (lO (m + 1) e n) e = some (rO cap g) := (hu_n (Ne.symm hne)).trans q2
  have ar : aR h e 4 (nI i) = some (f i) := by
    simp only [aR, arR, q2, rO, if_true, Option.bind_some]
    rw [gdn ⟨by omega, by omega⟩, nI_clamp (by omega)]
    exact q6 i hi
  have ck : f_J3_checkIndex (nI i) (nI n) = some (nI i) := by
    simp only [f_J3_checkIndex, f_J4_checkIndex]
    rw [if_neg (nI_pos (by omega)), if_pos (nI_lt hi (by omega))]
    rfl
  have fin : ∀ (h2 : AH) (g2 : Nat → Option Nat), h2 a = some (lO (m + 1) e n) → h2 e = some (rO cap g2) → (∀ q, q ≠ a → q ≠ e → h2 q = h q) → (∀ j, j < n - 1 → g2 j = some (if j < i then f j else f (j + 1))) → (∀ j, n ≤ j → j < cap → g2 j = none) → ∃ h', f_J2_fastRemove_34 E a e (nI n - 1) h2 nx = some ((), h', 0, 0) ∧ LstC h' a e (n - 1) (fun j => if j < i then f j else f (j + 1)) cap ∧ ∀ q, q ≠ a → q ≠ e → h' q = h q := by
    intro h2 g2 k1 k2 k3 k4 k5
    obtain ⟨n', rfl⟩ : ∃ n', n = n' + 1 := ⟨n - 1, by omega⟩
    rw [nI_pred]
    have w2 : wr h2 a 11 2 (.int (nI n')) = some (hu h2 a (lO (m + 1) e n')) := l_w2 k1 n'
    have e2 : hu h2 a (lO (m + 1) e n') e = some (rO cap g2) := (hu_n (Ne.symm hne)).trans k2
    have s2 : sR (hu h2 a (lO (m + 1) e n')) e 4 (nI n') none = some (hu (hu h2 a (lO (m + 1) e n')) e (rO cap (va_up g2 n' none))) := by
      simp only [sR, arR, e2, rO, if_true, Option.bind_some]
      rw [gdn ⟨by omega, by omega⟩, nI_clamp (by omega)]
    unfold f_J2_fastRemove_34
    rw [w2, Option.bind_some, s2, Option.bind_some]
    refine ⟨_, rfl, ⟨m + 1, va_up g2 n' none, (hu_n hne).trans hu_s, hu_s, by omega, q4, q5, fun j hj => ?_, fun j hj hj2 => ?_⟩, fun q z1 z2 => by rw [hu_n z2, hu_n z1]; exact k3 q z1 z2⟩
    · unfold va_up
      rw [if_neg (by omega)]
      exact k4 j (by omega)
    · unfold va_up
      by_cases hz : j = n'
      · rw [if_pos hz]
      · rw [if_neg hz]; exact k5 j (by omega) hj2
  have w0 : wr h a 11 0 (.int (m + 1)) = some (hu h a (lO (m + 1) e n)) := l_w0 q1 _
  have key : ∃ h', f_J2_fastRemove E h nx a e (nI i) = some ((), h', 0, 0) ∧ LstC h' a e (n - 1) (fun j => if j < i then f j else f (j + 1)) cap ∧ ∀ q, q ≠ a → q ≠ e → h' q = h q := by
    unfold f_J2_fastRemove
    rw [l_g0 q1, Option.bind_some, w0, Option.bind_some, l_g2 a1, Option.bind_some]
    obtain ⟨n', hn'⟩ : ∃ n', n = n' + 1 := ⟨n - 1, by omega⟩
    by_cases hl : n' ≤ i
    · rw [if_pos (by rw [hn', nI_pred]; exact nI_le hl (by omega))]
      refine fin _ g a1 e1 (fun q z1 z2 => hu_n z1) (fun j hj => ?_) q7
      rw [if_pos (by omega)]
      exact q6 j (by omega)
    · have hk : nI n - 1 - nI i = nI (n' - i) := by
        rw [hn', nI_pred]
        have h3 : nI (n' - i) + nI i = nI n' := by rw [nI_add, show n' - i + i = n' by omega]
        rw [← h3]; exact Int32.add_sub_cancel _ _
      rw [if_neg (by rw [hn', nI_pred]; exact nI_ge (by omega) (by omega)), hk, cR_self (i := i) (k := n' - i) e1 (by omega) (by omega) (fun j hj v hv => by
        rw [q6 _ (by omega)] at hv
        cases hv
        by_cases z : f (i + 1 + j) = a
        · rw [z, hu_s]; rfl
        · rw [hu_n z]; exact hf _ (by omega)), Option.bind_some]
      refine fin _ _ ((hu_n hne).trans a1) hu_s (fun q z1 z2 => by rw [hu_n z2, hu_n z1]) (fun j hj => ?_) (fun j hj hj2 => ?_)
      · unfold va_cpy
        by_cases hji : j < i
        · rw [if_neg (by omega), if_pos hji]; exact q6 j (by omega)
        · rw [if_pos ⟨by omega, by omega⟩, if_neg hji, show i + 1 + (j - i) = j + 1 by omega]; exact q6 _ (by omega)
      · unfold va_cpy
        rw [if_neg (by omega)]; exact q7 j hj hj2
  obtain ⟨h', e2, L2, k2⟩ := key
  refine ⟨h', ?_, L2, k2⟩
  unfold f_J2_remove
  rw [l_g2 q1, Option.bind_some, ck, Option.bind_some, l_g1 q1, Option.bind_some, ar, Option.bind_some, l_o q1, gdT, e2, Option.bind_some]
  rfl
end PRM
