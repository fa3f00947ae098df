/-! the reference's side: what is kept -/
def KPR (kp : Nat → Int32) (n : Nat) (P : Nat → Rw) : Prop := ∀ i k, i < n → k < 390 → kp (390 * i + k) = P i k
section PKE
variable {w W : Rw} {th st ac a b c v : Int32} {p q x y i s d K r h n m : Nat} {aa f g kp : Nat → Int32} {P : Nat → Rw}
theorem m_keeps54 : ∀ (k i m : Nat) (kp : Nat → Int32), i + k = 390 → n < 12 → ∃ kp', f_X3_keeps_54 (m + k + 1) w (nI i) (nI n) kp = some (nI (n + 1), kp') ∧ (∀ j, i ≤ j → j < 390 → kp' (390 * n + j) = w j) ∧ ∀ z, (z < 390 * n + i ∨ 390 * n + 390 ≤ z) → kp' z = kp z
  | 0, i, m, kp, hi, hn => by
    have : i = 390 := by omega
    subst this
    exact ⟨kp, by rw [f_X3_keeps_54, if_pos (nI_leR 390), nI_1], fun j h1 h2 => by omega, fun _ _ => rfl⟩
  | k + 1, i, m, kp, hi, hn => by
    obtain ⟨kp', e1, h1, h2⟩ := m_keeps54 k (i + 1) m (upd kp (390 * n + i) (w i)) (by omega) hn
    refine ⟨kp', ?_, fun j j1 j2 => ?_, fun z hz => ?_⟩
    · rw [show m + (k + 1) + 1 = (m + k + 1) + 1 by omega, f_X3_keeps_54, if_neg (nI_ge (by omega) (by decide)), gdn ⟨by omega, by decide⟩, pk_mul, nI_add, gdn ⟨by omega, by decide⟩, nI_clamp (by omega), nI_clamp (by omega), nI_1, e1]
    · by_cases hj : j = i
      · subst hj
        rw [h2 _ (Or.inl (by omega)), upd_s]
      · exact h1 j (by omega) j2
    · rw [h2 z (by omega), upd_n (by omega)]
theorem m_keeps13 {k54 : Int32 → Int32 → (Nat → Int32) → Option (Int32 × (Nat → Int32))} {ac : Int32} : ∀ (k i m : Nat) (kp : Nat → Int32), i + k = 4680 → 390 ≤ i → ∃ kp', f_X3_keeps_13 (m + k + 1) k54 w (nI i) ac kp = k54 0 (ac - 1) kp' ∧ (∀ j, i ≤ j → j < 4680 → kp' (j - 390) = kp j) ∧ ∀ z, z < i - 390 → kp' z = kp z
  | 0, i, m, kp, hi, h3 => by
    have : i = 4680 := by omega
    subst this
    exact ⟨kp, by rw [f_X3_keeps_13, if_pos (nI_leR 4680)], fun j h1 h2 => by omega, fun _ _ => rfl⟩
  | k + 1, i, m, kp, hi, h3 => by
    obtain ⟨kp', e1, h1, h2⟩ := m_keeps13 (k54 := k54) (ac := ac) k (i + 1) m (upd kp (i - 390) (kp i)) (by omega) (by omega)
    have hs : nI i - nI 390 = nI (i - 390) := by
      have h3 : nI (i - 390) + nI 390 = nI i := by rw [nI_add, show i - 390 + 390 = i by omega]
      rw [← h3]; exact Int32.add_sub_cancel _ _
    refine ⟨kp', ?_, fun j j1 j2 => ?_, fun z hz => ?_⟩
    · rw [show m + (k + 1) + 1 = (m + k + 1) + 1 by omega, f_X3_keeps_13, if_neg (nI_ge (by omega) (by decide)), gdn ⟨by omega, by decide⟩, hs, gdn ⟨by omega, by decide⟩, nI_clamp (by omega), nI_clamp (by omega), nI_1, e1]
    · by_cases hj : j = i
      · subst hj
        rw [h2 _ (by omega), upd_s]
      · rw [h1 j (by omega) j2, upd_n (by omega)]
    · have hz2 : z < i + 1 - 390 := Nat.lt_of_lt_of_le hz (Nat.sub_le_sub_right (Nat.le_succ i) 390)
      rw [h2 z hz2, upd_n (Nat.ne_of_lt hz)]
theorem m_keeps (H : KPR kp n P) (hn : n ≤ 12) : ∃ kp', f_X3_keeps w (nI n) kp = some (nI (psN n), kp') ∧ KPR kp' (psN n) (psP n P w) := by
  unfold f_X3_keeps
  by_cases h12 : n = 12
  · subst h12
    obtain ⟨k1, e1, a1, a2⟩ := m_keeps13 (w := w) (k54 := f_X3_keeps_54 FU w) (ac := nI 12) 4290 390 5709 kp (by decide) (by decide)
    obtain ⟨k2, e2, a3, a4⟩ := m_keeps54 (w := w) (n := 11) 390 0 9609 k1 (by decide) (by decide)
    refine ⟨k2, ?_, fun i k hi hk => ?_⟩
    · rw [if_pos rfl]
      exact e1.trans e2
    · have hi : i < 12 := hi
      show _ = (if i = 11 then w else P (i + 1)) k
      by_cases h11 : i = 11
      · subst h11; rw [if_pos rfl]; exact a3 k (Nat.zero_le _) hk
      · rw [if_neg h11, a4 _ (Or.inl (by omega))]
        have := a1 (390 * (i + 1) + k) (by omega) (by omega)
        rw [show 390 * (i + 1) + k - 390 = 390 * i + k by omega] at this
        rw [this]
        exact H (i + 1) k (by omega) hk
  · have hne : ¬ nI n = nI 12 := fun z => h12 ((nI_eq (by omega) (by decide)).mp z)
    rw [if_neg hne]
    obtain ⟨k2, e2, a3, a4⟩ := m_keeps54 (w := w) (n := n) 390 0 9609 kp (by decide) (by omega)
    have p0 : psS n = 0 := if_neg h12
    refine ⟨k2, ?_, fun i k hi hk => ?_⟩
    · unfold psN; rw [p0]; exact e2
    · unfold psN at hi; rw [p0] at hi
      unfold psP; rw [p0, Nat.sub_zero, Nat.add_zero]
      by_cases hin : i = n
      · subst hin; rw [if_pos rfl]; exact a3 k (Nat.zero_le _) hk
      · rw [if_neg hin, a4 _ (Or.inl (by omega))]
        exact H i k (by omega) hk
theorem m_undo25 : ∀ (k i m : Nat) (nw : Nat → Int32), i + k = 390 → n < 12 → ∃ nw', f_X3_undo_25 (m + k + 1) kp (nI i) th st (nI n) nw = some (nI n, 0, 0, nI n, nw') ∧ (∀ j, i ≤ j → j < 390 → nw' j = kp (390 * n + j)) ∧ ∀ z, (z < i ∨ 390 ≤ z) → nw' z = nw z
  | 0, i, m, nw, hi, hn => by
    have : i = 390 := by omega
    subst this
    exact ⟨nw, by rw [f_X3_undo_25, if_pos (nI_leR 390)]; rfl, fun j h1 h2 => by omega, fun _ _ => rfl⟩
  | k + 1, i, m, nw, hi, hn => by
    obtain ⟨nw', e1, h1, h2⟩ := m_undo25 k (i + 1) m (upd nw i (kp (390 * n + i))) (by omega) hn
    refine ⟨nw', ?_, fun j j1 j2 => ?_, fun z hz => ?_⟩
    · rw [show m + (k + 1) + 1 = (m + k + 1) + 1 by omega, f_X3_undo_25, if_neg (nI_ge (by omega) (by decide)), pk_mul, nI_add, gdn ⟨by omega, by decide⟩, gdn ⟨by omega, by decide⟩, nI_clamp (by omega), nI_clamp (by omega), nI_1, e1]
    · by_cases hj : j = i
      · subst hj
        rw [h2 _ (Or.inl (by omega)), upd_s]
      · exact h1 j (by omega) j2
    · rw [h2 z (by omega), upd_n (by omega)]
def an_undo (n : Nat) : Int32 × Int32 := if n = 0 then (-1, nI 5) else (nI (n - 1), 0)
theorem m_undo (H : KPR kp n P) (hn : n ≤ 12) : ∃ nw', f_X3_undo kp th st (nI n) w = some ((an_undo n).1, 0, (an_undo n).2, nI (n - 1), nw') ∧ RE (if n = 0 then w else P (n - 1)) nw' := by
  unfold f_X3_undo an_undo
  by_cases h0 : n = 0
  · subst h0
    exact ⟨w, rfl, fun _ _ => rfl⟩
  · obtain ⟨n', rfl⟩ : ∃ n', n = n' + 1 := ⟨n - 1, by omega⟩
    rw [if_neg (nI_ne0 (by omega) (by omega)), if_neg h0, if_neg h0, nI_pred, Nat.add_sub_cancel]
    obtain ⟨nw', e1, h1, h2⟩ := m_undo25 (kp := kp) (th := th) (st := st) (n := n') 390 0 9609 w (by decide) (by omega)
    exact ⟨nw', e1, fun i hi => by rw [h1 i (Nat.zero_le _) hi]; exact H n' i (by omega) hi⟩
end PKE
