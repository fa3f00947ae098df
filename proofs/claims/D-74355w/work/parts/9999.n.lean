/-! what acts keep -/
section TIN
variable {w W : Rw} {a b : Int32} {p x k i : Nat} {z : Int32 × Rw}
theorem wn_u {v : Int32} (hi : i ≠ 232) : wN (upd w i v) 232 = wN w 232 := by unfold wN; rw [upd_n (by omega)]
theorem flN_k {f : Nat → Rw → Rw} (h : ∀ j s, f j s 232 = s 232) : ∀ (k i : Nat) (s : Rw), flN f i k s 232 = s 232
  | 0, i, s => rfl
  | k + 1, i, s => (flN_k h k (i + 1) (f i s)).trans (h i s)
theorem bw_k {n : Nat} (hp : p < 8) : bw w p n 232 = w 232 := upd_n (by omega)
theorem bw_k' {n : Nat} : bw w p n 232 = w 232 ∨ 80 + 18 * p + 10 = 232 := by
  by_cases h : 80 + 18 * p + 10 = 232
  · exact Or.inr h
  · exact Or.inl (upd_n (by omega))
theorem iv_bid (H : Inv w) (h : sp_bid w a b = .inr z) : Inv z.2 ∧ wN z.2 232 ≤ wN w 232 + 1 := by
  have Z := H.1.1
  have b1 := Z.gH.2
  have b2 := Z.gP.2
  unfold sp_bid at h
  split at h
  · cases h
  · rename_i c1
    have c1 : isHs w a = true ∧ isHm w b = true := by simpa using c1
    obtain ⟨p, hp, rfl⟩ := (hs_t Z).mp c1.1
    obtain ⟨x, hx, rfl⟩ := (hm_t Z).mp c1.2
    rw [nI_clamp (by omega), nI_clamp (by omega)] at h
    split at h
    · rename_i c2
      cases h
      exact ⟨inv_bid H hp hx c2, by show wN (upd _ _ _) 232 ≤ _; rw [wn_u (by omega)]; omega⟩
    · cases h
theorem iv_unbid (H : Inv w) (h : sp_unbid w a b = .inr z) : Inv z.2 ∧ wN z.2 232 ≤ wN w 232 + 1 := by
  have Z := H.1.1
  have b1 := Z.gH.2
  have b2 := Z.gP.2
  unfold sp_unbid at h
  split at h
  · cases h
  · rename_i c1
    have c1 : isHs w a = true ∧ isHm w b = true := by simpa using c1
    obtain ⟨p, hp, rfl⟩ := (hs_t Z).mp c1.1
    obtain ⟨x, hx, rfl⟩ := (hm_t Z).mp c1.2
    rw [nI_clamp (by omega), nI_clamp (by omega)] at h
    split at h
    · cases h
    · cases h
      exact ⟨inv_drop (x := x) H hp, by show wN (upd _ _ _) 232 ≤ _; rw [wn_u (by omega)]; omega⟩
theorem iv_rules (H : Inv w) (h : sp_rules w a b = .inr z) : Inv z.2 ∧ wN z.2 232 ≤ wN w 232 + 1 := by
  unfold sp_rules at h
  split at h
  · cases h
  · rename_i c1
    have c1 : ir a 0 (nI 5) = true := by simpa using c1
    obtain ⟨r, hr, rfl⟩ := (rg_c (by decide)).mp c1
    rw [nI_clamp (by omega)] at h
    split at h
    · cases h
    · rename_i c2
      split at h
      · cases h
      · cases h
        exact ⟨inv_rule H (by omega) (by simpa using c2), by show wN (upd _ _ _) 232 ≤ _; rw [wn_u (by omega)]; omega⟩
theorem iv_leave (H : Inv w) (h : sp_leave w a = .inr z) : Inv z.2 ∧ wN z.2 232 ≤ wN w 232 + 1 := by
  have Z := H.1.1
  have b2 := Z.gP.2
  unfold sp_leave at h
  split at h
  · cases h
  · rename_i c1
    obtain ⟨p, hp, rfl⟩ := (hs_t Z).mp (by simpa using c1)
    rw [nI_clamp (by omega)] at h
    split at h
    · cases h
    · rename_i c2
      cases h
      refine ⟨(inv_leave H hp (by simpa using c2)).1, ?_⟩
      have hh : pF w p 4 = -1 ∨ pN w p 4 < 10 := by
        rcases H.1.2.1.2.1 p hp with y | ⟨y, hy, z1, -⟩
        · exact Or.inl y
        · refine Or.inr ?_
          have b1 := Z.gH.2
          show (pF w p 4).toNatClampNeg < 10
          rw [z1, nI_clamp (by omega)]; omega
      show wN (qtd w p) 232 ≤ _
      unfold wN
      rw [qtd_g (by omega) hh (by omega)]
      omega
theorem iv_auto (H : Inv w) (h : sp_auto w = .inr z) : Inv z.2 ∧ wN z.2 232 ≤ wN w 232 + 1 := by
  unfold sp_auto at h
  split at h
  · cases h
  · cases h
    refine ⟨inv_bdA H, ?_⟩
    obtain ⟨m1, m2, m3, m4, m5, m6⟩ := m_allBid H.1.1 H.1.2.1 H.1.2.2
    have e2 : bdA w 232 = w 232 := m6.g (by decide)
    show wN (bdA w) 232 ≤ _
    unfold wN
    rw [e2]
    omega
theorem iv_week (H : Inv w) (hw : wN w 232 < 999) (h : sp_week w = .inr z) : Inv z.2 ∧ wN z.2 232 ≤ wN w 232 + 1 := by
  unfold sp_week at h
  split at h
  · cases h
  · cases h
    refine ⟨inv_week H hw, ?_⟩
    show wN (wkE w) 232 ≤ _
    have := (wk_ok H.1 hw).2.2.2.1
    unfold wN at this ⊢
    rw [this, nI_clamp (by unfold wN at hw; omega)]
    omega
theorem iv_shut (H : Inv w) (hb : b = 0 ∨ b = 1) (h : sp_shut w a b = .inr z) : Inv z.2 ∧ wN z.2 232 ≤ wN w 232 + 1 := by
  have Z := H.1.1
  have b1 := Z.gH.2
  have b2 := Z.gP.2
  unfold sp_shut at h
  split at h
  · cases h
  · rename_i c1
    obtain ⟨y, hy, rfl⟩ := (hm_t Z).mp (by simpa using c1)
    rw [nI_clamp (by omega)] at h
    split at h
    · cases h
    · cases h
      refine ⟨inv_shut H hy hb, ?_⟩
      show wN (shW w y b) 232 ≤ _
      have e : shW w y b 232 = w 232 := by
        have key : ∀ k i (s : Rw), i + k ≤ 8 → flN (drF y) i k s 232 = s 232 := by
          intro k
          induction k with
          | zero => intro i s _; rfl
          | succ k ih => intro i s hi; exact (ih (i + 1) _ (by omega)).trans (bw_k (by omega))
        unfold shW
        rw [key _ _ _ (by omega), upd_n (by omega)]
      unfold wN
      rw [e]
      omega
theorem iv_need (H : Inv w) (h : sp_need w a b = .inr z) : Inv z.2 ∧ wN z.2 232 ≤ wN w 232 + 1 := by
  have Z := H.1.1
  have b1 := Z.gH.2
  have b2 := Z.gP.2
  unfold sp_need at h
  split at h
  · cases h
  · rename_i c0
    split at h
    · cases h
    · rename_i c1
      obtain ⟨p, hp, rfl⟩ := (hs_t Z).mp (by simpa using c1)
      rw [nI_clamp (by omega)] at h
      split at h
      · cases h
      · cases h
        refine ⟨inv_need H hp (by simpa using c0), ?_⟩
        show wN (ndW w p b) 232 ≤ _
        have e : ndW w p b 232 = w 232 := by
          unfold ndW
          rw [flN_k (f := ndF p) (fun j s => by unfold ndF; split; rfl; exact bw_k (by omega)), upd_n (by omega)]
        unfold wN
        rw [e]
        omega
theorem iv_wish (H : Inv w) (h : sp_wish w a b = .inr z) : Inv z.2 ∧ wN z.2 232 ≤ wN w 232 + 1 := by
  have Z := H.1.1
  have b1 := Z.gH.2
  have b2 := Z.gP.2
  unfold sp_wish at h
  split at h
  · cases h
  · rename_i c1
    have c1 : isHs w a = true ∧ isHm w b = true := by simpa using c1
    obtain ⟨p, hp, rfl⟩ := (hs_t Z).mp c1.1
    obtain ⟨x, hx, rfl⟩ := (hm_t Z).mp c1.2
    rw [nI_clamp (by omega), nI_clamp (by omega)] at h
    have p11 := (Z.p11 (p := p) (by omega)).2
    split at h
    · cases h
    · rename_i c2
      split at h
      · cases h
      · rename_i c3
        cases h
        refine ⟨inv_wish H hp hx (by omega) (by simpa using c2), ?_⟩
        show wN (wsW w p x) 232 ≤ _
        have e : wsW w p x 232 = w 232 := by
          unfold wsW
          rw [upd_n (by omega), upd_n (by omega)]
        unfold wN
        rw [e]
        omega
theorem iv_unwish (H : Inv w) (h : sp_unwish w a b = .inr z) : Inv z.2 ∧ wN z.2 232 ≤ wN w 232 + 1 := by
  have Z := H.1.1
  have b1 := Z.gH.2
  have b2 := Z.gP.2
  unfold sp_unwish at h
  split at h
  · cases h
  · rename_i c1
    have c1 : isHs w a = true ∧ isHm w b = true := by simpa using c1
    obtain ⟨p, hp, rfl⟩ := (hs_t Z).mp c1.1
    obtain ⟨x, hx, rfl⟩ := (hm_t Z).mp c1.2
    rw [nI_clamp (by omega), nI_clamp (by omega)] at h
    have p11 := (Z.p11 (p := p) (by omega)).2
    split at h
    · cases h
    · rename_i k c2
      cases h
      have hk : k < pN w p 11 := wsh_lt c2
      refine ⟨inv_unwish H hp hk, ?_⟩
      show wN (usW w p k) 232 ≤ _
      have e : usW w p k 232 = w 232 := by
        have key : ∀ c i (s : Rw), i + c ≤ 6 → flN (usF p) i c s 232 = s 232 := by
          intro c
          induction c with
          | zero => intro i s _; rfl
          | succ c ih => intro i s hi; exact (ih (i + 1) _ (by omega)).trans (upd_n (by omega))
        unfold usW
        rw [upd_n (by omega), key _ _ _ (by omega)]
      unfold wN
      rw [e]
      omega
end TIN
