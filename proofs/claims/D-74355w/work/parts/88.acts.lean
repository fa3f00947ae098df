/-! acts, one by one: the reference's side -/
def sp_unbid (w : Rw) (a b : Int32) : Sum Int32 (Int32 × Rw) := if (isHs w a && isHm w b) = false then .inl (nI 2) else if iBd w a.toNatClampNeg b.toNatClampNeg = false then .inl (nI 5) else .inr (nI (pc (clr (pN w a.toNatClampNeg 10) b.toNatClampNeg)), bw w a.toNatClampNeg (clr (pN w a.toNatClampNeg 10) b.toNatClampNeg))
def sp_week (w : Rw) : Sum Int32 (Int32 × Rw) := if w 232 = nI 999 then .inl (nI 3) else .inr (wkE w 233 - w 233, wkE w)
def sp_rules (w : Rw) (a b : Int32) : Sum Int32 (Int32 × Rw) := if ir a 0 (nI 5) = false then .inl 1 else if ir b (loR a.toNatClampNeg) (hiR a.toNatClampNeg) = false then .inl 1 else if w (224 + a.toNatClampNeg) = b then .inl (nI 4) else .inr (w (224 + a.toNatClampNeg), upd w (224 + a.toNatClampNeg) b)
def sp_leave (w : Rw) (a : Int32) : Sum Int32 (Int32 × Rw) := if isHs w a = false then .inl (nI 2) else if isIn_ w a.toNatClampNeg = false then .inl (nI 4) else .inr (nI (cnN (isIn_ (qtd w a.toNatClampNeg)) (nP w)), qtd w a.toNatClampNeg)
section PAR
variable {w W : Rw} {th st ac a b c v : Int32} {p q x y i s d K r h n m : Nat} {aa f g kp : Nat → Int32} {P : Nat → Rw}
theorem m_bid (G : Gd w) (H : KPR kp n P) (hn : n ≤ 12) : MA (f_X3_bid th st (nI n) w kp a b) n P w kp (sp_bid w a b) := by
  have Z := G.1
  simp only [f_X3_bid, m_areOnes, f_X3_refuse, f_X3_gives, Option.bind_some, sp_bid, bI_0]
  by_cases hv : (isHs w a && isHm w b) = false
  · rw [if_pos hv, if_pos hv]; rfl
  rw [if_neg hv, if_neg hv]
  have hv' := Bool.not_eq_false _ ▸ hv
  rw [Bool.and_eq_true] at hv'
  obtain ⟨p, hp, rfl⟩ := (hs_t Z).mp hv'.1
  obtain ⟨x, hx, rfl⟩ := (hm_t Z).mp hv'.2
  have b1 := Z.gP.2
  have b2 := Z.gH.2
  have h10 := Z.p10 (p := p) (by omega)
  have hwl := whN_lt (w := w) (p := p) (h := x)
  have hb : pN w p 10 ||| 2 ^ x < 1024 := or_lt (n := pN w p 10) (k := x) (m := 10) (by omega) (by omega)
  rw [nI_clamp (show p < 2 ^ 31 by omega), nI_clamp (show x < 2 ^ 31 by omega), m_whyNot (by omega) (by omega) h10.1 (by omega), Option.bind_some]
  by_cases hw : whN w p x = 0
  · rw [if_pos hw, hw, if_pos (show nI 0 = 0 from rfl)]
    obtain ⟨kp', e1, k1⟩ := m_keeps (w := w) H hn
    have e5 : f_X3_of (upd w (80 + 18 * p + 10) (nI (pN w p 10 ||| 2 ^ x))) (nI p) (nI 10) = some (nI (pN w p 10 ||| 2 ^ x)) := by
      rw [m_of (by omega)]
      unfold pF
      rw [upd_s]
    rw [e1, Option.bind_some, m_of (by omega), Option.bind_some, h10.1, or_n _ (by omega) x (by omega), m_puts (by omega), Option.bind_some, e5, Option.bind_some, m_bits _ hb, Option.bind_some]
    exact ⟨kp', rfl, k1⟩
  · rw [if_neg hw, if_neg (nI_ne0 (by omega) (by omega))]; rfl
theorem m_unbid (G : Gd w) (H : KPR kp n P) (hn : n ≤ 12) : MA (f_X3_unbid th st (nI n) w kp a b) n P w kp (sp_unbid w a b) := by
  have Z := G.1
  simp only [f_X3_unbid, m_areOnes, f_X3_refuse, f_X3_gives, Option.bind_some, sp_unbid, bI_0]
  by_cases hv : (isHs w a && isHm w b) = false
  · rw [if_pos hv, if_pos hv]; rfl
  rw [if_neg hv, if_neg hv]
  have hv' := Bool.not_eq_false _ ▸ hv
  rw [Bool.and_eq_true] at hv'
  obtain ⟨p, hp, rfl⟩ := (hs_t Z).mp hv'.1
  obtain ⟨x, hx, rfl⟩ := (hm_t Z).mp hv'.2
  have b1 := Z.gP.2
  have b2 := Z.gH.2
  have h10 := Z.p10 (p := p) (by omega)
  have hb : clr (pN w p 10) x < 1024 := by have := clr_le (pN w p 10) x; omega
  rw [nI_clamp (show p < 2 ^ 31 by omega), nI_clamp (show x < 2 ^ 31 by omega), m_isBid (by omega), Option.bind_some]
  simp only [bI_0]
  by_cases hw : iBd w p x = false
  · rw [if_pos hw, if_pos hw]; rfl
  · rw [if_neg hw, if_neg hw]
    obtain ⟨kp', e1, k1⟩ := m_keeps (w := w) H hn
    have e5 : f_X3_of (upd w (80 + 18 * p + 10) (nI (clr (pN w p 10) x))) (nI p) (nI 10) = some (nI (clr (pN w p 10) x)) := by
      rw [m_of (by omega)]
      unfold pF
      rw [upd_s]
    rw [e1, Option.bind_some, m_of (by omega), Option.bind_some, h10.1, cl_n _ (by omega) x (by omega), m_puts (by omega), Option.bind_some, e5, Option.bind_some, m_bits _ hb, Option.bind_some]
    exact ⟨kp', rfl, k1⟩
theorem m_week (G : Gd w) (H : KPR kp n P) (hn : n ≤ 12) : MA (f_X3_week th st (nI n) w kp) n P w kp (sp_week w) := by
  simp only [f_X3_week, f_X3_refuse, f_X3_gives, Option.bind_some, sp_week]
  by_cases hw : w 232 = nI 999
  · rw [if_pos hw, if_pos hw]; rfl
  · rw [if_neg hw, if_neg hw]
    obtain ⟨kp', e1, k1⟩ := m_keeps (w := w) H hn
    rw [e1, Option.bind_some, m_weekEnds G.1 G.2.1 G.2.2, Option.bind_some]
    exact ⟨kp', rfl, k1⟩
theorem m_rules (G : Gd w) (H : KPR kp n P) (hn : n ≤ 12) : MA (f_X3_rules th st (nI n) w kp a b) n P w kp (sp_rules w a b) := by
  simp only [f_X3_rules, f_X3_rules_24, m_from, f_X3_refuse, f_X3_gives, Option.bind_some, sp_rules, bI_0]
  by_cases hv : ir a 0 (nI 5) = false
  · rw [if_pos hv, if_pos hv]; rfl
  rw [if_neg hv, if_neg hv]
  obtain ⟨r, hr, rfl⟩ := (rg_c (by decide)).mp (Bool.not_eq_false _ ▸ hv)
  rw [nI_clamp (show r < 2 ^ 31 by omega), m_least (by omega), Option.bind_some, m_mostOf (by omega), Option.bind_some]
  by_cases hv2 : ir b (loR r) (hiR r) = false
  · rw [if_pos hv2, if_pos hv2]; rfl
  rw [if_neg hv2, if_neg hv2, nI_add, gdn ⟨by omega, by decide⟩, nI_clamp (by omega)]
  by_cases hw : w (224 + r) = b
  · rw [if_pos hw, if_pos hw]; rfl
  · rw [if_neg hw, if_neg hw]
    obtain ⟨kp', e1, k1⟩ := m_keeps (w := w) H hn
    rw [e1, Option.bind_some, gdn ⟨by omega, by decide⟩]
    exact ⟨kp', rfl, k1⟩
theorem qt3_eq {u : Rw} (h10 : 80 + 18 * p + 10 < 390) : qt3 u p = upd (upd (upd u (80 + 18 * p + 10) 0) (80 + 18 * p + 8) 1) (80 + 18 * p + 4) (-1) := by
  unfold qt3
  funext i
  by_cases h1 : i = 80 + 18 * p + 10
  · subst h1; rw [upd_s, upd_n (by omega), upd_n (by omega), upd_s]
  · rw [upd_n h1]
    by_cases h2 : i = 80 + 18 * p + 8
    · subst h2; rw [upd_s, upd_n (by omega), upd_s]
    · rw [upd_n h2]
      by_cases h3 : i = 80 + 18 * p + 4
      · subst h3; rw [upd_s, upd_s]
      · rw [upd_n h3, upd_n h3, upd_n h2, upd_n h1]
theorem m_leave (G : Gd w) (H : KPR kp n P) (hn : n ≤ 12) (hq : ∀ p, p < nP w → isIn_ w p = true → Gd (qtd w p) ∧ nP (qtd w p) = nP w) : MA (f_X3_leave th st (nI n) w kp a) n P w kp (sp_leave w a) := by
  have Z := G.1
  simp only [f_X3_leave, m_isHouse, f_X3_refuse, Option.bind_some, sp_leave, bI_0]
  by_cases hv : isHs w a = false
  · rw [if_pos hv, if_pos hv]; rfl
  rw [if_neg hv, if_neg hv]
  obtain ⟨p, hp, rfl⟩ := (hs_t Z).mp (Bool.not_eq_false _ ▸ hv)
  have b1 := Z.gP.2
  have b2 := Z.gH.2
  rw [nI_clamp (show p < 2 ^ 31 by omega), m_isIn (by omega), Option.bind_some]
  simp only [bI_0]
  by_cases hw : isIn_ w p = false
  · rw [if_pos hw, if_pos hw]; rfl
  rw [if_neg hw, if_neg hw]
  obtain ⟨Gq, nq⟩ := hq p hp (Bool.not_eq_false _ ▸ hw)
  obtain ⟨kp', e1, k1⟩ := m_keeps (w := w) H hn
  have e4 : ∀ (u : Rw), u = upd (upd w (80 + 18 * p + 10) 0) (80 + 18 * p + 8) 1 → pF u p 4 = pF w p 4 := fun u hu => by
    subst hu
    unfold pF
    rw [upd_n (by omega), upd_n (by omega)]
  have fin : ∀ u : Rw, upd u (80 + 18 * p + 4) (-1) = qtd w p → MA (f_X3_leave_69 (nI p) th st (nI (psN n)) u kp') n P w kp (Sum.inr (nI (cnN (isIn_ (qtd w p)) (nP w)), qtd w p)) := fun u hu => by
    unfold f_X3_leave_69
    rw [m_puts (by omega), Option.bind_some, hu, m_inOnes Gq.1, Option.bind_some, nq]
    exact ⟨kp', rfl, k1⟩
  rw [e1, Option.bind_some, m_puts (by omega), Option.bind_some, m_puts (by omega), Option.bind_some, m_of (by omega), Option.bind_some, e4 _ rfl]
  by_cases h4 : pF w p 4 = -1
  · rw [if_pos h4]
    refine fin _ ?_
    unfold qtd
    rw [if_pos h4, qt3_eq (by omega)]
  · rw [if_neg h4, Option.bind_some]
    rcases G.2.1.2.1 p hp with z | ⟨y, hy, z, -⟩
    · exact absurd z h4
    · have ey : pN w p 4 = y := by show (pF w p 4).toNatClampNeg = y; rw [z, nI_clamp (by omega)]
      rw [z, m_leaves (by omega), Option.bind_some]
      refine fin _ ?_
      unfold qtd
      rw [if_neg h4, ey, qt3_eq (by omega)]
      unfold lvsd
      funext i
      by_cases h1 : i = 80 + 18 * p + 4
      · subst h1; rw [upd_s, upd_s]
      rw [upd_n h1, upd_n h1]
      by_cases h2 : i = 80 + 18 * p + 8
      · subst h2; rw [upd_s, upd_n (by omega), upd_n (by omega), upd_n (by omega), upd_s]
      rw [upd_n h2]
      by_cases h3 : i = 80 + 18 * p + 10
      · subst h3; rw [upd_s, upd_n (by omega), upd_n (by omega), upd_n (by omega), upd_n (by omega), upd_s]
      rw [upd_n h3]
      by_cases h5 : i = 8 * y + 5
      · subst h5; rw [upd_s, upd_s]
      rw [upd_n h5, upd_n h5]
      by_cases h6 : i = 8 * y + 3
      · subst h6; rw [upd_s, upd_s]
      rw [upd_n h6, upd_n h6]
      by_cases h7 : i = 8 * y + 2
      · subst h7; rw [upd_s, upd_s]
      rw [upd_n h7, upd_n h7, upd_n h2, upd_n h3]
end PAR
