/-! more acts: the reference's side -/
def sp_auto (w : Rw) : Sum Int32 (Int32 × Rw) := if tot (bdA w) - tot w = 0 then .inl (nI 4) else .inr (nI (tot (bdA w) - tot w), bdA w)
def drF (x : Nat) (k : Nat) (s : Rw) : Rw := bw s k (clr (pN s k 10) x)
def shW (w : Rw) (x : Nat) (b : Int32) : Rw := flN (drF x) 0 (nP w) (upd w (8 * x + 6) b)
def sp_shut (w : Rw) (a b : Int32) : Sum Int32 (Int32 × Rw) := if isHm w a = false then .inl (nI 2) else if hF w a.toNatClampNeg 6 = b then .inl (nI 4) else .inr (nI (cnN (isFr (shW w a.toNatClampNeg b)) (nH w)), shW w a.toNatClampNeg b)
def ndF (p : Nat) (x : Nat) (s : Rw) : Rw := if dFit s p x = true then s else bw s p (clr (pN s p 10) x)
def ndW (w : Rw) (p : Nat) (b : Int32) : Rw := flN (ndF p) 0 (nH w) (upd w (80 + 18 * p + 1) b)
def sp_need (w : Rw) (a b : Int32) : Sum Int32 (Int32 × Rw) := if ir b 1 (nI 4) = false then .inl 1 else if isHs w a = false then .inl (nI 2) else if pF w a.toNatClampNeg 1 = b then .inl (nI 4) else .inr (pF w a.toNatClampNeg 1, ndW w a.toNatClampNeg b)
def wsW (w : Rw) (p : Nat) (x : Nat) : Rw := upd (upd w (80 + 18 * p + (12 + pN w p 11)) (nI x)) (80 + 18 * p + 11) (nI (pN w p 11 + 1))
def sp_wish (w : Rw) (a b : Int32) : Sum Int32 (Int32 × Rw) := if (isHs w a && isHm w b) = false then .inl (nI 2) else if (wsh w a.toNatClampNeg b.toNatClampNeg).isSome = true then .inl (nI 4) else if pN w a.toNatClampNeg 11 = 6 then .inl (nI 3) else .inr (nI (pN w a.toNatClampNeg 11 + 1), wsW w a.toNatClampNeg b.toNatClampNeg)
/-- the wishes behind one move up -/
def usF (p : Nat) (k : Nat) (s : Rw) : Rw := upd s (80 + 18 * p + (12 + k)) (pF s p (12 + k + 1))
def usW (w : Rw) (p k : Nat) : Rw := upd (flN (usF p) k (pN w p 11 - 1 - k) w) (80 + 18 * p + 11) (nI (pN w p 11 - 1))
def sp_unwish (w : Rw) (a b : Int32) : Sum Int32 (Int32 × Rw) := if (isHs w a && isHm w b) = false then .inl (nI 2) else match wsh w a.toNatClampNeg b.toNatClampNeg with
  | none => .inl (nI 5)
  | some k => .inr (nI (pN w a.toNatClampNeg 11 - 1), usW w a.toNatClampNeg k)
section PAS2
variable {w W : Rw} {th st ac a b c v : Int32} {p q x y i s d K r h n m : Nat} {aa f g kp : Nat → Int32} {P : Nat → Rw}
theorem m_auto (G : Gd w) (H : KPR kp n P) (hn : n ≤ 12) : match sp_auto w with
    | .inl r => ∃ aa', f_X3_auto th st (nI n) w aa kp = some (-1, 0, r, nI n, w, aa', kp)
    | .inr z => ∃ kp' aa', f_X3_auto th st (nI n) w aa kp = some (z.1, 0, 0, nI (psN n), z.2, aa', kp') ∧ KPR kp' (psN n) (psP n P w) := by
  obtain ⟨m1, m2, m3, m4, m5, m6⟩ := m_allBid G.1 G.2.1 G.2.2
  have b1 := G.1.gP.2
  have hle : tot (bdA w) < 2 ^ 31 := by
    have h8 : ∀ (B : Nat → Nat) k, (∀ j, j < k → B j ≤ 10) → smN B k ≤ 10 * k := fun B k => by
      induction k with
      | zero => intro _; exact Nat.le_refl _
      | succ k ih => intro hb; rw [smN_1]; have := ih (fun j hj => hb j (by omega)); have := hb k (by omega); omega
    have hP : nP (bdA w) = nP w := m6.kt.eP
    have := h8 (fun q => pc (pN (bdA w) q 10)) (nP (bdA w)) (fun j hj => pc_le _)
    unfold tot
    omega
  simp only [f_X3_auto, m_cp_na, m_cp_an, f_X3_refuse, f_X3_gives, Option.bind_some, m1]
  rw [cpr_hi (fun i hi => m6.g (by omega)), m1]
  unfold sp_auto
  by_cases h0 : tot (bdA w) - tot w = 0
  · rw [if_pos h0, h0, if_pos (show nI 0 = 0 from rfl)]
    exact ⟨_, rfl⟩
  · rw [if_neg h0, if_neg (nI_ne0 (by omega) (by omega))]
    obtain ⟨kp', e1, k1⟩ := m_keeps (w := w) H hn
    rw [e1, Option.bind_some, Option.bind_some]
    exact ⟨kp', _, rfl, k1⟩
theorem m_drops (Z : Rng w) (hp : p < 8) (hx : x < 10) : f_X3_dropsBid w (nI p) (nI x) = some (drF x p w) := by
  have h10 := Z.p10 (p := p) hp
  simp only [f_X3_dropsBid]
  rw [m_of (by omega), Option.bind_some, h10.1, cl_n _ (by omega) x hx, m_puts (by omega), Option.bind_some]
  rfl
theorem clr_l2 (hc : pN w p 10 < 2 ^ nH w) : clr (pN w p 10) x < 2 ^ nH w := Nat.lt_of_le_of_lt (clr_le _ _) hc
theorem Gd_dr (G : Gd w) (hp : p < nP w) : Gd (drF x p w) := Gd_bw G hp (clr_l2 (G.2.1.2.2.2.2.2 p hp))
theorem dr_n (hp : p < 8) : nP (drF x p w) = nP w ∧ nH (drF x p w) = nH w := ⟨bw_nP hp, bw_nH hp⟩
theorem Gd_sh0 (G : Gd w) (hx : x < 10) (hb : b = 0 ∨ b = 1) : Gd (upd w (8 * x + 6) b) ∧ nP (upd w (8 * x + 6) b) = nP w ∧ nH (upd w (8 * x + 6) b) = nH w := by
  refine ⟨Gd_h G hx (by decide) (by decide) ?_, by unfold nP wN; rw [upd_n (by omega)], by unfold nH wN; rw [upd_n (by omega)]⟩
  rcases hb with rfl | rfl
  · exact ⟨by decide, by decide⟩
  · exact ⟨by decide, by decide⟩
theorem shW_ok (G : Gd w) (hx : x < 10) (hb : b = 0 ∨ b = 1) : ∀ k, k ≤ nP w → Gd (flN (drF x) 0 k (upd w (8 * x + 6) b)) ∧ nP (flN (drF x) 0 k (upd w (8 * x + 6) b)) = nP w ∧ nH (flN (drF x) 0 k (upd w (8 * x + 6) b)) = nH w
  | 0, _ => Gd_sh0 G hx hb
  | k + 1, hk => by
    have b1 := G.1.gP.2
    obtain ⟨g1, g2, g3⟩ := shW_ok G hx hb k (by omega)
    rw [flN_1, Nat.zero_add]
    obtain ⟨d1, d2⟩ := dr_n (w := flN (drF x) 0 k (upd w (8 * x + 6) b)) (x := x) (p := k) (by omega)
    exact ⟨Gd_dr g1 (by omega), d1.trans g2, d2.trans g3⟩
theorem m_shut (G : Gd w) (H : KPR kp n P) (hn : n ≤ 12) (hb : b = 0 ∨ b = 1) : MA (f_X3_shut th st (nI n) w kp a b) n P w kp (sp_shut w a b) := by
  have Z := G.1
  simp only [f_X3_shut, m_isHome, f_X3_refuse, Option.bind_some, sp_shut, bI_0]
  by_cases hv : isHm w a = false
  · rw [if_pos hv, if_pos hv]; rfl
  rw [if_neg hv, if_neg hv]
  obtain ⟨x, hx, rfl⟩ := (hm_t Z).mp (Bool.not_eq_false _ ▸ hv)
  have b1 := Z.gP.2
  have b2 := Z.gH.2
  rw [nI_clamp (show x < 2 ^ 31 by omega), m_h0 (by omega), Option.bind_some]
  have h6 : hF w x 6 = 0 ∨ hF w x 6 = 1 := by
    have h := Z.1 x 6 (by omega) (by decide)
    have h : inI (hF w x 6) 0 1 := h
    obtain ⟨e, l⟩ := inI_n (b := 1) h (by decide)
    rcases (show (hF w x 6).toNatClampNeg = 0 ∨ (hF w x 6).toNatClampNeg = 1 by omega) with z | z
    · left; rw [e, z]; rfl
    · right; rw [e, z]; rfl
  have e0 : ∀ y0 : Int32, y0 = hF w x 6 → MA (f_X3_shut_30 (nI x) b y0 th st (nI n) w kp) n P w kp (if hF w x 6 = b then .inl (nI 4) else .inr (nI (cnN (isFr (shW w x b)) (nH w)), shW w x b)) := fun y0 hy => by
    subst hy
    unfold f_X3_shut_30
    by_cases hw : hF w x 6 = b
    · rw [if_pos hw, if_pos hw]; rfl
    rw [if_neg hw, if_neg hw]
    obtain ⟨kp', e1, k1⟩ := m_keeps (w := w) H hn
    rw [e1, Option.bind_some]
    have e57 : f_X3_shut_57 (nI x) (nI x) (nI 6) b th st (nI (psN n)) w kp' = some (nI (cnN (isFr (shW w x b)) (nH w)), 0, 0, nI (psN n), shW w x b, kp') := by
      unfold f_X3_shut_57
      rw [m_putsHome (by omega), Option.bind_some]
      have key := lp_sq (fun n' i s => f_X3_shut_62 n' (nI x) (nI i) th st (nI (psN n)) s kp') (fun i => flN (drF x) 0 i (upd w (8 * x + 6) b)) (some (nI (cnN (isFr (shW w x b)) (nH w)), 0, 0, nI (psN n), shW w x b, kp')) (nP w) (fun n' => ?_) (fun n' i hi => ?_) FU 0 (Nat.zero_le _) (FU_lt (by omega))
      · exact key
      · obtain ⟨g1, g2, g3⟩ := shW_ok G (show x < 10 by omega) hb (nP w) (Nat.le_refl _)
        simp only [f_X3_shut_62]
        rw [g1.1.gP.1, g2, if_pos (nI_leR _), m_freeOnes g1.1, Option.bind_some, g3]
        rfl
      · obtain ⟨g1, g2, g3⟩ := shW_ok G (show x < 10 by omega) hb i (by omega)
        simp only [f_X3_shut_62]
        rw [g1.1.gP.1, g2, if_neg (nI_ge hi (by omega)), m_drops g1.1 (by omega) (by omega), Option.bind_some, nI_1, flN_1, Nat.zero_add]
    rcases hb with rfl | rfl
    · rw [if_pos rfl, e57]; exact ⟨kp', rfl, k1⟩
    · rw [if_neg (by decide), e57]; exact ⟨kp', rfl, k1⟩
  rcases h6 with z | z
  · rw [z, if_neg (show ¬ (0 : Int32) = 1 by decide)]
    have := e0 0 z.symm
    rw [z] at this
    exact this
  · rw [z, if_pos rfl]
    have := e0 1 z.symm
    rw [z] at this
    exact this
theorem Gd_nd0 (G : Gd w) (hp : p < 8) (hb : ir b 1 (nI 4) = true) : Gd (upd w (80 + 18 * p + 1) b) ∧ nP (upd w (80 + 18 * p + 1) b) = nP w ∧ nH (upd w (80 + 18 * p + 1) b) = nH w := by
  have hv := hb
  unfold ir at hv
  rw [Bool.and_eq_true, Bool.not_eq_true', Bool.not_eq_true', decide_eq_false_iff_not, decide_eq_false_iff_not, Int32.lt_iff_toInt_lt, Int32.lt_iff_toInt_lt, show (1 : Int32).toInt = 1 by decide, show (nI 4).toInt = 4 by decide] at hv
  exact ⟨Gd_of G (Rng_p G.1 hp (by decide) (show inI b 0 4 from ⟨by omega, by omega⟩)) (by unfold nH wN; rw [upd_n (by omega)]) (by unfold nP wN; rw [upd_n (by omega)]) (by unfold nL wN; rw [upd_n (by omega)]) (fun y hy => by unfold hF; exact upd_n (by omega)) (fun q j hq hj => by unfold pF; exact upd_n (by omega)) (fun i j hi hj => by have := G.1.gL.2; unfold lF; exact upd_n (by omega)), by unfold nP wN; rw [upd_n (by omega)], by unfold nH wN; rw [upd_n (by omega)]⟩
theorem ndF_t {s : Rw} (h : dFit s p x = true) : ndF p x s = s := if_pos h
theorem ndF_f {s : Rw} (h : dFit s p x = false) : ndF p x s = drF x p s := if_neg (by rw [h]; nofun)
theorem ndW_ok (G : Gd w) (hp : p < nP w) (hb : ir b 1 (nI 4) = true) : ∀ k, k ≤ nH w → Gd (flN (ndF p) 0 k (upd w (80 + 18 * p + 1) b)) ∧ nP (flN (ndF p) 0 k (upd w (80 + 18 * p + 1) b)) = nP w ∧ nH (flN (ndF p) 0 k (upd w (80 + 18 * p + 1) b)) = nH w
  | 0, _ => Gd_nd0 G (by have := G.1.gP.2; omega) hb
  | k + 1, hk => by
    have b1 := G.1.gP.2
    obtain ⟨g1, g2, g3⟩ := ndW_ok G hp hb k (by omega)
    rw [flN_1, Nat.zero_add]
    cases hf : dFit (flN (ndF p) 0 k (upd w (80 + 18 * p + 1) b)) p k
    case true => rw [ndF_t hf]; exact ⟨g1, g2, g3⟩
    case false =>
      rw [ndF_f hf]
      obtain ⟨d1, d2⟩ := dr_n (w := flN (ndF p) 0 k (upd w (80 + 18 * p + 1) b)) (x := k) (p := p) (by omega)
      exact ⟨Gd_dr g1 (by omega), d1.trans g2, d2.trans g3⟩
theorem m_need (G : Gd w) (H : KPR kp n P) (hn : n ≤ 12) : MA (f_X3_need th st (nI n) w kp a b) n P w kp (sp_need w a b) := by
  have Z := G.1
  simp only [f_X3_need, m_from, m_isHouse, f_X3_refuse, Option.bind_some, sp_need, bI_0]
  by_cases hv0 : ir b 1 (nI 4) = false
  · rw [if_pos hv0, if_pos hv0]; rfl
  rw [if_neg hv0, if_neg hv0]
  by_cases hv : isHs w a = false
  · rw [if_pos hv, if_pos hv]; rfl
  rw [if_neg hv, if_neg hv]
  obtain ⟨p, hp, rfl⟩ := (hs_t Z).mp (Bool.not_eq_false _ ▸ hv)
  have b1 := Z.gP.2
  have b2 := Z.gH.2
  have hb := Bool.not_eq_false _ ▸ hv0
  have e1 : f_X3_of w (nI p) 1 = some (pF w p 1) := m_of (k := 1) (by omega)
  have e2 : f_X3_puts w (nI p) 1 b = some (upd w (80 + 18 * p + 1) b) := m_puts (k := 1) (by omega)
  rw [nI_clamp (show p < 2 ^ 31 by omega), e1, Option.bind_some]
  by_cases hw : pF w p 1 = b
  · rw [if_pos hw, if_pos hw]; rfl
  rw [if_neg hw, if_neg hw]
  obtain ⟨kp', e3, k1⟩ := m_keeps (w := w) H hn
  rw [e3, Option.bind_some, e2, Option.bind_some]
  have key := lp_sq (fun n' i s => f_X3_need_61 n' (nI p) (pF w p 1) (nI i) th st (nI (psN n)) s kp') (fun i => flN (ndF p) 0 i (upd w (80 + 18 * p + 1) b)) (some (pF w p 1, 0, 0, nI (psN n), ndW w p b, kp')) (nH w) (fun n' => ?_) (fun n' i hi => ?_) FU 0 (Nat.zero_le _) (FU_lt (by omega))
  · exact ⟨kp', key, k1⟩
  · obtain ⟨g1, g2, g3⟩ := ndW_ok G hp hb (nH w) (Nat.le_refl _)
    simp only [f_X3_need_61]
    rw [g1.1.gH.1, g3, if_pos (nI_leR _)]
    rfl
  · obtain ⟨g1, g2, g3⟩ := ndW_ok G hp hb i (by omega)
    simp only [f_X3_need_61]
    rw [g1.1.gH.1, g3, if_neg (nI_ge hi (by omega)), m_doesFit (by omega) (by omega), Option.bind_some, nI_1, flN_1, Nat.zero_add]
    cases hf : dFit (flN (ndF p) 0 i (upd w (80 + 18 * p + 1) b)) p i
    · rw [if_pos (show bI false = 0 from rfl), ndF_f hf, m_drops g1.1 (by omega) (by omega), Option.bind_some]
    · rw [if_neg (show ¬ bI true = 0 by decide), ndF_t hf]
theorem m_wish (G : Gd w) (H : KPR kp n P) (hn : n ≤ 12) : MA (f_X3_wish th st (nI n) w kp a b) n P w kp (sp_wish w a b) := by
  have Z := G.1
  simp only [f_X3_wish, m_areOnes, f_X3_refuse, f_X3_gives, Option.bind_some, sp_wish, bI_0]
  by_cases hv : (isHs w a && isHm w b) = false
  · rw [if_pos hv, if_pos hv]; rfl
  rw [if_neg hv, if_neg hv]
  have hv' := Bool.not_eq_false _ ▸ hv
  rw [Bool.and_eq_true] at hv'
  obtain ⟨p, hp, rfl⟩ := (hs_t Z).mp hv'.1
  obtain ⟨x, hx, rfl⟩ := (hm_t Z).mp hv'.2
  have b1 := Z.gP.2
  have b2 := Z.gH.2
  have h11 := Z.p11 (p := p) (by omega)
  rw [nI_clamp (show p < 2 ^ 31 by omega), nI_clamp (show x < 2 ^ 31 by omega), m_wishOf Z (by omega), Option.bind_some]
  cases hw : wsh w p x with
  | some k =>
    have := (fdN_some hw).2.1
    rw [if_neg (show ¬ eO (some k) = -1 from nI_m1 (by omega)), if_pos (show (some k).isSome = true from rfl)]
    rfl
  | none =>
    rw [if_pos (show eO none = -1 from rfl), if_neg (show ¬ (none : Option Nat).isSome = true by nofun), m_of (by omega), Option.bind_some, h11.1]
    by_cases h6 : pN w p 11 = 6
    · rw [if_pos h6, h6, if_pos rfl]; rfl
    · rw [if_neg h6, if_neg (fun z => h6 ((nI_eq (by omega) (by decide)).mp z))]
      obtain ⟨kp', e3, k1⟩ := m_keeps (w := w) H hn
      rw [e3, Option.bind_some, nI_add, m_puts (by omega), Option.bind_some, nI_1, m_puts (by omega), Option.bind_some]
      exact ⟨kp', rfl, k1⟩
theorem m_unwish (G : Gd w) (H : KPR kp n P) (hn : n ≤ 12) : MA (f_X3_unwish th st (nI n) w kp a b) n P w kp (sp_unwish w a b) := by
  have Z := G.1
  simp only [f_X3_unwish, m_areOnes, f_X3_refuse, Option.bind_some, sp_unwish, bI_0]
  by_cases hv : (isHs w a && isHm w b) = false
  · rw [if_pos hv, if_pos hv]; rfl
  rw [if_neg hv, if_neg hv]
  have hv' := Bool.not_eq_false _ ▸ hv
  rw [Bool.and_eq_true] at hv'
  obtain ⟨p, hp, rfl⟩ := (hs_t Z).mp hv'.1
  obtain ⟨x, hx, rfl⟩ := (hm_t Z).mp hv'.2
  have b1 := Z.gP.2
  have b2 := Z.gH.2
  have h11 := Z.p11 (p := p) (by omega)
  rw [nI_clamp (show p < 2 ^ 31 by omega), nI_clamp (show x < 2 ^ 31 by omega), m_wishOf Z (by omega), Option.bind_some]
  cases hw : wsh w p x with
  | none =>
    rw [if_pos (show eO none = -1 from rfl)]; rfl
  | some k =>
    have hk := (fdN_some hw).2.1
    rw [if_neg (show ¬ eO (some k) = -1 from nI_m1 (by omega))]
    obtain ⟨kp', e3, k1⟩ := m_keeps (w := w) H hn
    obtain ⟨j, hj⟩ : ∃ j, pN w p 11 = j + 1 := ⟨pN w p 11 - 1, by omega⟩
    rw [e3, Option.bind_some, m_of (by omega), Option.bind_some, h11.1, hj, nI_pred, show eO (some k) = nI k from rfl]
    have key := lp_up (fun n' i s => f_X3_unwish_51 n' (nI p) (nI j) (nI i) th st (nI (psN n)) s kp') (fun s => some (nI j, 0, 0, nI (psN n), upd s (80 + 18 * p + 11) (nI j), kp')) (usF p) j (fun n' s => ?_) (fun n' i s hi => ?_) FU k w (by omega) (FU_lt (by omega))
    · refine ⟨kp', ?_, k1⟩
      refine Eq.trans key ?_
      unfold usW
      rw [hj, Nat.add_sub_cancel]
    · simp only [f_X3_unwish_51]
      rw [if_pos (nI_leR _), m_puts (by omega), Option.bind_some]
      rfl
    · simp only [f_X3_unwish_51]
      rw [if_neg (nI_ge hi (by omega)), nI_add, nI_1, m_of (by omega), Option.bind_some, m_puts (by omega), Option.bind_some, nI_1]
      rfl
end PAS2
