/-! weeks, when: both sides -/
def an_weeks (w : Rw) (a b : Int32) : Int32 × Int32 := if (ir a 0 (nI 30) && ir b 0 (nI 5)) = false then (-1, 1) else if b = 0 then (omN a.toNatClampNeg w 233 - w 233, 0) else if b = 1 then (omN a.toNatClampNeg w 298 - w 298, 0) else if b = nI 2 then (nI (cnN (isFr (omN a.toNatClampNeg w)) (nH w)), 0) else if b = nI 3 then (nI (cnN (isIn_ (omN a.toNatClampNeg w)) (nP w)), 0) else if b = nI 4 then (gr32 (fun i => lF (omN a.toNatClampNeg w) i 3) (nL (omN a.toNatClampNeg w)), 0) else (sm32 (fun p => pF (omN a.toNatClampNeg w) p 9) (nP w) - sm32 (fun p => pF w p 9) (nP w), 0)
def whI (w : Rw) (p K : Nat) : Option Nat := fdN (fun i => decide (lF (omN K w) i 0 = nI p)) 0 (nL (omN K w))
def an_when (w : Rw) (a b c : Int32) : Int32 × Int32 := if ir b 1 (nI 30) = false then (-1, 1) else if isHs w a = false then (-1, nI 2) else if isIn_ w a.toNatClampNeg = false then (-1, nI 4) else match whI w a.toNatClampNeg b.toNatClampNeg with
  | none => (-1, nI 5)
  | some i => (if c = 0 then lF (omN b.toNatClampNeg w) i 2 else lF (omN b.toNatClampNeg w) i 1, 0)
def cpr (f g : Nat → Int32) : Nat → Int32 := fun i => if i < 390 then f i else g i
section PWE
variable {w W : Rw} {th st ac a b c : Int32} {p q x y i s d K : Nat} {aa f g : Nat → Int32}
theorem cpr_s (F : Nat → Int32 → (Nat → Int32) → Option (Nat → Int32)) (h : ∀ n x g, F (n + 1) x g = if nI 390 ≤ x then some g else gd (inR x 390) (gd (inR x 390) (F n (x + 1) (upd g x.toNatClampNeg (f x.toNatClampNeg))))) : F FU 0 g = some (cpr f g) := by
  have key := lp_sq (fun n i (g : Nat → Int32) => F n (nI i) g) (fun i j => if j < i then f j else g j) (some (cpr f g)) 390 ?_ ?_ FU 0 (Nat.zero_le _) (FU_lt (by decide))
  · refine Eq.trans ?_ key
    congr 1
  · intro n
    rw [h, if_pos (nI_leR 390)]
    rfl
  · intro n i hi
    rw [h, if_neg (nI_ge hi (by decide)), gdn ⟨hi, by decide⟩, gdn ⟨hi, by decide⟩, nI_1, nI_clamp (by omega)]
    congr 1
    funext j
    by_cases hj : j = i
    · subst hj; rw [upd_s, if_pos (by omega)]
    · rw [upd_n hj]
      by_cases h2 : j < i
      · rw [if_pos h2, if_pos (by omega)]
      · rw [if_neg h2, if_neg (by omega)]
theorem m_cp_na : f_X3_copies_nw_aa f g = some (cpr f g) := cpr_s (fun n x g => f_X3_copies_nw_aa_2 n f x g) (fun n x g => rfl)
theorem m_cp_an : f_X3_copies_aa_nw f g = some (cpr f g) := cpr_s (fun n x g => f_X3_copies_aa_nw_2 n f x g) (fun n x g => rfl)
theorem m_cp_rn : f_X3_copies_rd_nw f g = some (cpr f g) := cpr_s (fun n x g => f_X3_copies_rd_nw_2 n f x g) (fun n x g => rfl)
theorem RE_cp : RE w (cpr (cpr w f) g) := fun i hi => by unfold cpr; rw [if_pos hi, if_pos hi]
theorem m_weeks (G : Gd w) (hw : wN w 232 + 30 ≤ 999) : ∃ nw' aa', f_X3_weeks th st w aa a b = some ((an_weeks w a b).1, 0, (an_weeks w a b).2, nw', aa') ∧ RE w nw' := by
  have Z := G.1
  simp only [f_X3_weeks, m_from, f_X3_refuse, f_X3_weeks_19, Option.bind_some, an_weeks, bI_0]
  cases hv : ir a 0 (nI 30)
  · rw [if_pos rfl]; exact ⟨w, aa, rfl, fun _ _ => rfl⟩
  rw [if_neg (by nofun)]
  cases hv2 : ir b 0 (nI 5)
  · rw [if_pos rfl]; exact ⟨w, aa, rfl, fun _ _ => rfl⟩
  rw [if_neg (by nofun), if_neg (by decide), m_cp_na, Option.bind_some, m_allPassed Z, Option.bind_some]
  obtain ⟨K, hK, rfl⟩ := (rg_c (by decide)).mp hv
  obtain ⟨k, hk, rfl⟩ := (rg_c (by decide)).mp hv2
  rw [nI_clamp (by omega)]
  obtain ⟨GW, KW, -⟩ := omN_ok G K (by omega)
  refine ⟨cpr (cpr w aa) (omN K w), cpr w aa, ?_, RE_cp⟩
  refine lp_sq (fun n i s => f_X3_weeks_64 n (nI K) (nI k) (w 233) (w 298) (sm32 (fun p => pF w p 9) (nP w)) (nI i) th st s (cpr w aa)) (fun i => omN i w) _ K ?_ ?_ FU 0 (Nat.zero_le _) (FU_lt (by omega))
  · intro n
    simp only [f_X3_weeks_64, f_X3_weeks_159, m_cp_an, f_X3_gives, Option.bind_some, m_freeOnes GW.1, m_inOnes GW.1, m_greatestChain GW.1, m_allPassed GW.1, KW.eH, KW.eP]
    rw [if_pos (nI_leR _)]
    by_cases h0_ : (nI k) = 0
    · rw [if_pos h0_, if_pos h0_] <;> rfl
    rw [if_neg h0_, if_neg h0_]
    by_cases h1_ : (nI k) = 1
    · rw [if_pos h1_, if_pos h1_] <;> rfl
    rw [if_neg h1_, if_neg h1_]
    by_cases h2_ : (nI k) = nI 2
    · rw [if_pos h2_, if_pos h2_] <;> rfl
    rw [if_neg h2_, if_neg h2_]
    by_cases h3_ : (nI k) = nI 3
    · rw [if_pos h3_, if_pos h3_] <;> rfl
    rw [if_neg h3_, if_neg h3_]
    by_cases h4_ : (nI k) = nI 4
    · rw [if_pos h4_, if_pos h4_] <;> rfl
    rw [if_neg h4_, if_neg h4_]
  · intro n i hi
    obtain ⟨g1, -, g3, -⟩ := omN_ok G i (by omega)
    simp only [f_X3_weeks_64]
    rw [if_neg (nI_ge hi (by omega)), (m_oneMore g1 (by omega)).1, Option.bind_some, nI_1, omN_1]
/-- whose let a house has after so many weeks -/
theorem when_k (G : Gd w) (H : LI w) (hp : p < nP w) (hin : isIn_ w p = true) : ∀ k, wN w 232 + k ≤ 999 → LI (omN k w) ∧ (isIn_ (omN k w) p = true → ∀ i, i < nL (omN k w) → lF (omN k w) i 0 ≠ nI p) ∧ (isIn_ (omN k w) p = false → ∃ i, i < nL (omN k w) ∧ lF (omN k w) i 0 = nI p) := by
  have b2 := G.1.gP.2
  intro k
  induction k with
  | zero =>
    intro _
    refine ⟨H, fun _ i hi he => ?_, fun h => ?_⟩
    · have := (G.2.1.2.2.2.2.1 i hi).2.2
      have hl : lN_ w i 0 = p := by unfold lN_; rw [show lF w i 0 = nI p from he, nI_clamp (by omega)]
      rw [hl, hin] at this; cases this
    · rw [show isIn_ (omN 0 w) p = isIn_ w p from rfl, hin] at h; cases h
  | succ k ih =>
    intro hk
    obtain ⟨h1, h2, h3⟩ := ih (by omega)
    obtain ⟨g1, g2, g3, g4⟩ := omN_ok G k (by omega)
    obtain ⟨r1, r2, r3, r4, r5⟩ := om_inv g1 h1 (by omega)
    obtain ⟨Gn, Kn, -⟩ := omN_ok G (k + 1) hk
    rw [omN_1] at Gn ⊢
    refine ⟨r1, fun hi i hil he => ?_, fun ho => ?_⟩
    · have := (Gn.2.1.2.2.2.2.1 i hil).2.2
      have hl : lN_ (omE (omN k w)) i 0 = p := by unfold lN_; rw [he, nI_clamp (by omega)]
      rw [hl, hi] at this; cases this
    · cases hk2 : isIn_ (omN k w) p with
      | false =>
        obtain ⟨i, z1, z2⟩ := h3 hk2
        exact ⟨i, by omega, by rw [r3 i 0 z1 (by decide)]; exact z2⟩
      | true =>
        rcases r5 p (by rw [g2.eP]; exact hp) hk2 with z | ⟨i, -, z2, z3⟩
        · rw [z] at ho; cases ho
        · exact ⟨i, z2, z3⟩
/-- a let stays what it was -/
theorem lets_stay (G : Gd w) (H : LI w) : ∀ d k, wN w 232 + k + d ≤ 999 → LI (omN k w) → nL (omN k w) ≤ nL (omN (k + d) w) ∧ ∀ i j, i < nL (omN k w) → j < 8 → lF (omN (k + d) w) i j = lF (omN k w) i j
  | 0, k, _, _ => ⟨Nat.le_refl _, fun _ _ _ _ => rfl⟩
  | d + 1, k, hk, h1 => by
    obtain ⟨g1, g2, g3, g4⟩ := omN_ok G k (by omega)
    obtain ⟨r1, r2, r3, r4, r5⟩ := om_inv g1 h1 (by omega)
    have ih := lets_stay G H d (k + 1) (by omega) (by rw [omN_1]; exact r1)
    rw [omN_1, ← omN_1 k, show k + 1 + d = k + (d + 1) by omega] at ih
    rw [omN_1] at ih
    exact ⟨by omega, fun i j hi hj => (ih.2 i j (by omega) hj).trans (r3 i j hi hj)⟩
theorem m_when (G : Gd w) (H : LI w) (hw : wN w 232 + 30 ≤ 999) : ∃ nw' aa', f_X3_when th st w aa a b c = some ((an_when w a b c).1, 0, (an_when w a b c).2, nw', aa') ∧ RE w nw' := by
  have Z := G.1
  have b2 := Z.gP.2
  simp only [f_X3_when, m_from, m_isHouse, f_X3_refuse, Option.bind_some, an_when, bI_0]
  by_cases hv : ir b 1 (nI 30) = false
  · rw [if_pos hv, if_pos hv]; exact ⟨w, aa, rfl, fun _ _ => rfl⟩
  rw [if_neg hv, if_neg hv]
  by_cases hh : isHs w a = false
  · rw [if_pos hh, if_pos hh]; exact ⟨w, aa, rfl, fun _ _ => rfl⟩
  rw [if_neg hh, if_neg hh]
  obtain ⟨p, hp, rfl⟩ := (hs_t Z).mp (Bool.not_eq_false _ ▸ hh)
  obtain ⟨K, hK1, hK, rfl⟩ := (rg_1 (by decide)).mp (Bool.not_eq_false _ ▸ hv)
  rw [m_isIn (by omega), Option.bind_some, nI_clamp (by omega), nI_clamp (by omega)]
  simp only [bI_0]
  cases hin : isIn_ w p
  · rw [if_pos rfl, if_pos rfl]; exact ⟨w, aa, rfl, fun _ _ => rfl⟩
  rw [if_neg (by nofun), if_neg (by nofun), m_cp_na, Option.bind_some]
  obtain ⟨GW, KW, -⟩ := omN_ok G K (by omega)
  obtain ⟨HK, HK1, HK2⟩ := when_k G H hp hin K (by omega)
  -- found: behind week j, with its value
  have fin : ∀ (n i : Nat) (s : Rw) (v : Int32), ¬ v = -1 → f_X3_when_61 (n + 1) (nI p) (nI K) c v (nI i) th st s (cpr w aa) = some (v, 0, 0, cpr (cpr w aa) s, cpr w aa) := by
    intro n i s v hv
    simp only [f_X3_when_61, f_X3_when_118, m_cp_an, f_X3_gives, Option.bind_some]
    rw [if_neg hv]
    split <;> rfl
  cases ho : whI w p K with
  | none =>
    -- never
    have hall : isIn_ (omN K w) p = true := by
      cases hz : isIn_ (omN K w) p with
      | true => rfl
      | false =>
        obtain ⟨i, z1, z2⟩ := HK2 hz
        have := fdN_none.mp ho i (by omega) (by omega)
        rw [decide_eq_true z2] at this; cases this
    have hin' : ∀ j, j ≤ K → isIn_ (omN j w) p = true := fun j hj => by
      cases hz : isIn_ (omN j w) p with
      | true => rfl
      | false =>
        obtain ⟨h1, h2, h3⟩ := when_k G H hp hin j (by omega)
        obtain ⟨i, z1, z2⟩ := h3 hz
        have hs := lets_stay G H (K - j) j (by omega) h1
        rw [show j + (K - j) = K by omega] at hs
        have := HK1 hall i (by omega)
        rw [hs.2 i 0 z1 (by decide)] at this
        exact absurd z2 this
    refine ⟨cpr (cpr w aa) (omN K w), cpr w aa, ?_, RE_cp⟩
    refine lp_sq (fun n i s => f_X3_when_61 n (nI p) (nI K) c (-1) (nI i) th st s (cpr w aa)) (fun i => omN i w) _ K ?_ ?_ FU 0 (Nat.zero_le _) (FU_lt (by omega))
    · intro n
      simp only [f_X3_when_61, f_X3_when_118, m_cp_an, f_X3_refuse, Option.bind_some]
      rw [if_pos (nI_leR _), if_pos trivial]
    · intro n i hi
      obtain ⟨g1, -, g3, -⟩ := omN_ok G i (by omega)
      simp only [f_X3_when_61]
      rw [if_neg (nI_ge hi (by omega)), if_pos trivial, (m_oneMore g1 (by omega)).1, Option.bind_some, m_isIn (by omega), Option.bind_some, ← omN_1, hin' (i + 1) (by omega), if_neg (show ¬ bI true = 0 by decide), nI_1]
  | some l =>
    obtain ⟨l1, l2, l3, l4⟩ := fdN_some ho
    have l3' := of_decide_eq_true l3
    have hout : isIn_ (omN K w) p = false := by
      cases hz : isIn_ (omN K w) p with
      | false => rfl
      | true => exact absurd l3' (HK1 hz l (by omega))
    -- the first week behind which it is out
    obtain ⟨j, j1, j2, j3⟩ : ∃ j, j < K ∧ isIn_ (omN (j + 1) w) p = false ∧ ∀ z, z ≤ j → isIn_ (omN z w) p = true := by
      have hs : (fdN (fun k => !isIn_ (omN k w) p) 0 (K + 1)).isSome = true := fdN_any.mpr ⟨K, by omega, by omega, by rw [hout]; rfl⟩
      cases hf : fdN (fun k => !isIn_ (omN k w) p) 0 (K + 1) with
      | none => rw [hf] at hs; cases hs
      | some k0 =>
        obtain ⟨f1, f2, f3, f4⟩ := fdN_some hf
        cases k0 with
        | zero => rw [show isIn_ (omN 0 w) p = isIn_ w p from rfl, hin] at f3; cases f3
        | succ j =>
          refine ⟨j, by omega, by rw [Bool.not_eq_true'] at f3; exact f3, fun z hz => ?_⟩
          have := f4 z (by omega) (by omega)
          cases hi : isIn_ (omN z w) p with
          | true => rfl
          | false => rw [hi] at this; cases this
    obtain ⟨gj, kj, wj, -⟩ := omN_ok G j (by omega)
    obtain ⟨hj, -, -⟩ := when_k G H hp hin j (by omega)
    obtain ⟨r1, r2, r3, r4, r5⟩ := om_inv gj hj (by omega)
    rw [← omN_1] at r1 r2 r3 r4 r5
    obtain ⟨i, i1, i2, i3⟩ : ∃ i, nL (omN j w) ≤ i ∧ i < nL (omN (j + 1) w) ∧ lF (omN (j + 1) w) i 0 = nI p := by
      rcases r5 p (by rw [kj.eP]; exact hp) (j3 j (Nat.le_refl _)) with z | z
      · rw [j2] at z; cases z
      · exact z
    obtain ⟨gj1, kj1, wj1, -⟩ := omN_ok G (j + 1) (by omega)
    have hst := lets_stay G H (K - (j + 1)) (j + 1) (by omega) r1
    rw [show j + 1 + (K - (j + 1)) = K by omega] at hst
    have hli : l = i := HK.1 l i (by omega) (by omega) (by rw [l3', hst.2 i 0 i2 (by decide), i3])
    subst hli
    have hN : lN_ (omN (j + 1) w) l 0 = p := by unfold lN_; rw [i3, nI_clamp (by omega)]
    have h4 := r1.2.1 l i2
    rw [hN] at h4
    have v2 : lF (omN K w) l 2 = omN j w 232 := by rw [hst.2 l 2 i2 (by decide)]; exact r4 l i1 i2
    have v1 : lF (omN K w) l 1 = pF (omN (j + 1) w) p 4 := by rw [hst.2 l 1 i2 (by decide), h4]
    have hv0 : ∀ v, v = (if c = 0 then omN j w 232 else pF (omN (j + 1) w) p 4) → ¬ v = -1 := fun v hv => by
      rw [hv]
      by_cases hc : c = 0
      · rw [if_pos hc, gj.1.gW.1]
        have := gj.1.gW.2
        exact nI_m1 (by omega)
      · rw [if_neg hc, h4, (gj1.1.l1 (i := l) (by have := gj1.1.gL.2; omega)).1]
        have := (gj1.1.l1 (i := l) (by have := gj1.1.gL.2; omega)).2
        exact nI_m1 (by omega)
    refine ⟨cpr (cpr w aa) (omN (j + 1) w), cpr w aa, ?_, RE_cp⟩
    dsimp only
    rw [v1, v2]
    refine lp_sq (fun n i s => f_X3_when_61 (n + 1) (nI p) (nI K) c (-1) (nI i) th st s (cpr w aa)) (fun i => omN i w) _ j ?_ ?_ 9999 0 (Nat.zero_le _) (by omega)
    · intro n
      rw [f_X3_when_61, if_neg (nI_ge j1 (by omega)), if_pos (show (-1 : Int32) = -1 from rfl), (m_oneMore gj (by omega)).1, Option.bind_some, m_isIn (by omega), Option.bind_some, ← omN_1, j2, if_pos (show bI false = 0 from rfl), m_of (k := 4) (by omega), Option.bind_some, nI_1]
      have hv := hv0 _ rfl
      by_cases hc : c = 0
      · rw [if_pos hc] at hv ⊢
        rw [if_pos hc]
        exact fin n (j + 1) _ _ hv
      · rw [if_neg hc] at hv ⊢
        rw [if_neg hc]
        exact fin n (j + 1) _ _ hv
    · intro n i hi
      obtain ⟨g1, -, g3, -⟩ := omN_ok G i (by omega)
      rw [f_X3_when_61, if_neg (nI_ge (by omega) (by omega)), if_pos (show (-1 : Int32) = -1 from rfl), (m_oneMore g1 (by omega)).1, Option.bind_some, m_isIn (by omega), Option.bind_some, ← omN_1, j3 (i + 1) (by omega), if_neg (show ¬ bI true = 0 by decide), nI_1]
end PWE
