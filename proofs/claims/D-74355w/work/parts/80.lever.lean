/-! lever: another rule; the reference's side -/
def loR (r : Nat) : Int32 := if r = 2 then 0 else if r = 3 then 0 else 1
def hiR (r : Nat) : Int32 := if r = 0 then nI 9 else if r = 2 then nI 9 else if r = 1 then nI 52 else if r = 3 then nI 100 else if r = 4 then nI 999 else nI 3
def lvV (w : Rw) (i : Nat) : Int32 := w (224 + i / 2) + (if i % 2 = 0 then -1 else 1)
def lvW (w : Rw) (i : Nat) : Rw := upd w (224 + i / 2) (lvV w i)
def lvB (w : Rw) (K i : Nat) : Int32 := omN K (lvW w i) 233 - w 233
def lvF (w : Rw) (K i : Nat) (s : Int32 × Int32 × Int32) : Int32 × Int32 × Int32 := if ir (lvV w i) (loR (i / 2)) (hiR (i / 2)) = true then (if s.1 < lvB w K i then (lvB w K i, nI (i / 2), lvV w i) else s) else s
def lvS (w : Rw) (K i : Nat) : Int32 × Int32 × Int32 := flN (lvF w K) 0 i (-1, 0, 0)
def lvA (w : Rw) (K : Nat) (b : Int32) : Int32 := if b = 0 then (lvS w K 12).1 else if b = 1 then (lvS w K 12).2.1 else (lvS w K 12).2.2
def an_lever (w : Rw) (a b : Int32) : Int32 × Int32 := if (ir a 1 (nI 30) && ir b 0 (nI 2)) = false then (-1, 1) else (lvA w a.toNatClampNeg b, 0)
section PLV
variable {w W : Rw} {th st ac a b c v : Int32} {p q x y i s d K r h : Nat} {aa f g : Nat → Int32}
theorem upd_upd {f : Nat → Int32} {k : Nat} {x y : Int32} : upd (upd f k x) k y = upd f k y := by
  funext j
  by_cases hj : j = k
  · subst hj; rw [upd_s, upd_s]
  · rw [upd_n hj, upd_n hj, upd_n hj]
theorem upd_self {f : Nat → Int32} {k : Nat} : upd f k (f k) = f := by
  funext j
  by_cases hj : j = k
  · subst hj; rw [upd_s]
  · rw [upd_n hj]
/-- a week writes nothing behind the row -/
theorem w3_hi (G : Gd w) : ∀ i, 390 ≤ i → w3E w i = w i := by
  refine w3_rch G (fun s => ∀ i, 390 ≤ i → s i = w i) (fun i hi => upd_n (by omega)) (fun a b hP hS i hi => ?_)
  obtain ⟨Ga, hc⟩ := hS
  have a1 := Ga.1.gH.2
  have a2 := Ga.1.gP.2
  have a3 := Ga.1.gL.2
  have ho : ∀ p h t, nO a < 30 → offd a p h t i = a i := fun p h t hO => by unfold offd; rw [upd_n (by omega), upd_n (by omega), upd_n (by omega), upd_n (by omega)]
  rcases hc with ⟨hO, ⟨q, h, off, hq, hh, hm, hf, rfl, hb, ht⟩ | ⟨q, h, hq, hh, rfl, hb, ht⟩⟩ | ⟨j, v, hj, rfl⟩
  · have A := offd_a (p := q) (h := h) (t := true) Ga.1
    have G1 : Gd (offd a q h true) := ⟨Rng_offd Ga.1 (by omega) (by omega) hO, Con_ag A Ga.1 Ga.2.1, Cn_ag A Ga.1 Ga.2.2⟩
    have hl : nL (offd a q h true) < 8 := by rw [ag_nL A]; exact Ga.2.2.lt Ga.1 hq (mayH_in hm)
    rw [takd_g G1.1 (by omega) (by omega) (by omega) (by omega) (Or.inr (by omega)), ho _ _ _ hO]
    exact hP i hi
  · rw [refd_g (by omega) (by omega) (by omega), ho _ _ _ hO]
    exact hP i hi
  · rw [upd_n (by rcases hj with ⟨y, z1, z2⟩ | ⟨y, z1, z2⟩ <;> omega)]
    exact hP i hi
theorem omE_hi (G : Gd w) : ∀ i, 390 ≤ i → omE w i = w i := fun i hi => by
  obtain ⟨m1, m2, m3, m4, m5, m6⟩ := m_allBid G.1 G.2.1 G.2.2
  unfold omE wkE
  rw [upd_n (by omega), w3_hi ⟨m3, m4, m5⟩ i hi]
  exact m6.g (by omega)
theorem omN_hi (G : Gd w) : ∀ k, wN w 232 + k ≤ 999 → ∀ i, 390 ≤ i → omN k w i = w i
  | 0, _, _, _ => rfl
  | k + 1, hk, i, hi => by
    rw [omN_1, omE_hi (omN_ok G k (by omega)).1 i hi]
    exact omN_hi G k (by omega) i hi
theorem cpr_hi (h : ∀ i, 390 ≤ i → W i = w i) : cpr (cpr w aa) W = w := by
  funext i
  unfold cpr
  by_cases hi : i < 390
  · rw [if_pos hi, if_pos hi]
  · rw [if_neg hi]; exact h i (by omega)
theorem gB_r (hr : r < 6) (hv : ir v (loR r) (hiR r) = true) : gB (224 + r) v := by
  unfold ir at hv
  rw [Bool.and_eq_true, Bool.not_eq_true', Bool.not_eq_true', decide_eq_false_iff_not, decide_eq_false_iff_not, Int32.lt_iff_toInt_lt, Int32.lt_iff_toInt_lt] at hv
  have hx : r = 0 ∨ r = 1 ∨ r = 2 ∨ r = 3 ∨ r = 4 ∨ r = 5 := by omega
  rcases hx with rfl | rfl | rfl | rfl | rfl | rfl
  · have e1 : (loR 0).toInt = 1 := by decide
    have e2 : (hiR 0).toInt = 9 := by decide
    exact ⟨by omega, by omega⟩
  · have e1 : (loR 1).toInt = 1 := by decide
    have e2 : (hiR 1).toInt = 52 := by decide
    exact ⟨by omega, by omega⟩
  · have e1 : (loR 2).toInt = 0 := by decide
    have e2 : (hiR 2).toInt = 9 := by decide
    exact ⟨by omega, by omega⟩
  · have e1 : (loR 3).toInt = 0 := by decide
    have e2 : (hiR 3).toInt = 100 := by decide
    exact ⟨by omega, by omega⟩
  · have e1 : (loR 4).toInt = 1 := by decide
    have e2 : (hiR 4).toInt = 999 := by decide
    exact ⟨by omega, by omega⟩
  · have e1 : (loR 5).toInt = 1 := by decide
    have e2 : (hiR 5).toInt = 3 := by decide
    exact ⟨by omega, by omega⟩
theorem Gd_rule (G : Gd w) (hr : r < 6) (hv : ir v (loR r) (hiR r) = true) : Gd (upd w (224 + r) v) :=
  Gd_of G (Rng_g G.1 ⟨by omega, by omega⟩ (gB_r hr hv)) (by unfold nH wN; rw [upd_n (by omega)]) (by unfold nP wN; rw [upd_n (by omega)]) (by unfold nL wN; rw [upd_n (by omega)]) (fun y hy => by unfold hF; exact upd_n (by omega)) (fun q j hq hj => by unfold pF; exact upd_n (by omega)) (fun i j hi hj => by have := G.1.gL.2; unfold lF; exact upd_n (by omega))
theorem m_least (hr : r < 6) : f_X3_leastOf (nI r) = some (loR r) := by
  have hx : r = 0 ∨ r = 1 ∨ r = 2 ∨ r = 3 ∨ r = 4 ∨ r = 5 := by omega
  rcases hx with rfl | rfl | rfl | rfl | rfl | rfl <;> rfl
theorem m_mostOf (hr : r < 6) : f_X3_mostOf (nI r) = some (hiR r) := by
  have hx : r = 0 ∨ r = 1 ∨ r = 2 ∨ r = 3 ∨ r = 4 ∨ r = 5 := by omega
  rcases hx with rfl | rfl | rfl | rfl | rfl | rfl <;> rfl
theorem lvS_1 {i : Nat} : lvS w K (i + 1) = lvF w K i (lvS w K i) := by unfold lvS; rw [flN_1]; simp
theorem m_letsAhead (G : Gd w) (hw : wN w 232 + K ≤ 999) : f_X3_letsAhead w aa (nI K) = some (omN K w 233 - w 233, w, cpr w aa) := by
  simp only [f_X3_letsAhead, m_cp_na, Option.bind_some]
  refine lp_sq (fun n i s => f_X3_letsAhead_22 n (nI K) (w 233) (nI i) s (cpr w aa)) (fun i => omN i w) _ K ?_ ?_ FU 0 (Nat.zero_le _) (FU_lt (by omega))
  · intro n
    simp only [f_X3_letsAhead_22, m_cp_an, Option.bind_some]
    rw [if_pos (nI_leR _), cpr_hi (omN_hi G K hw)]
  · intro n i hi
    obtain ⟨g1, -, g3, -⟩ := omN_ok G i (by omega)
    simp only [f_X3_letsAhead_22]
    rw [if_neg (nI_ge hi (by omega)), (m_oneMore g1 (by omega)).1, Option.bind_some, nI_1, omN_1]
theorem m_lever36 (G : Gd w) (hw : wN w 232 + K ≤ 999) : ∀ (k i m : Nat) (aa : Nat → Int32), i + k = 12 → ∃ aa', f_X3_lever_36 (m + k + 1) (nI K) b (lvS w K i).1 (lvS w K i).2.1 (lvS w K i).2.2 (nI i) th st w aa = some (lvA w K b, 0, 0, w, aa') := by
  intro k
  induction k with
  | zero =>
    intro i m aa hi
    have hi : i = 12 := by omega
    subst hi
    refine ⟨aa, ?_⟩
    rw [f_X3_lever_36, if_pos (nI_leR 12)]
    unfold lvA
    by_cases h0 : b = 0
    · rw [if_pos h0, if_pos h0]; rfl
    · rw [if_neg h0, if_neg h0]
      by_cases h1 : b = 1
      · rw [if_pos h1, if_pos h1]; rfl
      · rw [if_neg h1, if_neg h1]; rfl
  | succ k ih =>
    intro i m aa hi
    have hr : i / 2 < 6 := by omega
    have e2 : nI i / nI 2 = nI (i / 2) := (by decide : ∀ i, i < 12 → nI i / nI 2 = nI (i / 2)) i (by omega)
    have e3 : (nI i - nI (i / 2) * nI 2 = 0) ↔ i % 2 = 0 := (by decide : ∀ i, i < 12 → ((nI i - nI (i / 2) * nI 2 = 0) ↔ i % 2 = 0)) i (by omega)
    have e4 : nI 224 + nI (i / 2) = nI (224 + i / 2) := nI_add _ _
    have step : ∀ d : Int32, d = (if i % 2 = 0 then -1 else 1) → ∃ aa', f_X3_lever_72 (f_X3_lever_36 (m + k + 1)) (nI K) b (lvS w K i).1 (lvS w K i).2.1 (lvS w K i).2.2 (nI i) (w (224 + i / 2)) (w (224 + i / 2)) d th st w aa = some (lvA w K b, 0, 0, w, aa') := by
      intro d hd
      have hv : w (224 + i / 2) + d = lvV w i := by rw [hd]; rfl
      simp only [f_X3_lever_72, e2, e4, hv]
      rw [gd_e (show nz32 (nI 2) = true by decide), m_least hr, Option.bind_some, gd_e (show nz32 (nI 2) = true by decide), m_mostOf hr, Option.bind_some, m_from, Option.bind_some, nI_1]
      cases hir : ir (lvV w i) (loR (i / 2)) (hiR (i / 2))
      · rw [if_pos (show bI false = 0 from rfl)]
        have := ih (i + 1) m aa (by omega)
        rw [lvS_1] at this
        unfold lvF at this
        rw [hir, if_neg (by nofun)] at this
        exact this
      · rw [if_neg (show ¬ bI true = 0 by decide), gd_e (show nz32 (nI 2) = true by decide)]
        have GW : Gd (lvW w i) := Gd_rule G hr hir
        have hW : wN (lvW w i) 232 + K ≤ 999 := by unfold lvW wN; rw [upd_n (by omega)]; exact hw
        rw [gdn ⟨by omega, by decide⟩, nI_clamp (by omega)]
        have e5 : upd w (224 + i / 2) (lvV w i) = lvW w i := rfl
        rw [e5, m_letsAhead GW hW, Option.bind_some, gd_e (show nz32 (nI 2) = true by decide), gdn ⟨by omega, by decide⟩]
        dsimp only
        have e6 : upd (lvW w i) (224 + i / 2) (w (224 + i / 2)) = w := by unfold lvW; rw [upd_upd, upd_self]
        have e7 : omN K (lvW w i) 233 - lvW w i 233 = lvB w K i := by
          unfold lvB
          rw [show lvW w i 233 = w 233 from upd_n (by omega)]
        rw [e6, e7]
        have := ih (i + 1) m (cpr (lvW w i) aa) (by omega)
        rw [lvS_1] at this
        unfold lvF at this
        rw [hir, if_pos rfl] at this
        by_cases hl : (lvS w K i).1 < lvB w K i
        · rw [if_pos hl] at this
          rw [if_pos hl, gd_e (show nz32 (nI 2) = true by decide)]
          exact this
        · rw [if_neg hl] at this
          rw [if_neg hl]
          exact this
    rw [show m + (k + 1) + 1 = (m + k + 1) + 1 by omega, f_X3_lever_36, if_neg (nI_ge (by omega) (by decide)), e2, e4, gd_e (show nz32 (nI 2) = true by decide), gdn ⟨by omega, by decide⟩, gd_e (show nz32 (nI 2) = true by decide), nI_clamp (by omega)]
    by_cases hz : i % 2 = 0
    · rw [if_pos (e3.mpr hz)]
      exact step _ (by rw [if_pos hz])
    · rw [if_neg (fun z => hz (e3.mp z))]
      exact step _ (by rw [if_neg hz])
theorem m_lever (G : Gd w) (hw : wN w 232 + 30 ≤ 999) : ∃ aa', f_X3_lever th st w aa a b = some ((an_lever w a b).1, 0, (an_lever w a b).2, w, aa') := by
  simp only [f_X3_lever, m_from, f_X3_lever_19, f_X3_refuse, Option.bind_some, an_lever, bI_0]
  cases hv : ir a 1 (nI 30)
  · rw [if_pos rfl]; exact ⟨aa, rfl⟩
  rw [if_neg (by nofun)]
  cases hv2 : ir b 0 (nI 2)
  · rw [if_pos rfl]; exact ⟨aa, rfl⟩
  rw [if_neg (by nofun), if_neg (by decide)]
  obtain ⟨K, hK1, hK, rfl⟩ := (rg_1 (by decide)).mp hv
  rw [nI_clamp (by omega)]
  exact m_lever36 G (by omega) 12 0 (FU - 13) aa rfl
end PLV
