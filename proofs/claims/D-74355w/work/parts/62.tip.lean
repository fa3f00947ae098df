/-! tip: both sides -/
def tpB (w : Rw) (p k : Nat) : Bool := iBd w p (bdH w p k) || decide (whN w p (bdH w p k) = 0)
def tpK (w : Rw) (p k : Nat) : Nat := ahN w (fun q => iBd w q (bdH w p k)) (bdH w p k) p
def an_tip (w : Rw) (a : Int32) : Int32 × Int32 := if isHs w a = false then (-1, nI 2) else tO ((am (tpB w a.toNatClampNeg) (tpK w a.toNatClampNeg) (bdM w a.toNatClampNeg)).map (bdH w a.toNatClampNeg))
/-- who bids may hope, and the home fits -/
def Iv2 (w : Rw) : Prop := ∀ p h, p < nP w → h < nH w → iBd w p h = true → mayH w p = true ∧ dFit w p h = true
section PTP
variable {w : Rw} {th st ac a b : Int32} {p x i : Nat}
theorem ahN_le {B : Nat → Bool} : ahN w B x p ≤ nP w := cnN_le _
theorem m_ahB (Z : Rng w) (hp : p < nP w) (hx : x < 10) : f_X3_aheadOf w (nI p) (nI x) (nI (stN (fun q => iBd w q x) (nP w))) = some (nI (ahN w (fun q => iBd w q x) x p)) := by
  have b1 := Z.gP.2
  have b2 := p2_le (N := nP w) (by omega)
  have hT := stN_lt (B := fun p => iBd w p x) (nP w)
  rw [m_aheadOf Z (by omega) hp hx]
  exact congrArg (fun z => some (nI z)) (cnN_c _ (fun j hj => by
    dsimp only
    rw [stN_tb, decide_eq_true hj, Bool.true_and]))
def tpS (w : Rw) (p i : Nat) : Int32 × Int32 := (eO ((am (tpB w p) (tpK w p) i).map (bdH w p)), nI (match am (tpB w p) (tpK w p) i with
  | some k => tpK w p k
  | none => 0))
theorem m_tip51 (Z : Rng w) (C : Con w) (hp : p < nP w) : f_X3_tip_51 FU w (nI p) (-1) 0 (nI (bdM w p)) 0 th st = rA (tO ((am (tpB w p) (tpK w p) (bdM w p)).map (bdH w p))) := by
  have b1 := Z.gP.2
  have b3 := Z.gH.2
  have b4 := bdM_le Z (p := p) (by omega)
  refine lp_sq (fun n i (s : Int32 × Int32) => f_X3_tip_51 n w (nI p) s.1 s.2 (nI (bdM w p)) (nI i) th st) (tpS w p) _ (bdM w p) ?_ ?_ FU 0 (Nat.zero_le _) (FU_lt (by omega))
  · intro n
    simp only [f_X3_tip_51, tpS]
    rw [if_pos (nI_leR _)]
    have hlt : ∀ k, am (tpB w p) (tpK w p) (bdM w p) = some k → bdH w p k < 10 := fun k hm => by
      have := bdH_lt Z C hp (am_lt hm)
      omega
    have key : ∀ o : Option Nat, (∀ k, o = some k → bdH w p k < 10) → (if eO (o.map (bdH w p)) = -1 then ((f_X3_refuse th st (nI 5)).bind fun v4 => some (v4.1, v4.2.1, v4.2.2)) else ((f_X3_gives th st (eO (o.map (bdH w p)))).bind fun v3 => some (v3.1, v3.2.1, v3.2.2))) = rA (tO (o.map (bdH w p))) := by
      intro o ho
      cases o with
      | none => rfl
      | some k =>
        have := ho k rfl
        have e : eO (Option.map (bdH w p) (some k)) = nI (bdH w p k) := rfl
        rw [e, if_neg (nI_m1 (by omega))]
        rfl
    exact key _ hlt
  · intro n i hi
    have hx := bdH_lt Z C hp hi
    have hb := Z.p10 (p := p) (by omega)
    have h11 := Z.p11 (p := p) (by omega)
    have k83 : f_X3_tip_83 (f_X3_tip_51 n w) w (nI p) (tpS w p i).1 (tpS w p i).2 (nI (bdM w p)) (nI i) (nI (bdH w p i)) th st = f_X3_tip_51 n w (nI p) (tpS w p (i + 1)).1 (tpS w p (i + 1)).2 (nI (bdM w p)) (nI (i + 1)) th st := by
      have k108 : tpB w p i = true → f_X3_tip_108 (f_X3_tip_51 n w) w (nI p) (tpS w p i).1 (tpS w p i).2 (nI (bdM w p)) (nI i) (nI (bdH w p i)) th st = f_X3_tip_51 n w (nI p) (tpS w p (i + 1)).1 (tpS w p (i + 1)).2 (nI (bdM w p)) (nI (i + 1)) th st := by
        intro hB
        simp only [f_X3_tip_108]
        rw [m_biddersOf Z, Option.bind_some, m_ahB Z hp (by omega), Option.bind_some, nI_1]
        have l1 : tpK w p i ≤ nP w := ahN_le
        unfold tpS
        rw [am_1]
        unfold amF
        rw [if_pos hB]
        cases hm : am (tpB w p) (tpK w p) i with
        | none => rw [if_pos (show eO (Option.map (bdH w p) none) = -1 from rfl)]; rfl
        | some k =>
          have hk := am_lt hm
          have hk2 := bdH_lt Z C hp (k := k) (by omega)
          have l2 : tpK w p k ≤ nP w := ahN_le
          rw [if_neg (show ¬ eO (Option.map (bdH w p) (some k)) = -1 from nI_m1 (by omega))]
          dsimp only
          by_cases hlt : tpK w p i < tpK w p k
          · rw [if_pos hlt, if_pos (show nI (ahN w (fun q => iBd w q (bdH w p i)) (bdH w p i) p) < nI (tpK w p k) from nI_lt hlt (by omega))]; rfl
          · rw [if_neg hlt, if_neg (show ¬ nI (ahN w (fun q => iBd w q (bdH w p i)) (bdH w p i) p) < nI (tpK w p k) from nI_nlt (a := tpK w p i) (Nat.not_lt.mp hlt) (by omega))]
      simp only [f_X3_tip_83]
      rw [m_isBid (by omega), Option.bind_some, m_whyNot (by omega) (by omega) hb.1 (by omega), Option.bind_some]
      cases hbd : iBd w p (bdH w p i)
      · rw [if_pos (show bI false = 0 from rfl)]
        have hwl := whN_lt (w := w) (p := p) (h := bdH w p i)
        by_cases hw : whN w p (bdH w p i) = 0
        · rw [hw, if_pos (show nI 0 = 0 from rfl)]
          exact k108 (by unfold tpB; rw [hw]; simp)
        · rw [if_neg (nI_ne0 (by omega) (by omega)), nI_1]
          unfold tpS
          rw [am_1]
          unfold amF
          rw [if_neg (by unfold tpB; rw [hbd]; simp [hw])]
      · rw [if_neg (show ¬ bI true = 0 by decide)]
        exact k108 (by unfold tpB; rw [hbd]; rfl)
    refine Eq.trans ?_ k83
    simp only [f_X3_tip_51]
    rw [if_neg (nI_ge hi (by omega)), m_of (by omega), Option.bind_some]
    unfold bdH
    by_cases h0 : pF w p 11 = 0
    · rw [if_pos h0, if_pos h0]
    · rw [if_neg h0, if_neg h0]
      have hi' : i < pN w p 11 := by unfold bdM at hi; rw [if_neg h0] at hi; exact hi
      rw [nI_add, m_of (by omega), Option.bind_some, (Z.pw (p := p) (k := i) (by omega) (by omega)).1]
theorem m_tip (Z : Rng w) (C : Con w) : f_X3_tip w th st a = rA (an_tip w a) := by
  simp only [f_X3_tip, m_isHouse, f_X3_refuse, Option.bind_some, an_tip, bI_0]
  by_cases hh : isHs w a = false
  · rw [if_pos hh, if_pos hh]; rfl
  rw [if_neg hh, if_neg hh]
  obtain ⟨p, hp, rfl⟩ := (hs_t Z).mp (Bool.not_eq_false _ ▸ hh)
  have b1 := Z.gP.2
  have h11 := Z.p11 (p := p) (by omega)
  rw [m_of (by omega), Option.bind_some, Option.bind_some, nI_clamp (by omega), ← m_tip51 (th := th) (st := st) Z C hp]
  unfold bdM
  by_cases h0 : pF w p 11 = 0
  · rw [if_pos h0, if_pos h0, Z.gH.1]
  · rw [if_neg h0, if_neg h0, ← h11.1]
/-- the component's order of homes: by who is ahead, then by the place of the wish -/
def dea (w : Rw) (p x : Nat) : Nat := match wsh w p x with
  | some k => k
  | none => x
def tpC (w : Rw) (p x : Nat) : Bool := cHv w p x && (iBd w p x || decide (whN w p x = 0))
def tpE (w : Rw) (p x : Nat) : Nat := ahN w (fun q => iBd w q x) x p * 100 + dea w p x
theorem dea_H (Z : Rng w) (C : Con w) (hp : p < nP w) (hi : i < bdM w p) : dea w p (bdH w p i) = i := by
  have b1 := Z.gP.2
  have h11 := Z.p11 (p := p) (by omega)
  unfold dea bdH
  by_cases h0 : pF w p 11 = 0
  · rw [if_pos h0]
    have : wsh w p i = none := by
      unfold wsh
      have : pN w p 11 = 0 := by show (pF w p 11).toNatClampNeg = 0; rw [h0]; rfl
      rw [this]
      rfl
    rw [this]
  · rw [if_neg h0]
    have hi' : i < pN w p 11 := by unfold bdM at hi; rw [if_neg h0] at hi; exact hi
    have hs : (wsh w p (pN w p (12 + i))).isSome = true := fdN_any.mpr ⟨i, by omega, by omega, decide_eq_true (Z.pw (p := p) (k := i) (by omega) (by omega)).1⟩
    cases hw : wsh w p (pN w p (12 + i)) with
    | none => rw [hw] at hs; cases hs
    | some k =>
      obtain ⟨g1, g2, g3, -⟩ := fdN_some hw
      have g3' := of_decide_eq_true g3
      exact C.2.2.2.1 p k i hp (by omega) hi' (by rw [g3', (Z.pw (p := p) (k := i) (by omega) (by omega)).1])
theorem tpC_H (Z : Rng w) (C : Con w) (V : Iv2 w) (hp : p < nP w) (hx : x < nH w) : tpC w p x = true ↔ ∃ k, k < bdM w p ∧ tpB w p k = true ∧ bdH w p k = x := by
  have b1 := Z.gP.2
  have h11 := Z.p11 (p := p) (by omega)
  constructor
  · intro h
    unfold tpC cHv at h
    rw [Bool.and_eq_true, Bool.and_eq_true, Bool.and_eq_true] at h
    obtain ⟨⟨⟨h1, h2⟩, h3⟩, h4⟩ := h
    by_cases h0 : pF w p 11 = 0
    · refine ⟨x, by unfold bdM; rw [if_pos h0]; exact hx, ?_, by unfold bdH; rw [if_pos h0]⟩
      unfold tpB bdH
      rw [if_pos h0]
      exact h4
    · unfold wTk at h3
      rw [decide_eq_false h0, Bool.false_or] at h3
      obtain ⟨k, g1, g2, g3⟩ := fdN_any.mp h3
      have g3' := of_decide_eq_true g3
      have e : bdH w p k = x := by
        unfold bdH
        rw [if_neg h0]
        show (pF w p (12 + k)).toNatClampNeg = x
        rw [g3', nI_clamp (by have := Z.gH.2; omega)]
      exact ⟨k, by unfold bdM; rw [if_neg h0]; omega, by unfold tpB; rw [e]; exact h4, e⟩
  · rintro ⟨k, hk, hB, rfl⟩
    have hB0 := hB
    unfold tpB at hB
    unfold tpC
    rw [Bool.and_eq_true]
    refine ⟨?_, hB⟩
    have hmf : mayH w p = true ∧ dFit w p (bdH w p k) = true := by
      rw [Bool.or_eq_true] at hB
      rcases hB with z | z
      · exact V p _ hp hx z
      · obtain ⟨z1, z2, z3, z4, z5⟩ := whN_0 (of_decide_eq_true z)
        refine ⟨?_, z4⟩
        unfold mayH
        rw [z1, Bool.true_and]
        obtain ⟨y1, y2⟩ := Z.p6 (p := p) (by omega)
        rw [y1] at z2 ⊢
        have : pN w p 6 = 0 := by
          rcases Nat.eq_zero_or_pos (pN w p 6) with y | y
          · exact y
          · exact absurd (nI_lt (a := 0) y (by omega)) z2
        rw [this]; rfl
    unfold cHv
    rw [hmf.1, hmf.2, Bool.true_and, Bool.true_and]
    unfold wTk
    by_cases h0 : pF w p 11 = 0
    · rw [decide_eq_true h0, Bool.true_or]
    · have hi' : k < pN w p 11 := by unfold bdM at hk; rw [if_neg h0] at hk; exact hk
      rw [decide_eq_false h0, Bool.false_or]
      refine fdN_any.mpr ⟨k, by omega, by omega, decide_eq_true ?_⟩
      unfold bdH
      rw [if_neg h0]
      exact (Z.pw (p := p) (k := k) (by omega) (by omega)).1
theorem tp_am (Z : Rng w) (C : Con w) (V : Iv2 w) (hp : p < nP w) : am (tpC w p) (tpE w p) (nH w) = (am (tpB w p) (tpK w p) (bdM w p)).map (bdH w p) := by
  have b1 := Z.gP.2
  have b4 := bdM_le Z (p := p) (by omega)
  have hk : am (tpB w p) (tpK w p) (bdM w p) = am (tpB w p) (fun k => tpK w p k * 100 + k) (bdM w p) := am_k _ (fun a b h1 h2 _ _ => by omega)
  rw [hk]
  refine am_map (fun k hk hb => ?_) (fun h hh hc => (tpC_H Z C V hp hh).mp hc) (fun k q hk hq _ _ hne hle => ?_)
  · exact ⟨bdH_lt Z C hp hk, (tpC_H Z C V hp (bdH_lt Z C hp hk)).mpr ⟨k, hk, hb, rfl⟩⟩
  · unfold tpE
    rw [dea_H Z C hp hk, dea_H Z C hp hq]
    have e1 : ahN w (fun z => iBd w z (bdH w p q)) (bdH w p q) p = tpK w p q := rfl
    have e2 : ahN w (fun z => iBd w z (bdH w p k)) (bdH w p k) p = tpK w p k := rfl
    rw [e1, e2]
    omega
end PTP
