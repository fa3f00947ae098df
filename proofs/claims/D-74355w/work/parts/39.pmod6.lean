/-! THE REFERENCE's side: a home's offers -/
theorem am_is {B : Nat → Bool} {key : Nat → Nat} {n q : Nat} (hq : q < n) (hb : B q = true) (hm : ∀ p, p < n → B p = true → p ≠ q → key q < key p) : am B key n = some q := by
  cases h : am B key n with
  | none => rw [am_none.mp h q hq] at hb; cases hb
  | some r =>
    obtain ⟨h1, h2, h3⟩ := am_some h
    by_cases e : r = q
    · rw [e]
    · have a1 := hm r h1 h2 e
      have a2 := h3 q hq hb
      omega
section PM6
variable {w : Rw} {p q h k i x dn off : Nat} {t : Bool}
theorem wt3_mod {b : Nat} (hp : p < 8) : wt3 w p h b % 8 = p := by unfold wt3; omega
theorem wgt_inj (hp : p < 8) (hq : q < 8) (he : wgt w h p = wgt w h q) : p = q := by
  have h1 := wt3_mod (w := w) (h := h) (b := bnd w p) hp
  have h2 := wt3_mod (w := w) (h := h) (b := bnd w q) hq
  unfold wgt at he
  omega
def nxt (w : Rw) (h dn : Nat) : Option Nat := am (fun p => iBd w p h && mayH w p && !dn.testBit p) (wgt w h) (nP w)
def ofN (h : Nat) : Nat → Nat → Nat → Rw → Rw
  | 0, _, _, w => w
  | c + 1, k, dn, w => match nxt w h dn with
    | none => w
    | some p => if wTk w p h = true then takd (offd w p h true) p h (k + 1) else ofN h c (k + 1) (dn ||| 2 ^ p) (refd (offd w p h false) p)
theorem bI01 (b : Bool) : inI (bI b) 0 1 := by cases b <;> exact ⟨by decide, by decide⟩
theorem Rng_offd (Z : Rng w) (hp : p < 8) (hh : h < 10) (hn : nO w < 30) : Rng (offd w p h t) := by
  unfold offd
  exact Rng_g (Rng_o (k := 2) (Rng_o (k := 1) (Rng_o (k := 0) Z hn (by decide) (inI_of (b := 7) (by omega) (by decide) (by decide))) hn (by decide) (inI_of (b := 9) (by omega) (by decide) (by decide))) hn (by decide) (bI01 t)) (by decide) (inI_of (b := 30) (by omega) (by decide) (by decide))
theorem Rng_rf1 (Z : Rng w) (hp : p < 8) : Rng (rf1 w p) := by
  unfold rf1
  exact Rng_g (Rng_p Z hp (by decide) (by unfold pB; simp)) (by decide) (by unfold gB; simp)
theorem Rng_refd (Z : Rng w) (hp : p < 8) : Rng (refd w p) := by
  unfold refd
  split
  · have h1 : inI (w 225) 1 52 := Z.2.2.2.2 225 (by decide) (by decide)
    exact Rng_p (Rng_p (Rng_p (Rng_rf1 Z hp) hp (by decide) (by unfold pB; simp)) hp (by decide) (show inI _ 0 52 from ⟨by have := h1.1; omega, h1.2⟩)) hp (by decide) (show inI 1 0 1 from ⟨by decide, by decide⟩)
  · exact Rng_rf1 Z hp
theorem offd_o (hi : i < 299 ∨ 303 + 3 * nO w ≤ i) : offd w p h t i = w i := by
  unfold offd
  rw [upd_n (by omega), upd_n (by omega), upd_n (by omega), upd_n (by omega)]
theorem offd_a (Z : Rng w) : Agr w (offd w p h t) := fun i hi => offd_o (by have := Z.gL.2; omega)
theorem refd_o (hi : ¬ i = 298) (h2 : ∀ k, k < 8 → 5 ≤ k → i ≠ 80 + 18 * p + k) : refd w p i = w i := by
  have a5 := h2 5 (by decide) (by decide)
  have a6 := h2 6 (by decide) (by decide)
  have a7 := h2 7 (by decide) (by decide)
  unfold refd rf1
  split
  · rw [upd_n a7, upd_n a6, upd_n a5, upd_n hi, upd_n a5]
  · rw [upd_n hi, upd_n a5]
theorem refd_p (hq : q < 8) (hk : k < 18) (hn : ¬ (q = p ∧ 5 ≤ k ∧ k < 8)) : pF (refd w p) q k = pF w q k := by
  unfold pF
  refine refd_o (by omega) (fun j h1 h2 e => hn ?_)
  omega
theorem nO_offd (Z : Rng w) (hn : nO w < 30) : nO (offd w p h t) = nO w + 1 := by
  unfold nO wN offd
  rw [upd_s]
  exact nI_clamp (by have := Z.gO.2; unfold nO wN at this; omega)
theorem Rng_psj (Z : Rng w) {h : Nat} {band : Int32} : ∀ j, j ≤ 8 → Rng (psj w h band j)
  | 0, _ => by rw [psj_0]; exact Z
  | j + 1, hj => by
    rw [psj_1]
    split
    · exact Rng_p (Rng_psj Z j (by omega)) (by omega) (by decide) (by unfold pB; simp)
    · exact Rng_psj Z j (by omega)
theorem Rng_tk1 (Z : Rng w) (hp : p < 8) (hh : h < 10) (hl : nL w < 8) : Rng (tk1 w p h off) := by
  have key : inI (bI (qta w) + (if pF w p 4 = -1 then 0 else nI 2)) 0 3 := by
    cases qta w <;> split <;> exact ⟨by decide, by decide⟩
  unfold tk1
  exact Rng_l (k := 7) (Rng_l (k := 6) (Rng_l (k := 5) (Rng_l (k := 4) (Rng_l (k := 3) (Rng_l (k := 2) (Rng_l (k := 1) (Rng_l (k := 0) Z hl (by decide) (inI_of (b := 7) (by omega) (by decide) (by decide))) hl (by decide) (inI_of (b := 9) (by omega) (by decide) (by decide))) hl (by decide) (by unfold lB; simp)) hl (by decide) (by unfold lB; simp)) hl (by decide) (bI01 _)) hl (by decide) key) hl (by decide) (by unfold lB; simp)) hl (by decide) (by unfold lB; simp)
theorem Rng_tk3 (Z : Rng w) (hp : p < 8) (hh : h < 10) (hl : nL w < 8) : Rng (tk3 w p h off) := by
  unfold tk3 tk2
  exact Rng_h (Rng_h (Rng_p (Rng_p (Rng_g (Rng_psj (Rng_tk1 Z hp hh hl) _ Z.gP.2) (by decide) (inI_of (b := 8) (by omega) (by decide) (by decide))) hp (by decide) (show inI 1 0 1 from ⟨by decide, by decide⟩)) hp (by decide) (inI_of (b := 9) (by omega) (by decide) (by decide))) hh (by decide) (inI_of (b := 7) (by omega) (by decide) (by decide))) hh (by decide) (by unfold hB; simp)
theorem Rng_lvsd (Z : Rng w) (hh : h < 10) {c : Int32} : Rng (lvsd w h c) := by
  unfold lvsd
  exact Rng_h (Rng_h (Rng_h Z hh (by decide) (show inI (-1) (-1) 7 from ⟨by decide, by decide⟩)) hh (by decide) (show inI 1 0 1 from ⟨by decide, by decide⟩)) hh (by decide) (by unfold hB; simp)
/-- a house's home, or none -/
theorem Rng.p4 (Z : Rng w) (hp : p < 8) : pF w p 4 = -1 ∨ (pF w p 4 = nI (pN w p 4) ∧ pN w p 4 < 10) := by
  obtain ⟨h1, h2⟩ : inI (pF w p 4) (-1) 9 := Z.2.1 p 4 hp (by decide)
  by_cases h0 : 0 ≤ (pF w p 4).toInt
  · obtain ⟨h3, h4⟩ := inI_n (b := 9) ⟨h0, h2⟩ (by decide)
    exact Or.inr ⟨h3, by unfold pN; omega⟩
  · left
    refine Int32.toInt_inj.mp ?_
    rw [show (-1 : Int32).toInt = -1 by decide]
    omega
theorem Rng_takd (Z : Rng w) (hp : p < 8) (hh : h < 10) (hl : nL w < 8) : Rng (takd w p h off) := by
  unfold takd
  rcases Z.p4 hp with e | e
  · rw [if_pos e]; exact Rng_tk3 Z hp hh hl
  · split
    · exact Rng_tk3 Z hp hh hl
    · exact Rng_lvsd (Rng_tk3 Z hp hh hl) e.2
/-- so many lets as houses are out, at most -/
def Cn (w : Rw) : Prop := nL w ≤ cnN (fun p => !isIn_ w p) (nP w)
theorem Cn.lt (N : Cn w) (Z : Rng w) (hp : p < nP w) (hi : isIn_ w p = true) : nL w < 8 := by
  have h1 := cnN_up (B := fun q => !isIn_ w q) (C := fun q => if q = p then true else !isIn_ w q) (q := p) (nP w) hp (by show (!isIn_ w p) = false; rw [hi]; rfl) (by simp) (fun j _ hne => by simp [hne])
  have h2 := cnN_le (B := fun q => if q = p then true else !isIn_ w q) (nP w)
  have h3 := Z.gP.2
  unfold Cn at N
  omega
theorem mayH_in (h : mayH w p = true) : isIn_ w p = true := by unfold mayH at h; rw [Bool.and_eq_true] at h; exact h.1
theorem isIn_ag {w' : Rw} (A : Agr w w') (hp : p < 8) : isIn_ w' p = isIn_ w p := by unfold isIn_; rw [ag_p A hp (by decide)]
theorem Cn_ag {w' : Rw} (A : Agr w w') (Z : Rng w) (N : Cn w) : Cn w' := by
  have e8 := Z.gP.2
  unfold Cn
  rw [ag_nL A, ag_nP A, cnN_c _ (fun j hj => by show (!isIn_ w' j) = (!isIn_ w j); rw [isIn_ag A (by omega)])]
  exact N
theorem nP_refd (hp : p < 8) : nP (refd w p) = nP w := by unfold nP wN; rw [refd_o (by decide) (fun k h1 h2 => by omega)]
theorem refd_g (hp : p < 8) (hi : 224 ≤ i) (h8 : i ≠ 298) : refd w p i = w i := refd_o h8 (fun k h1 h2 => by omega)
theorem isIn_refd (hq : q < 8) : isIn_ (refd w p) q = isIn_ w q := by unfold isIn_; rw [refd_p hq (by decide) (by omega)]
theorem Cn_refd (Z : Rng w) (hp : p < 8) (N : Cn w) : Cn (refd w p) := by
  have e8 := Z.gP.2
  unfold Cn
  rw [nP_refd hp, cnN_c _ (fun j hj => by show (!isIn_ (refd w p) j) = (!isIn_ w j); rw [isIn_refd (by omega)])]
  have : nL (refd w p) = nL w := by unfold nL wN; rw [refd_g hp (by decide) (by decide)]
  rw [this]
  exact N
theorem mayH_refd (hq : q < 8) (hne : q ≠ p) : mayH (refd w p) q = mayH w q := by
  unfold mayH isIn_
  rw [refd_p hq (by decide) (by omega), refd_p hq (by decide) (by omega)]
theorem iBd_refd (hq : q < 8) : iBd (refd w p) q x = iBd w q x := by
  unfold iBd
  rw [refd_p hq (by decide) (by omega)]
/-- some bit below m -/
theorem bit_ex {L m : Nat} (h0 : L ≠ 0) (hm : L < 2 ^ m) : ∃ j, j < m ∧ L.testBit j = true := by
  obtain ⟨j, hj⟩ := Nat.exists_testBit_of_ne_zero h0
  refine ⟨j, ?_, hj⟩
  rcases Nat.lt_or_ge j m with h | h
  · exact h
  · rw [Nat.testBit_lt_two_pow (Nat.lt_of_lt_of_le hm (Nat.pow_le_pow_right (by decide) h))] at hj
    cases hj
theorem clr_lt {L j : Nat} (hj : j < 10) (hb : L.testBit j = true) : clr L j < L := by
  rcases Nat.lt_or_ge (clr L j) L with h | h
  · exact h
  · have e : clr L j = L := Nat.le_antisymm (clr_le L j) h
    have := clr_tb (n := L) (k := j) hj
    rw [e, hb] at this
    simp at this
theorem m_lets8 (hh : h < 10) : ∀ (n L k dn : Nat) (w : Rw), Rng w → Cn w → L < n → L < 2 ^ nP w → k ≤ 3 → nO w + (3 - k) ≤ 30 → (∀ q, q < nP w → mayH w q = true → L.testBit q = (iBd w q h && !dn.testBit q)) → f_X3_lets_8 n (nI h) (nI L) (nI k) w = some (ofN h (3 - k) k dn w)
  | 0, L, k, dn, w, _, _, hn, _, _, _, _ => absurd hn (by omega)
  | n + 1, L, k, dn, w, Z, N, hn, hL, hk, hO, hI => by
    have e8 := Z.gP.2
    have hL2 : L < 1024 := Nat.lt_of_lt_of_le hL (Nat.le_trans (Nat.pow_le_pow_right (by decide) e8) (by decide))
    simp only [f_X3_lets_8]
    by_cases hk3 : k = 3
    · subst hk3
      have : ofN h (3 - 3) 3 dn w = w := rfl
      rw [this, if_pos (nI_leR 3)]
      split <;> rfl
    rw [if_neg (nI_ge (show k < 3 by omega) (by decide))]
    by_cases hL0 : L = 0
    · subst hL0
      rw [if_pos (show nI 0 = 0 from rfl)]
      have hnx : nxt w h dn = none := am_none.mpr (fun q hq => by
        by_cases hm : mayH w q = true
        · have := hI q hq hm
          rw [Nat.zero_testBit] at this
          cases h1 : iBd w q h <;> rw [h1] at this <;> simp at this ⊢
          rw [this]; simp
        · simp [hm])
      obtain ⟨c, hc⟩ : ∃ c, 3 - k = c + 1 := ⟨2 - k, by omega⟩
      rw [hc]
      show some w = some (match nxt w h dn with | none => w | some p => _)
      rw [hnx]
    rw [if_neg (nI_ne0 (by omega) (by omega)), m_firstOf Z hL2 hh, Option.bind_some]
    cases hf : am (fun p => L.testBit p) (wgt w h) (nP w) with
    | none =>
      exfalso
      obtain ⟨j, h1, h2⟩ := bit_ex hL0 hL
      rw [am_none.mp hf j h1] at h2; cases h2
    | some p =>
      obtain ⟨p1, p2, p3⟩ := am_some hf
      have hp8 : p < 8 := by omega
      have hcl := clr_lt (j := p) (by omega) p2
      rw [show eO (some p) = nI p from rfl, m_mayHope (by omega), Option.bind_some, cl_n L hL2 p (by omega), m_wouldTake Z hp8, Option.bind_some]
      by_cases hm : mayH w p = true
      · rw [hm, if_neg (show ¬ bI true = 0 by decide)]
        have hIp := hI p p1 hm
        rw [p2] at hIp
        have hip := hIp.symm
        rw [Bool.and_eq_true] at hip
        have hnx : nxt w h dn = some p := am_is p1 (by rw [hip.1, hm, hip.2]; rfl) (fun q hq hb hne => by
          rw [Bool.and_eq_true, Bool.and_eq_true] at hb
          have hq2 := hI q hq hb.1.2
          rw [hb.1.1, hb.2] at hq2
          have h1 := p3 q hq hq2
          have h2 : wgt w h p ≠ wgt w h q := fun z => hne (wgt_inj hp8 (by omega) z).symm
          omega)
        have hn29 : nO w < 30 := by omega
        obtain ⟨c, hc⟩ : ∃ c, 3 - k = c + 1 := ⟨2 - k, by omega⟩
        rw [hc]
        show _ = some (match nxt w h dn with | none => w | some p => if wTk w p h = true then takd (offd w p h true) p h (k + 1) else ofN h c (k + 1) (dn ||| 2 ^ p) (refd (offd w p h false) p))
        rw [hnx, m_offered Z hn29, Option.bind_some]
        dsimp only
        have A1 : ∀ t, Agr w (offd w p h t) := fun t => offd_a Z
        have Z1 : ∀ t, Rng (offd w p h t) := fun t => Rng_offd Z hp8 hh hn29
        cases ht : wTk w p h with
        | true =>
          rw [if_neg (show ¬ bI true = 0 by decide), if_pos rfl, nI_1, m_takes (Z1 true) hp8 hh (by rw [ag_nL (A1 true)]; exact N.lt Z p1 (mayH_in hm)) (by
            rcases (Z1 true).p4 hp8 with e | e
            · exact Or.inl e
            · exact Or.inr ⟨_, e.2, e.1⟩), Option.bind_some]
        | false =>
          rw [if_pos (show bI false = 0 by decide), if_neg (by nofun), m_refuses hp8, Option.bind_some, nI_1]
          rw [show c = 3 - (k + 1) by omega]
          have hnP : nP (refd (offd w p h false) p) = nP w := (nP_refd hp8).trans (ag_nP (A1 false))
          refine m_lets8 hh n (clr L p) (k + 1) (dn ||| 2 ^ p) _ (Rng_refd (Z1 false) hp8) (Cn_refd (Z1 false) hp8 (Cn_ag (A1 false) Z N)) (by omega) (by rw [hnP]; omega) (by omega) ?_ (fun q hq hmq => ?_)
          · have : nO (refd (offd w p h false) p) = nO w + 1 := by
              have h1 := nO_offd (p := p) (h := h) (t := false) Z hn29
              unfold nO wN at h1 ⊢
              rw [refd_g hp8 (by decide) (by decide)]; exact h1
            omega
          · rw [hnP] at hq
            rw [clr_tb (by omega), or_tb, iBd_refd (by omega), ag_ib (A1 false) (by omega)]
            by_cases hqp : q = p
            · subst hqp; simp
            · rw [mayH_refd (by omega) hqp, ag_mh (A1 false) (by omega)] at hmq
              rw [hI q hq hmq]
              simp [hqp]
      · rw [Bool.eq_false_iff.mpr hm, if_pos (show bI false = 0 by decide)]
        refine m_lets8 hh n (clr L p) k dn w Z N (by omega) (by omega) hk hO (fun q hq hmq => ?_)
        rw [clr_tb (by omega), hI q hq hmq]
        have : q ≠ p := fun z => by subst z; exact hm hmq
        simp [this]
theorem m_lets (Z : Rng w) (N : Cn w) (hh : h < 10) (hO : nO w + 3 ≤ 30) : f_X3_lets w (nI h) = some (ofN h 3 0 0 w) := by
  have e8 := Z.gP.2
  simp only [f_X3_lets, m_biddersOf Z, Option.bind_some]
  have hst : stN (fun p => iBd w p h) (nP w) < 2 ^ nP w := stN_lt _
  have h256 : 2 ^ nP w ≤ 2 ^ 8 := Nat.pow_le_pow_right (by decide) e8
  refine m_lets8 hh FU _ 0 0 w Z N (FU_lt (by omega)) hst (by decide) hO (fun q hq _ => ?_)
  rw [stN_tb, decide_eq_true hq, Nat.zero_testBit]
  simp
end PM6
