/-! THE REFERENCE's side: a week ends -/
section PM9
variable {w w' W : Rw} {p q h y k i x off : Nat} {t : Bool}
/-- what stays: told fields, needs, bids, wishes; rooms, wards, shut; rules, numbers, the week -/
def KS (w W : Rw) : Prop := (∀ q k, q < 8 → k < 18 → k < 4 ∨ 10 ≤ k → pF W q k = pF w q k) ∧ (∀ y k, y < 10 → k = 0 ∨ k = 1 ∨ k = 6 → hF W y k = hF w y k) ∧ ∀ i, 224 ≤ i → i < 233 → W i = w i
theorem KS.rfl' : KS w w := ⟨fun _ _ _ _ _ => rfl, fun _ _ _ _ => rfl, fun _ _ _ => rfl⟩
theorem KS.trans {a b c : Rw} (h1 : KS a b) (h2 : KS b c) : KS a c := ⟨fun q k a1 a2 a3 => (h2.1 q k a1 a2 a3).trans (h1.1 q k a1 a2 a3), fun y k a1 a2 => (h2.2.1 y k a1 a2).trans (h1.2.1 y k a1 a2), fun i a1 a2 => (h2.2.2 i a1 a2).trans (h1.2.2 i a1 a2)⟩
theorem KS.nH (K : KS w W) : Jvm.Pilot.CHomesQueueLaw_law_r4759_4564da.nH W = Jvm.Pilot.CHomesQueueLaw_law_r4759_4564da.nH w := by show (W 230).toNatClampNeg = _; rw [K.2.2 230 (by decide) (by decide)]; rfl
theorem KS.nP (K : KS w W) : Jvm.Pilot.CHomesQueueLaw_law_r4759_4564da.nP W = Jvm.Pilot.CHomesQueueLaw_law_r4759_4564da.nP w := by show (W 231).toNatClampNeg = _; rw [K.2.2 231 (by decide) (by decide)]; rfl
theorem KS_ag (A : Agr w W) : KS w W := ⟨fun q k a1 a2 _ => ag_p A a1 a2, fun y k a1 a2 => ag_h A a1 (by omega), fun i a1 a2 => A i (by omega)⟩
theorem KS_refd (hp : p < 8) : KS w (refd w p) := ⟨fun q k a1 a2 a3 => refd_p a1 a2 (by omega), fun y k a1 a2 => by unfold hF; exact refd_o (by omega) (fun j h1 h2 => by omega), fun i a1 a2 => refd_g hp a1 (by omega)⟩
theorem KS_takd (Z : Rng w) (hp : p < 8) (hh : h < 10) (hl : nL w < 8) : KS w (takd w p h off) := by
  refine ⟨fun q k a1 a2 a3 => ?_, fun y k a1 a2 => ?_, fun i a1 a2 => takd_g Z hp hh a1 (by omega) (by omega)⟩
  · rw [takd_p Z hp hh a1 a2 hl, if_neg (by omega), if_neg (by omega), if_neg (by omega)]
  · rw [takd_h Z hp hh a1 (by omega), if_neg (by omega), if_neg (by omega), if_neg (by omega), if_neg (by omega), if_neg (by omega)]
/-- a home's offers keep the row good -/
theorem ofN_ok (h : Nat) : ∀ (c k dn : Nat) (w : Rw), Rng w → Con w → Cn w → h < nH w → hF w h 2 = -1 → nO w + c ≤ 30 →
    Rng (ofN h c k dn w) ∧ Con (ofN h c k dn w) ∧ Cn (ofN h c k dn w) ∧ KS w (ofN h c k dn w) ∧ nO w ≤ nO (ofN h c k dn w) ∧ nO (ofN h c k dn w) ≤ nO w + c ∧ nL w ≤ nL (ofN h c k dn w) ∧ ∀ y, y < 10 → y ≠ h → hF w y 2 = -1 → hF (ofN h c k dn w) y 2 = -1
  | 0, k, dn, w, Z, C, N, hh, hf, hO => ⟨Z, C, N, KS.rfl', Nat.le_refl _, Nat.le_refl _, Nat.le_refl _, fun _ _ _ e => e⟩
  | c + 1, k, dn, w, Z, C, N, hh, hf, hO => by
    have b1 := Z.gH.2
    have b2 := Z.gP.2
    unfold ofN
    cases hn : nxt w h dn with
    | none => exact ⟨Z, C, N, KS.rfl', Nat.le_refl _, Nat.le_add_right _ _, Nat.le_refl _, fun _ _ _ e => e⟩
    | some p =>
      obtain ⟨p1, p2, p3⟩ := am_some hn
      rw [Bool.and_eq_true, Bool.and_eq_true] at p2
      have hp8 : p < 8 := by omega
      have hn29 : nO w < 30 := by omega
      have A1 : ∀ t, Agr w (offd w p h t) := fun t => offd_a Z
      have Z1 : ∀ t, Rng (offd w p h t) := fun t => Rng_offd Z hp8 (by omega) hn29
      have C1 : ∀ t, Con (offd w p h t) := fun t => Con_ag (A1 t) Z C
      have N1 : ∀ t, Cn (offd w p h t) := fun t => Cn_ag (A1 t) Z N
      have hin : ∀ t, isIn_ (offd w p h t) p = true := fun t => by rw [isIn_ag (A1 t) hp8]; exact mayH_in p2.1.2
      have hf1 : ∀ t, hF (offd w p h t) h 2 = -1 := fun t => by rw [ag_h (A1 t) (by omega) (by decide)]; exact hf
      have o1 : ∀ t, nO (offd w p h t) = nO w + 1 := fun t => nO_offd Z hn29
      dsimp only
      by_cases ht : wTk w p h = true
      · rw [if_pos ht]
        have hl : nL (offd w p h true) < 8 := by rw [ag_nL (A1 true)]; exact N.lt Z p1 (mayH_in p2.1.2)
        refine ⟨Rng_takd (Z1 true) hp8 (by omega) hl, Con_takd (Z1 true) (C1 true) (N1 true) (by rw [ag_nP (A1 true)]; exact p1) (by rw [ag_nH (A1 true)]; exact hh) (hin true) (hf1 true), Cn_takd (Z1 true) (N1 true) (by rw [ag_nP (A1 true)]; exact p1) (by omega) (hin true), (KS_ag (A1 true)).trans (KS_takd (Z1 true) hp8 (by omega) hl), ?_, ?_, ?_, fun y hy hne e => ?_⟩
        · rw [takd_nO (Z1 true) hp8 (by omega) hl, o1]; omega
        · rw [takd_nO (Z1 true) hp8 (by omega) hl, o1]; omega
        · rw [takd_nL (Z1 true) hp8 (by omega) hl, ag_nL (A1 true)]; omega
        · have e' : hF (offd w p h true) y 2 = -1 := by rw [ag_h (A1 true) hy (by decide)]; exact e
          rw [takd_h (Z1 true) hp8 (by omega) hy (by decide)]
          simp [hne, e']
      · rw [if_neg ht]
        have Z2 := Rng_refd (Z1 false) hp8
        have hnO : nO (refd (offd w p h false) p) = nO w + 1 := by
          have h1 := o1 false
          unfold nO wN at h1 ⊢
          rw [refd_g hp8 (by decide) (by decide)]; exact h1
        have h2k : ∀ y, y < 10 → hF (refd (offd w p h false) p) y 2 = hF w y 2 := fun y hy => by
          rw [show hF (refd (offd w p h false) p) y 2 = hF (offd w p h false) y 2 from refd_o (by omega) (fun j h1 h2 => by omega)]
          exact ag_h (A1 false) hy (by decide)
        have hK : KS w (refd (offd w p h false) p) := (KS_ag (A1 false)).trans (KS_refd hp8)
        have hnL : nL (refd (offd w p h false) p) = nL w := by
          have h1 := ag_nL (A1 false)
          unfold nL wN at h1 ⊢
          rw [refd_g hp8 (by decide) (by decide)]; exact h1
        obtain ⟨g1, g2, g3, g4, g5, g6, g7, g8⟩ := ofN_ok h c (k + 1) (dn ||| 2 ^ p) _ Z2 (Con_refd (Z1 false) (C1 false) hp8) (Cn_refd (Z1 false) hp8 (N1 false)) (by rw [hK.nH]; exact hh) (by rw [h2k h (by omega)]; exact hf) (by rw [hnO]; omega)
        rw [hnO] at g5 g6
        rw [hnL] at g7
        exact ⟨g1, g2, g3, hK.trans g4, by omega, by omega, g7, fun y hy hne e => g8 y hy hne (by rw [h2k y hy]; exact e)⟩
def hmF (fr h : Nat) (s : Rw) : Rw := if fr.testBit h = true then upd (ofN h 3 0 0 s) (8 * h + 7) (hF (ofN h 3 0 0 s) h 7 + (if hF (ofN h 3 0 0 s) h 2 = -1 then 1 else 0)) else s
def frE (w : Rw) : Nat := stN (isFr w) (nH w)
def w1E (w : Rw) : Rw := flN (hmF (frE w)) 0 (nH w) (upd w 299 0)
def w2E (w : Rw) : Rw := flN (fun h s => upd s (8 * h + 3) 0) 0 (nH w) (w1E w)
def edF (p : Nat) (s : Rw) : Rw := upd (if pF s p 7 = 0 then upd (upd s (80 + 18 * p + 10) 0) (80 + 18 * p + 6) (mx32 0 (pF s p 6 - 1)) else upd s (80 + 18 * p + 10) 0) (80 + 18 * p + 7) 0
def w3E (w : Rw) : Rw := flN edF 0 (nP w) (w2E w)
def wkE (w : Rw) : Rw := upd (w3E w) 232 (w3E w 232 + 1)
theorem KS_u (K : KS w W) {v : Int32} (hi : (∃ y, y < 10 ∧ (i = 8 * y + 2 ∨ i = 8 * y + 3 ∨ i = 8 * y + 4 ∨ i = 8 * y + 5 ∨ i = 8 * y + 7)) ∨ (∃ q, q < 8 ∧ 80 + 18 * q + 4 ≤ i ∧ i < 80 + 18 * q + 10) ∨ 233 ≤ i) : KS w (upd W i v) := by
  refine K.trans ⟨fun q k a1 a2 a3 => ?_, fun y k a1 a2 => ?_, fun j a1 a2 => ?_⟩
  · unfold pF; exact upd_n (by rcases hi with ⟨z, z1, z2⟩ | ⟨z, z1, z2, z3⟩ | z <;> omega)
  · unfold hF; exact upd_n (by rcases hi with ⟨z, z1, z2⟩ | ⟨z, z1, z2, z3⟩ | z <;> omega)
  · exact upd_n (by rcases hi with ⟨z, z1, z2⟩ | ⟨z, z1, z2, z3⟩ | z <;> omega)
/-- the row while homes are offered, at home j -/
def P60 (w : Rw) (fr j : Nat) (s : Rw) : Prop := Rng s ∧ Con s ∧ Cn s ∧ KS w s ∧ nO s ≤ 3 * j ∧ nL w ≤ nL s ∧ ∀ y, j ≤ y → y < 10 → fr.testBit y = true → hF s y 2 = -1
theorem P60_1 {fr j : Nat} {s : Rw} (hj : j < nH w) (hw : nH w ≤ 10) (H : P60 w fr j s) : P60 w fr (j + 1) (hmF fr j s) := by
  obtain ⟨Z, C, N, K, hO, hL, hf⟩ := H
  unfold hmF
  by_cases hb : fr.testBit j = true
  · rw [if_pos hb]
    obtain ⟨g1, g2, g3, g4, g5, g6, g7, g8⟩ := ofN_ok j 3 0 0 s Z C N (by rw [K.nH]; exact hj) (hf j (Nat.le_refl _) (by omega) hb) (by omega)
    have A : Agr (ofN j 3 0 0 s) (ofN j 3 0 0 s) := fun _ _ => rfl
    generalize ofN j 3 0 0 s = s1 at *
    have hu : ∀ v : Int32, nO (upd s1 (8 * j + 7) v) = nO s1 ∧ nL (upd s1 (8 * j + 7) v) = nL s1 ∧ nP (upd s1 (8 * j + 7) v) = nP s1 := fun v => by
      refine ⟨?_, ?_, ?_⟩ <;> (first | unfold nO | unfold nL | unfold nP) <;> unfold wN <;> rw [upd_n (by omega)]
    refine ⟨Rng_h g1 (by omega) (by decide) (by unfold hB; simp), ?_, ?_, KS_u (K.trans g4) (Or.inl ⟨j, by omega, by omega⟩), by rw [(hu _).1]; omega, by rw [(hu _).2.1]; omega, fun y h1 h2 h3 => ?_⟩
    · refine Con_of g1 g2 ?_ ((hu _).2.2) ((hu _).2.1) (fun y hy => ?_) (fun q k hq hk => ?_) (fun i k hi hk => ?_)
      · unfold nH wN; rw [upd_n (by omega)]
      · unfold hF; exact upd_n (by omega)
      · unfold pF; exact upd_n (by omega)
      · unfold lF; exact upd_n (by omega)
    · unfold Cn
      rw [(hu _).2.1, (hu _).2.2, cnN_c (C := fun p => !isIn_ s1 p) _ (fun q hq => by show (!isIn_ _ q) = _; unfold isIn_ pF; rw [upd_n (by omega)])]
      exact g3
    · rw [show hF (upd s1 (8 * j + 7) _) y 2 = hF s1 y 2 by unfold hF; exact upd_n (by omega)]
      exact g8 y h2 (by omega) (hf y (by omega) h2 h3)
  · rw [if_neg hb]
    exact ⟨Z, C, N, K, by omega, hL, fun y h1 h2 h3 => hf y (by omega) h2 h3⟩
theorem P60_N {fr : Nat} {s : Rw} (hw : nH w ≤ 10) : ∀ n j, j + n = nH w → P60 w fr j s → P60 w fr (nH w) (flN (hmF fr) j n s)
  | 0, j, hj, H => by rw [show j = nH w by omega] at H; exact H
  | n + 1, j, hj, H => P60_N hw n (j + 1) (by omega) (P60_1 (by omega) hw H)
theorem isFr_u {v : Int32} (hi : 80 ≤ i) (hh : h < 10) : isFr (upd w i v) h = isFr w h := by
  unfold isFr hF
  rw [upd_n (by omega), upd_n (by omega), upd_n (by omega)]
theorem P60_0 (Z : Rng w) (C : Con w) (N : Cn w) : P60 (upd w 299 0) (frE w) 0 (upd w 299 0) := by
  have b1 := Z.gH.2
  refine ⟨Rng_g Z (by decide) (show inI 0 0 30 from ⟨by decide, by decide⟩), ?_, ?_, KS.rfl', ?_, Nat.le_refl _, fun y h1 h2 h3 => ?_⟩
  · refine Con_of Z C ?_ ?_ ?_ (fun y hy => ?_) (fun q k hq hk => ?_) (fun i k hi hk => ?_)
    · unfold nH wN; rw [upd_n (by decide)]
    · unfold nP wN; rw [upd_n (by decide)]
    · unfold nL wN; rw [upd_n (by decide)]
    · unfold hF; exact upd_n (by omega)
    · unfold pF; exact upd_n (by omega)
    · have := Z.gL.2; unfold lF; exact upd_n (by omega)
  · have e1 : nL (upd w 299 0) = nL w := by unfold nL wN; rw [upd_n (by decide)]
    have e2 : nP (upd w 299 0) = nP w := by unfold nP wN; rw [upd_n (by decide)]
    have b2 := Z.gP.2
    unfold Cn
    rw [e1, e2, cnN_c (C := fun p => !isIn_ w p) _ (fun q hq => by show (!isIn_ _ q) = _; unfold isIn_ pF; rw [upd_n (by omega)])]
    exact N
  · unfold nO wN; rw [upd_s]; exact Nat.le_refl _
  · unfold frE at h3
    rw [stN_tb, Bool.and_eq_true] at h3
    have := h3.2
    unfold isFr at this
    rw [Bool.and_eq_true, Bool.and_eq_true] at this
    rw [show hF (upd w 299 0) y 2 = hF w y 2 by unfold hF; exact upd_n (by omega)]
    exact of_decide_eq_true this.1.1
theorem m_weekEnds (Z : Rng w) (C : Con w) (N : Cn w) : f_X3_weekEnds w = some (wkE w 233 - w 233, wkE w) := by
  obtain ⟨hH, b1⟩ := Z.gH
  obtain ⟨hP, b2⟩ := Z.gP
  have e0 : nH (upd w 299 0) = nH w := by unfold nH wN; rw [upd_n (by decide)]
  -- houses
  have l153 : ∀ s : Rw, s 231 = w 231 → f_X3_weekEnds_153 FU (w 233) 0 s = some (upd (flN edF 0 (nP w) s) 232 (flN edF 0 (nP w) s 232 + 1) 233 - w 233, upd (flN edF 0 (nP w) s) 232 (flN edF 0 (nP w) s 232 + 1)) := by
    intro s hs
    have key := lp_upI (fun n j s => f_X3_weekEnds_153 n (w 233) (nI j) s) (fun s => some (upd s 232 (s 232 + 1) 233 - w 233, upd s 232 (s 232 + 1))) edF (nP w) (fun j s => s 231 = w 231) ?_ ?_ ?_ FU 0 s (Nat.zero_le _) (FU_lt (by omega)) hs
    · exact key.1
    · intro n s hs
      simp only [f_X3_weekEnds_153]
      rw [hs, hP, if_pos (nI_leR _)]
    · intro n j s hj hs
      have r7 : pF (upd s (80 + 18 * j + 10) 0) j 7 = pF s j 7 := by unfold pF; exact upd_n (by omega)
      have r6 : pF (upd s (80 + 18 * j + 10) 0) j 6 = pF s j 6 := by unfold pF; exact upd_n (by omega)
      simp only [f_X3_weekEnds_153, f_X3_weekEnds_203]
      rw [hs, hP, if_neg (nI_ge hj (by omega)), m_puts (by omega), Option.bind_some, m_of (by omega), Option.bind_some, m_of (by omega), Option.bind_some, r7, r6, m_max, Option.bind_some, m_puts (by omega), Option.bind_some, m_puts (by omega), Option.bind_some, m_puts (by omega), Option.bind_some, nI_1]
      unfold edF
      split <;> rfl
    · intro j s hj hs
      show edF j s 231 = w 231
      unfold edF
      rw [upd_n (by omega)]
      split
      · rw [upd_n (by omega), upd_n (by omega)]; exact hs
      · rw [upd_n (by omega)]; exact hs
  -- homes left
  have l126 : ∀ s : Rw, s 230 = w 230 → s 231 = w 231 → f_X3_weekEnds_126 FU (w 233) 0 s = f_X3_weekEnds_153 FU (w 233) 0 (flN (fun h s => upd s (8 * h + 3) 0) 0 (nH w) s) ∧ flN (fun h s => upd s (8 * h + 3) 0) 0 (nH w) s 231 = w 231 := by
    intro s hs hs1
    have key := lp_upI (fun n j s => f_X3_weekEnds_126 n (w 233) (nI j) s) (fun s => f_X3_weekEnds_153 FU (w 233) 0 s) (fun h s => upd s (8 * h + 3) 0) (nH w) (fun j s => s 230 = w 230 ∧ s 231 = w 231) ?_ ?_ ?_ FU 0 s (Nat.zero_le _) (FU_lt (by omega)) ⟨hs, hs1⟩
    · exact ⟨key.1, key.2.2⟩
    · intro n s hs
      simp only [f_X3_weekEnds_126]
      rw [hs.1, hH, if_pos (nI_leR _)]
    · intro n j s hj hs
      simp only [f_X3_weekEnds_126]
      rw [hs.1, hH, if_neg (nI_ge hj (by omega)), m_putsHome (by omega), Option.bind_some, nI_1]
    · intro j s hj hs
      exact ⟨by rw [← hs.1]; exact upd_n (by omega), by rw [← hs.2]; exact upd_n (by omega)⟩
  -- homes offered
  have hfr : frE w < 1024 := by
    have h1 : frE w < 2 ^ nH w := stN_lt _
    have h2 : 2 ^ nH w ≤ 2 ^ 10 := Nat.pow_le_pow_right (by decide) b1
    omega
  have l60 : f_X3_weekEnds_60 FU (w 233) (nI (frE w)) 0 (upd w 299 0) = f_X3_weekEnds_126 FU (w 233) 0 (w1E w) := by
    have key := lp_upI (fun n j s => f_X3_weekEnds_60 n (w 233) (nI (frE w)) (nI j) s) (fun s => f_X3_weekEnds_126 FU (w 233) 0 s) (hmF (frE w)) (nH w) (P60 (upd w 299 0) (frE w)) ?_ ?_ ?_ FU 0 (upd w 299 0) (Nat.zero_le _) (FU_lt (by omega)) (P60_0 Z C N)
    · exact key.1
    · intro n s hs
      have hs0 : s 230 = w 230 := (hs.2.2.2.1.2.2 230 (by decide) (by decide)).trans (upd_n (by decide))
      simp only [f_X3_weekEnds_60]
      rw [hs0, hH, if_pos (nI_leR _)]
    · intro n j s hj hs
      have hs0 : s 230 = w 230 := (hs.2.2.2.1.2.2 230 (by decide) (by decide)).trans (upd_n (by decide))
      simp only [f_X3_weekEnds_60, f_X3_weekEnds_114]
      rw [hs0, hH, if_neg (nI_ge hj (by omega)), btV _ hfr j (by omega), m_lets hs.1 hs.2.2.1 (by omega) (by have := hs.2.2.2.2.1; omega), Option.bind_some, m_h0 (by omega), Option.bind_some, m_h0 (by omega), Option.bind_some, m_putsHome (by omega), Option.bind_some, m_putsHome (by omega), Option.bind_some, nI_1]
      unfold hmF
      cases (frE w).testBit j
      · rfl
      · rw [if_neg (show ¬ bI true = 0 by decide), if_pos rfl]
        split <;> rfl
    · intro j s hj hs
      exact P60_1 (by rw [e0]; exact hj) (by rw [e0]; exact b1) hs
  have hP1 : P60 (upd w 299 0) (frE w) (nH w) (w1E w) := by
    have := P60_N (w := upd w 299 0) (fr := frE w) (s := upd w 299 0) (by rw [e0]; exact b1) (nH w) 0 (by rw [e0]; omega) (P60_0 Z C N)
    rw [e0] at this
    exact this
  -- the free homes
  have l22 : f_X3_weekEnds_22 FU (w 233) 0 0 (upd w 299 0) = f_X3_weekEnds_60 FU (w 233) (nI (frE w)) 0 (upd w 299 0) := by
    have key := lp_upI (fun n i s => f_X3_weekEnds_22 n (w 233) (nI s) (nI i) (upd w 299 0)) (fun s => f_X3_weekEnds_60 FU (w 233) (nI s) 0 (upd w 299 0)) (fun x s => if isFr w x = true then s ||| 2 ^ x else s) (nH w) (fun i s => i ≤ 10 ∧ s < 1024) ?_ ?_ ?_ FU 0 0 (Nat.zero_le _) (FU_lt (by omega)) ⟨by omega, by omega⟩
    · exact key.1
    · intro n s _
      simp only [f_X3_weekEnds_22]
      rw [upd_n (show 230 ≠ 299 by decide), hH, if_pos (nI_leR _)]
    · intro n i s hi hs
      simp only [f_X3_weekEnds_22]
      rw [upd_n (show 230 ≠ 299 by decide), hH, if_neg (nI_ge hi (by omega)), m_isFree (by omega), Option.bind_some, isFr_u (by decide) (by omega), or_0, or_n s hs.2 i (by omega), nI_1]
      by_cases hb : isFr w i = true <;> simp [hb, bI]
    · intro i s hi hs
      refine ⟨by omega, ?_⟩
      show (if isFr w i = true then s ||| 2 ^ i else s) < 1024
      split
      · exact or_lt (m := 10) hs.2 (by omega)
      · exact hs.2
  unfold f_X3_weekEnds
  have k230 : w1E w 230 = w 230 := (hP1.2.2.2.1.2.2 230 (by decide) (by decide)).trans (upd_n (by decide))
  have k231 : w1E w 231 = w 231 := (hP1.2.2.2.1.2.2 231 (by decide) (by decide)).trans (upd_n (by decide))
  rw [l22, l60, (l126 _ k230 k231).1]
  exact l153 _ (l126 _ k230 k231).2
end PM9
