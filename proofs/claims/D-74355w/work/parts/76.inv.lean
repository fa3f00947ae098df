/-! a week by single moves; what every move keeps -/
/-- one move of a week: taken, refused, a number that tells of no let -/
def StT (a b : Rw) : Prop := ∃ p h off, p < nP a ∧ h < nH a ∧ mayH a p = true ∧ hF a h 2 = -1 ∧ b = takd (offd a p h true) p h off ∧ iBd a p h = true ∧ wTk a p h = true
def StR (a b : Rw) : Prop := ∃ p h, p < nP a ∧ h < nH a ∧ b = refd (offd a p h false) p ∧ iBd a p h = true ∧ wTk a p h = false
def StU (a b : Rw) : Prop := ∃ i v, ((∃ y, y < 10 ∧ (i = 8 * y + 7 ∨ i = 8 * y + 3)) ∨ (∃ q, q < 8 ∧ (i = 80 + 18 * q + 6 ∨ i = 80 + 18 * q + 7 ∨ (i = 80 + 18 * q + 10 ∧ v = 0)))) ∧ b = upd a i v
def Stq (a b : Rw) : Prop := Gd a ∧ ((nO a < 30 ∧ (StT a b ∨ StR a b)) ∨ StU a b)
def Rch (w s : Rw) : Prop := ∀ P : Rw → Prop, P w → (∀ a b, P a → Stq a b → P b) → P s
section PIV
variable {w W s : Rw} {p q h y k i x off : Nat} {v : Int32}
theorem Rch.rfl' : Rch w w := fun P h _ => h
theorem Rch.one (R : Rch w s) (h : Stq s W) : Rch w W := fun P hw hs => hs s W (R P hw hs) h
theorem ofN_rch {w0 : Rw} (h : Nat) : ∀ (c k dn : Nat) (w : Rw), Rch w0 w → Rng w → Con w → Cn w → h < nH w → hF w h 2 = -1 → nO w + c ≤ 30 → Rch w0 (ofN h c k dn w)
  | 0, k, dn, w, R, _, _, _, _, _, _ => R
  | c + 1, k, dn, w, R, Z, C, N, hh, hf, hO => by
    have b1 := Z.gH.2
    have b2 := Z.gP.2
    unfold ofN
    cases hn : nxt w h dn with
    | none => exact R
    | some p =>
      obtain ⟨p1, p2, p3⟩ := am_some hn
      rw [Bool.and_eq_true, Bool.and_eq_true] at p2
      have hp8 : p < 8 := by omega
      dsimp only
      by_cases ht : wTk w p h = true
      · rw [if_pos ht]
        exact R.one ⟨⟨Z, C, N⟩, Or.inl ⟨by omega, Or.inl ⟨p, h, k + 1, p1, hh, p2.1.2, hf, rfl, p2.1.1, ht⟩⟩⟩
      · rw [if_neg ht]
        have A1 : Agr w (offd w p h false) := offd_a Z
        have Z1 := Rng_offd (t := false) Z hp8 (show h < 10 by omega) (show nO w < 30 by omega)
        have C1 := Con_ag A1 Z C
        have N1 := Cn_ag A1 Z N
        have hnO : nO (refd (offd w p h false) p) = nO w + 1 := by
          have h1 := nO_offd (t := false) (p := p) (h := h) Z (show nO w < 30 by omega)
          unfold nO wN at h1 ⊢
          rw [refd_g hp8 (by decide) (by decide)]; exact h1
        have hK : KS w (refd (offd w p h false) p) := (KS_ag A1).trans (KS_refd hp8)
        have h2 : hF (refd (offd w p h false) p) h 2 = -1 := by
          rw [show hF (refd (offd w p h false) p) h 2 = hF (offd w p h false) h 2 from refd_o (by omega) (fun j h1 h2 => by omega), ag_h A1 (by omega) (by decide)]
          exact hf
        exact ofN_rch h c (k + 1) (dn ||| 2 ^ p) _ (R.one ⟨⟨Z, C, N⟩, Or.inl ⟨by omega, Or.inr ⟨p, h, p1, hh, rfl, p2.1.1, Bool.eq_false_iff.mpr ht⟩⟩⟩) (Rng_refd Z1 hp8) (Con_refd Z1 C1 hp8) (Cn_refd Z1 hp8 N1) (by rw [hK.nH]; exact hh) h2 (by omega)
theorem w1_rch (G : Gd w) : Rch (upd w 299 0) (w1E w) := by
  have b1 := G.1.gH.2
  have P0 := P60_0 G.1 G.2.1 G.2.2
  have key : ∀ n j s, j + n = nH w → P60 (upd w 299 0) (frE w) j s → Rch (upd w 299 0) s → Rch (upd w 299 0) (flN (hmF (frE w)) j n s) := by
    intro n
    induction n with
    | zero => intro j s _ _ R; exact R
    | succ n ih =>
      intro j s hj H R
      have hnH : nH (upd w 299 0) = nH w := by unfold nH wN; rw [upd_n (by decide)]
      refine ih (j + 1) _ (by omega) (P60_1 (by rw [hnH]; omega) (by rw [hnH]; exact b1) H) ?_
      obtain ⟨Z, C, N, K, hO, hL, hf⟩ := H
      unfold hmF
      by_cases hb : (frE w).testBit j = true
      · rw [if_pos hb]
        have hsH : j < nH s := by rw [K.nH, hnH]; omega
        have R1 := ofN_rch j 3 0 0 s R Z C N hsH (hf j (Nat.le_refl _) (by omega) hb) (by omega)
        obtain ⟨g1, g2, g3, -⟩ := ofN_ok j 3 0 0 s Z C N hsH (hf j (Nat.le_refl _) (by omega) hb) (by omega)
        exact R1.one ⟨⟨g1, g2, g3⟩, Or.inr ⟨_, _, Or.inl ⟨j, by omega, Or.inl rfl⟩, rfl⟩⟩
      · rw [if_neg hb]; exact R
  exact key (nH w) 0 _ (by omega) P0 Rch.rfl'
theorem w3_rch (G : Gd w) : Rch (upd w 299 0) (w3E w) := by
  have b1 := G.1.gH.2
  have b2 := G.1.gP.2
  obtain ⟨G1, K1, -⟩ := w1_ok G
  have k2 : ∀ n j s, j + n = nH w → Gd s → KT w s → Rch (upd w 299 0) s → Rch (upd w 299 0) (flN (fun h s => upd s (8 * h + 3) 0) j n s) ∧ Gd (flN (fun h s => upd s (8 * h + 3) 0) j n s) ∧ KT w (flN (fun h s => upd s (8 * h + 3) 0) j n s) := by
    intro n
    induction n with
    | zero => intro j s _ G K R; exact ⟨R, G, K⟩
    | succ n ih =>
      intro j s hj Gs K R
      refine ih (j + 1) _ (by omega) (Gd_h Gs (by omega) (by decide) (by decide) (by show hB 3 0; exact ⟨by decide, by decide⟩)) (K.trans ⟨fun q k a1 a2 a3 => by unfold pF; exact upd_n (by omega), fun y k a1 a2 => by unfold hF; exact upd_n (by omega), fun i a1 a2 => upd_n (by omega)⟩) (R.one ⟨Gs, Or.inr ⟨_, _, Or.inl ⟨j, by omega, Or.inr rfl⟩, rfl⟩⟩)
  obtain ⟨R2, G2, K2⟩ := k2 (nH w) 0 _ (by omega) G1 K1 (w1_rch G)
  have k3 : ∀ n j s, j + n = nP w → Gd s → KT w s → Rch (upd w 299 0) s → Rch (upd w 299 0) (flN edF j n s) := by
    intro n
    induction n with
    | zero => intro j s _ _ _ R; exact R
    | succ n ih =>
      intro j s hj Gs K R
      have hjs : j < nP s := by rw [K.eP]; omega
      obtain ⟨e1, e2, -⟩ := edF_ok Gs hjs
      refine ih (j + 1) _ (by omega) e1 (K.trans e2) ?_
      have u10 : Stq s (upd s (80 + 18 * j + 10) 0) := ⟨Gs, Or.inr ⟨_, _, Or.inr ⟨j, by omega, Or.inr (Or.inr ⟨rfl, rfl⟩)⟩, rfl⟩⟩
      have g10 : Gd (upd s (80 + 18 * j + 10) 0) := Gd_bw (n := 0) Gs hjs (Nat.two_pow_pos _)
      unfold edF
      by_cases h7 : pF s j 7 = 0
      · rw [if_pos h7]
        obtain ⟨y1, y2⟩ := Gs.1.p6 (p := j) (by omega)
        have g6 : Gd (upd (upd s (80 + 18 * j + 10) 0) (80 + 18 * j + 6) (mx32 0 (pF s j 6 - 1))) := Gd_p g10 (by omega) (Or.inr (Or.inl rfl)) (by rw [y1, mx_dec y2]; exact inI_of (b := 52) (by omega) (by decide) (by decide))
        exact ((R.one u10).one ⟨g10, Or.inr ⟨_, _, Or.inr ⟨j, by omega, Or.inl rfl⟩, rfl⟩⟩).one ⟨g6, Or.inr ⟨_, _, Or.inr ⟨j, by omega, Or.inr (Or.inl rfl)⟩, rfl⟩⟩
      · rw [if_neg h7]
        exact (R.one u10).one ⟨g10, Or.inr ⟨_, _, Or.inr ⟨j, by omega, Or.inr (Or.inl rfl)⟩, rfl⟩⟩
  exact k3 (nP w) 0 _ (by omega) G2 K2 R2
/-- of lets: one a house, and there it lives; a home's lets are counted -/
def LI (w : Rw) : Prop := (∀ i j, i < nL w → j < nL w → lF w i 0 = lF w j 0 → i = j) ∧ (∀ i, i < nL w → pF w (lN_ w i 0) 4 = lF w i 1) ∧ Iv1 w
/-- since the week began -/
def SW (w s : Rw) : Prop := nP s = nP w ∧ nH s = nH w ∧ s 232 = w 232 ∧ nL w ≤ nL s ∧ (∀ i k, i < nL w → k < 8 → lF s i k = lF w i k) ∧ (∀ i, nL w ≤ i → i < nL s → lF s i 2 = w 232) ∧ ∀ q, q < nP w → isIn_ w q = true → isIn_ s q = true ∨ ∃ i, nL w ≤ i ∧ i < nL s ∧ lF s i 0 = nI q
/-- a row whose lets, homes and houses are those of another one, but for what tells of no let -/
def LE (a b : Rw) : Prop := nP b = nP a ∧ nH b = nH a ∧ nL b = nL a ∧ (∀ i k, i < nL a → k < 8 → lF b i k = lF a i k) ∧ (∀ q, q < 8 → pF b q 4 = pF a q 4 ∧ pF b q 8 = pF a q 8) ∧ (∀ y, y < 10 → hF b y 4 = hF a y 4)
theorem LE.li {a b : Rw} (E : LE a b) (G : Gd a) (H : LI a) : LI b := by
  have b1 := G.1.gH.2
  have b3 := G.1.gL.2
  obtain ⟨e1, e2, e3, e4, e5, e6⟩ := E
  refine ⟨fun i j hi hj h => ?_, fun i hi => ?_, fun h hh => ?_⟩
  · rw [e3] at hi hj
    rw [e4 i 0 hi (by decide), e4 j 0 hj (by decide)] at h
    exact H.1 i j hi hj h
  · rw [e3] at hi
    have hl : lN_ b i 0 = lN_ a i 0 := by unfold lN_; rw [e4 i 0 hi (by decide)]
    have := (G.1.l0 (i := i) (by omega)).2
    rw [hl, e4 i 1 hi (by decide), (e5 _ (by omega)).1]
    exact H.2.1 i hi
  · rw [e2] at hh
    rw [e6 h (by omega), e3, H.2.2 h hh]
    exact congrArg nI (cnN_c _ (fun j hj => by rw [e4 j 1 hj (by decide)])).symm
theorem LE.sw {a b : Rw} (E : LE a b) (G : Gd a) (h2 : b 232 = a 232) (H : SW w a) : SW w b := by
  have b2 := G.1.gP.2
  obtain ⟨e1, e2, e3, e4, e5, e6⟩ := E
  obtain ⟨g1, g2, g3, g4, g5, g6, g7⟩ := H
  refine ⟨e1.trans g1, e2.trans g2, h2.trans g3, by omega, fun i k hi hk => (e4 i k (by omega) hk).trans (g5 i k hi hk), fun i h1 hi => ?_, fun q hq hin => ?_⟩
  · rw [e3] at hi
    rw [e4 i 2 hi (by decide)]; exact g6 i h1 hi
  · rcases g7 q hq hin with z | ⟨i, z1, z2, z3⟩
    · left
      unfold isIn_ at z ⊢
      rw [(e5 q (by omega)).2]; exact z
    · exact Or.inr ⟨i, z1, by omega, by rw [e4 i 0 z2 (by decide)]; exact z3⟩
theorem LE_u {a : Rw} (G : Gd a) {i : Nat} (hi : (∃ y, y < 10 ∧ (i = 8 * y + 7 ∨ i = 8 * y + 3)) ∨ (∃ q, q < 8 ∧ (i = 80 + 18 * q + 5 ∨ i = 80 + 18 * q + 6 ∨ i = 80 + 18 * q + 7 ∨ i = 80 + 18 * q + 10)) ∨ i = 298 ∨ 299 ≤ i ∨ i = 232) : LE a (upd a i v) := by
  have b3 := G.1.gL.2
  refine ⟨?_, ?_, ?_, fun j k hj hk => ?_, fun q hq => ⟨?_, ?_⟩, fun y hy => ?_⟩
  · unfold nP wN; rw [upd_n (by rcases hi with ⟨z, z1, z2⟩ | ⟨z, z1, z2⟩ | z <;> omega)]
  · unfold nH wN; rw [upd_n (by rcases hi with ⟨z, z1, z2⟩ | ⟨z, z1, z2⟩ | z <;> omega)]
  · unfold nL wN; rw [upd_n (by rcases hi with ⟨z, z1, z2⟩ | ⟨z, z1, z2⟩ | z <;> omega)]
  · unfold lF; exact upd_n (by rcases hi with ⟨z, z1, z2⟩ | ⟨z, z1, z2⟩ | z <;> omega)
  · unfold pF; exact upd_n (by rcases hi with ⟨z, z1, z2⟩ | ⟨z, z1, z2⟩ | z <;> omega)
  · unfold pF; exact upd_n (by rcases hi with ⟨z, z1, z2⟩ | ⟨z, z1, z2⟩ | z <;> omega)
  · unfold hF; exact upd_n (by rcases hi with ⟨z, z1, z2⟩ | ⟨z, z1, z2⟩ | z <;> omega)
theorem LE.trans {a b c : Rw} (h1 : LE a b) (h2 : LE b c) : LE a c := by
  obtain ⟨a1, a2, a3, a4, a5, a6⟩ := h1
  obtain ⟨b1, b2, b3, b4, b5, b6⟩ := h2
  exact ⟨b1.trans a1, b2.trans a2, b3.trans a3, fun i k hi hk => (b4 i k (by omega) hk).trans (a4 i k hi hk), fun q hq => ⟨(b5 q hq).1.trans (a5 q hq).1, (b5 q hq).2.trans (a5 q hq).2⟩, fun y hy => (b6 y hy).trans (a6 y hy)⟩
theorem LE_offd {a : Rw} (G : Gd a) {t : Bool} : LE a (offd a p h t) := by
  have A := offd_a (p := p) (h := h) (t := t) G.1
  exact ⟨ag_nP A, ag_nH A, ag_nL A, fun i k hi hk => ag_l A hi hk, fun q hq => ⟨ag_p A hq (by decide), ag_p A hq (by decide)⟩, fun y hy => ag_h A hy (by decide)⟩
theorem LE_refd {a : Rw} (hL : nL a ≤ 8) (hp : p < 8) : LE a (refd a p) := by
  refine ⟨nP_refd hp, ?_, ?_, fun i k hi hk => ?_, fun q hq => ⟨?_, ?_⟩, fun y hy => ?_⟩
  · unfold nH wN; rw [refd_g hp (by decide) (by decide)]
  · unfold nL wN; rw [refd_g hp (by decide) (by decide)]
  · unfold lF; exact refd_g hp (by omega) (by omega)
  · exact refd_p hq (by decide) (by omega)
  · exact refd_p hq (by decide) (by omega)
  · unfold hF; exact refd_o (by omega) (fun j h1 h2 => by omega)
theorem offd_232 {t : Bool} : offd w p h t 232 = w 232 := offd_o (Or.inl (by decide))
/-- a let: the invariants -/
theorem takd_inv {a : Rw} (G : Gd a) (H : LI a) (S : SW w a) (hp : p < nP a) (hh : h < nH a) (hin : isIn_ a p = true) (hf : hF a h 2 = -1) : LI (takd a p h off) ∧ SW w (takd a p h off) := by
  have Z := G.1
  have b1 := Z.gH.2
  have b2 := Z.gP.2
  have hl := G.2.2.lt Z hp hin
  have hp8 : p < 8 := by omega
  have hh10 : h < 10 := by omega
  have nL' := takd_nL (off := off) Z hp8 hh10 hl
  have nP' := takd_nP (off := off) Z hp8 hh10
  have nH' := takd_nH (off := off) Z hp8 hh10
  have old : ∀ i k, i < nL a → k < 8 → lF (takd a p h off) i k = lF a i k := fun i k hi hk => by
    unfold lF; exact takd_g Z hp8 hh10 (by omega) (by omega) (by omega)
  have new : ∀ k, k < 8 → lF (takd a p h off) (nL a) k = lF (tk3 a p h off) (nL a) k := fun k hk => by
    unfold lF; exact takd_o (by omega) Z hp8
  have n0 : lF (takd a p h off) (nL a) 0 = nI p := by rw [new 0 (by decide), tk3_l hp8 hh10 (by decide) b2]; rfl
  have n1 : lF (takd a p h off) (nL a) 1 = nI h := by rw [new 1 (by decide), tk3_l hp8 hh10 (by decide) b2]; rfl
  have n2 : lF (takd a p h off) (nL a) 2 = a 232 := by rw [new 2 (by decide), tk3_l hp8 hh10 (by decide) b2]; rfl
  have hne : ∀ i, i < nL a → lN_ a i 0 ≠ p := fun i hi z => by
    have := (G.2.1.2.2.2.2.1 i hi).2.2
    rw [z, hin] at this; cases this
  have p4 : ∀ q, q < 8 → pF (takd a p h off) q 4 = if q = p then nI h else pF a q 4 := fun q hq => by
    rw [takd_p Z hp8 hh10 hq (by decide) hl, if_neg (by omega)]
    by_cases hqp : q = p
    · rw [if_pos ⟨hqp, rfl⟩, if_pos hqp]
    · rw [if_neg (by omega), if_neg (by omega), if_neg hqp]
  have p8 : ∀ q, q < 8 → q ≠ p → pF (takd a p h off) q 8 = pF a q 8 := fun q hq hn => by
    rw [takd_p Z hp8 hh10 hq (by decide) hl, if_neg (by omega), if_neg (by omega), if_neg (by omega)]
  constructor
  · refine ⟨fun i j hi hj he => ?_, fun i hi => ?_, fun y hy => ?_⟩
    · rw [nL'] at hi hj
      have l0 : ∀ z, z < nL a → lF a z 0 = nI p → False := fun z hz e => hne z hz (by unfold lN_; rw [e, nI_clamp (by omega)])
      by_cases hi2 : i = nL a <;> by_cases hj2 : j = nL a
      · omega
      · subst hi2; rw [n0, old j 0 (by omega) (by decide)] at he
        exact (l0 j (by omega) he.symm).elim
      · subst hj2; rw [n0, old i 0 (by omega) (by decide)] at he
        exact (l0 i (by omega) he).elim
      · rw [old i 0 (by omega) (by decide), old j 0 (by omega) (by decide)] at he
        exact H.1 i j (by omega) (by omega) he
    · rw [nL'] at hi
      by_cases hi2 : i = nL a
      · subst hi2
        have : lN_ (takd a p h off) (nL a) 0 = p := by unfold lN_; rw [n0, nI_clamp (by omega)]
        rw [this, p4 p hp8, if_pos rfl, n1]
      · have hl0 : lN_ (takd a p h off) i 0 = lN_ a i 0 := by unfold lN_; rw [old i 0 (by omega) (by decide)]
        have := (Z.l0 (i := i) (by omega)).2
        rw [hl0, p4 _ (by omega), if_neg (hne i (by omega)), old i 1 (by omega) (by decide)]
        exact H.2.1 i (by omega)
    · rw [nH'] at hy
      have e4 : hF (takd a p h off) y 4 = if y = h then hF a h 4 + 1 else hF a y 4 := by
        rw [takd_h Z hp8 hh10 (by omega) (by decide), if_neg (by omega), if_neg (by omega), if_neg (by omega), if_neg (by omega)]
        by_cases hyh : y = h
        · rw [if_pos ⟨hyh, rfl⟩, if_pos hyh]
        · rw [if_neg (by omega), if_neg hyh]
      rw [e4, nL', cnN_1, n1, cnN_c (C := fun i => decide (lF a i 1 = nI y)) (nL a) (fun j hj => by rw [old j 1 hj (by decide)])]
      by_cases hyh : y = h
      · subst hyh
        rw [if_pos rfl, decide_eq_true rfl, if_pos rfl, H.2.2 y hy, nI_1]
      · rw [if_neg hyh, decide_eq_false (fun z => hyh ((nI_eq (by omega) (by omega)).mp z).symm), if_neg (by nofun), Nat.add_zero]
        exact H.2.2 y hy
  · obtain ⟨g1, g2, g3, g4, g5, g6, g7⟩ := S
    refine ⟨nP'.trans g1, nH'.trans g2, (takd_g Z hp8 hh10 (by decide) (by decide) (Or.inl (by omega))).trans g3, by omega, fun i k hi hk => (old i k (by omega) hk).trans (g5 i k hi hk), fun i h1 hi => ?_, fun q hq hi => ?_⟩
    · rw [nL'] at hi
      by_cases hi2 : i = nL a
      · subst hi2; rw [n2]; exact g3
      · rw [old i 2 (by omega) (by decide)]; exact g6 i h1 (by omega)
    · by_cases hqp : q = p
      · subst hqp
        exact Or.inr ⟨nL a, g4, by omega, n0⟩
      · rcases g7 q hq hi with z | ⟨i, z1, z2, z3⟩
        · left
          unfold isIn_ at z ⊢
          rw [p8 q (by omega) hqp]; exact z
        · exact Or.inr ⟨i, z1, by omega, by rw [old i 0 z2 (by decide)]; exact z3⟩
theorem SW.rfl' : SW w w := ⟨rfl, rfl, rfl, Nat.le_refl _, fun _ _ _ _ => rfl, fun i h1 h2 => absurd h2 (by omega), fun q _ h => Or.inl h⟩
theorem week_inv (G : Gd w) (H : LI w) : LI (w3E w) ∧ SW w (w3E w) := by
  have E0 := LE_u (v := 0) G (i := 299) (Or.inr (Or.inr (by omega)))
  refine w3_rch G (fun s => LI s ∧ SW w s) ⟨E0.li G H, E0.sw G (upd_n (by decide)) SW.rfl'⟩ (fun a b hP hS => ?_)
  obtain ⟨G, hc⟩ := hS
  have b2 := G.1.gP.2
  have b1 := G.1.gH.2
  have b3 := G.1.gL.2
  rcases hc with ⟨hO, ⟨p, h, off, hp, hh, hm, hf, rfl, -, -⟩ | ⟨p, h, hp, hh, rfl, -, -⟩⟩ | ⟨i, v, hi, rfl⟩
  · have E := LE_offd (p := p) (h := h) (t := true) G
    have A := offd_a (p := p) (h := h) (t := true) G.1
    have G1 : Gd (offd a p h true) := ⟨Rng_offd G.1 (by omega) (by omega) hO, Con_ag A G.1 G.2.1, Cn_ag A G.1 G.2.2⟩
    exact takd_inv G1 (E.li G hP.1) (E.sw G offd_232 hP.2) (by rw [E.1]; exact hp) (by rw [E.2.1]; exact hh) (by rw [isIn_ag A (by omega)]; exact mayH_in hm) (by rw [ag_h A (by omega) (by decide)]; exact hf)
  · have E := LE_offd (p := p) (h := h) (t := false) G
    have A := offd_a (p := p) (h := h) (t := false) G.1
    have G1 : Gd (offd a p h false) := ⟨Rng_offd G.1 (by omega) (by omega) hO, Con_ag A G.1 G.2.1, Cn_ag A G.1 G.2.2⟩
    have E2 := LE_refd (p := p) (by rw [E.2.2.1]; exact b3) (show p < 8 by omega)
    exact ⟨E2.li G1 (E.li G hP.1), E2.sw G1 (refd_g (by omega) (by decide) (by decide)) (E.sw G offd_232 hP.2)⟩
  · have E := LE_u (v := v) G (i := i) (by
      rcases hi with z | ⟨q, z1, z2⟩
      · exact Or.inl z
      · exact Or.inr (Or.inl ⟨q, z1, by omega⟩))
    exact ⟨E.li G hP.1, E.sw G (upd_n (by rcases hi with ⟨q, z1, z2⟩ | ⟨q, z1, z2⟩ <;> omega)) hP.2⟩
/-- a whole week -/
theorem wk_inv (G : Gd w) (H : LI w) (hk : wN w 232 < 999) : LI (wkE w) ∧ nL w ≤ nL (wkE w) ∧ (∀ i k, i < nL w → k < 8 → lF (wkE w) i k = lF w i k) ∧ (∀ i, nL w ≤ i → i < nL (wkE w) → lF (wkE w) i 2 = w 232) ∧ (∀ q, q < nP w → isIn_ w q = true → isIn_ (wkE w) q = true ∨ ∃ i, nL w ≤ i ∧ i < nL (wkE w) ∧ lF (wkE w) i 0 = nI q) := by
  obtain ⟨h1, g1, g2, g3, g4, g5, g6, g7⟩ := week_inv G H
  obtain ⟨Gw, -⟩ := wk_ok G hk
  have eL : nL (wkE w) = nL (w3E w) := by unfold wkE nL wN; rw [upd_n (by decide)]
  have el : ∀ i k, lF (wkE w) i k = lF (w3E w) i k := fun i k => by unfold wkE lF; exact upd_n (by omega)
  have ep : ∀ q k, q < 8 → k < 18 → pF (wkE w) q k = pF (w3E w) q k := fun q k hq hk => by unfold wkE pF; exact upd_n (by omega)
  have b2 := G.1.gP.2
  have b1 := G.1.gH.2
  have eH : nH (wkE w) = nH (w3E w) := by unfold wkE nH wN; rw [upd_n (by decide)]
  refine ⟨⟨fun i j hi hj h => ?_, fun i hi => ?_, fun y hy => ?_⟩, by omega, fun i k hi hk => (el i k).trans (g5 i k hi hk), fun i z1 z2 => (el i 2).trans (g6 i z1 (by omega)), fun q hq hi => ?_⟩
  · rw [el, el] at h
    exact h1.1 i j (by omega) (by omega) h
  · have := (Gw.1.l0 (i := i) (by have := Gw.1.gL.2; omega)).2
    rw [ep _ 4 (by omega) (by decide), el]
    have hl : lN_ (wkE w) i 0 = lN_ (w3E w) i 0 := by unfold lN_; rw [el]
    rw [hl]
    exact h1.2.1 i (by omega)
  · rw [eH] at hy
    have e4 : hF (wkE w) y 4 = hF (w3E w) y 4 := by unfold wkE hF; exact upd_n (by omega)
    rw [e4, eL, h1.2.2 y hy]
    exact congrArg nI (cnN_c _ (fun j hj => by rw [el]))
  · rcases g7 q hq hi with z | ⟨i, z1, z2, z3⟩
    · left
      unfold isIn_ at z ⊢
      rw [ep q 8 (by omega) (by decide)]; exact z
    · exact Or.inr ⟨i, z1, by omega, by rw [el]; exact z3⟩
theorem BS.le {a b : Rw} (B : BS a b) (hL : nL a ≤ 8) : LE a b := by
  refine ⟨?_, ?_, ?_, fun i k hi hk => ?_, fun q hq => ⟨B.pp hq (by decide) (by decide), B.pp hq (by decide) (by decide)⟩, fun y hy => B.hh hy (by decide)⟩
  · unfold nP wN; rw [B.g (by decide)]
  · unfold nH wN; rw [B.g (by decide)]
  · unfold nL wN; rw [B.g (by decide)]
  · unfold lF; exact B.g (by omega)
/-- one more week in which all bid besides -/
theorem om_inv (G : Gd w) (H : LI w) (hk : wN w 232 < 999) : LI (omE w) ∧ nL w ≤ nL (omE w) ∧ (∀ i k, i < nL w → k < 8 → lF (omE w) i k = lF w i k) ∧ (∀ i, nL w ≤ i → i < nL (omE w) → lF (omE w) i 2 = w 232) ∧ (∀ q, q < nP w → isIn_ w q = true → isIn_ (omE w) q = true ∨ ∃ i, nL w ≤ i ∧ i < nL (omE w) ∧ lF (omE w) i 0 = nI q) := by
  obtain ⟨-, -, Z1, C1, N1, B⟩ := m_allBid G.1 G.2.1 G.2.2
  have E := B.le G.1.gL.2
  have h2 : bdA w 232 = w 232 := B.g (by decide)
  obtain ⟨r1, r2, r3, r4, r5⟩ := wk_inv (w := bdA w) ⟨Z1, C1, N1⟩ (E.li G H) (by unfold wN; rw [h2]; exact hk)
  have hL := E.2.2.1
  have b2 := G.1.gP.2
  refine ⟨r1, by unfold omE; omega, fun i k hi hk' => (r3 i k (by omega) hk').trans (E.2.2.2.1 i k hi hk'), fun i h1 hi => (r4 i (by omega) hi).trans h2, fun q hq hi => ?_⟩
  rcases r5 q (by rw [E.1]; exact hq) (by unfold isIn_ at hi ⊢; rw [(E.2.2.2.2.1 q (by omega)).2]; exact hi) with z | ⟨i, z1, z2, z3⟩
  · exact Or.inl z
  · exact Or.inr ⟨i, by omega, z2, z3⟩
end PIV
