/-! queue: both sides -/
def pw (w : Rw) (p : Nat) : Nat := (1000 * bnd w p + pN w p 3) * 8 + p
def an_queue (w : Rw) (a : Int32) : Int32 × Int32 := if a < 0 then (-1, 1) else tO (ordN (pw w) (nP w) a.toNatClampNeg (stN (isIn_ w) (nP w)))
section PQU
variable {w : Rw} {th st ac a b : Int32} {p q x y i s d : Nat}
theorem pw_lt (Z : Rng w) (hp : p < 8) : pw w p < 50000 := by
  obtain ⟨e1, e2, e3⟩ := bn_n Z hp
  obtain ⟨d1, d2⟩ := Z.p3 hp
  unfold pw
  omega
theorem pw_inj (hp : p < 8) (hq : q < 8) (h : pw w p = pw w q) : p = q := by
  unfold pw at h
  omega
theorem m_plainWeight (Z : Rng w) (hp : p < 8) : f_X3_plainWeight w (nI p) = some (nI (pw w p)) := by
  obtain ⟨e1, e2, e3⟩ := bn_n Z hp
  obtain ⟨d1, d2⟩ := Z.p3 hp
  simp only [f_X3_plainWeight]
  rw [m_bandNow (by omega) Z.gA.2.2.2, Option.bind_some, m_of (k := 3) (by omega), Option.bind_some, e1, d1, pk_mul, nI_add, pk_mul, nI_add]
  rfl
theorem pc_st {B : Nat → Bool} {n : Nat} (hn : n ≤ 10) : pc (stN B n) = cnN B n := by
  have h1 : ∀ m, n ≤ m → cnN (fun i => (stN B n).testBit i) m = cnN B n := by
    intro m
    induction m with
    | zero => intro h; rw [show n = 0 by omega]; rfl
    | succ m ih =>
      intro h
      by_cases hm : n = m + 1
      · rw [← hm]
        exact cnN_c n (fun j hj => by rw [stN_tb, decide_eq_true hj, Bool.true_and])
      · rw [cnN_1, ih (by omega), stN_tb, decide_eq_false (by omega)]
        simp
  exact h1 10 hn
/-- after the last one -/
def gtL (L : Option Nat) (v : Nat) : Bool := match L with
  | none => true
  | some l => decide (l < v)
theorem m_queue40 (Z : Rng w) {L : Option Nat} (hL : ∀ l, L = some l → l < 50000) (k31 : Int32 → Int32 → Int32 → Int32 → Int32 → Option (Int32 × Int32 × Int32)) {c : Int32} {p : Nat} (ho : am (fun q => isIn_ w q && gtL L (pw w q)) (pw w) (nP w) = some p) : f_X3_queue_40 FU k31 w c (-1) (eO L) 0 th st = k31 (c + (-1)) (nI p) (nI (pw w p)) th st := by
  obtain ⟨e1, b1⟩ := Z.gP
  have hp := am_lt ho
  refine lp_sq (fun n i s => f_X3_queue_40 n k31 w c s (eO L) (nI i) th st) (fun j => eO (am (fun q => isIn_ w q && gtL L (pw w q)) (pw w) j)) (k31 (c + (-1)) (nI p) (nI (pw w p)) th st) (nP w) ?_ ?_ FU 0 (Nat.zero_le _) (FU_lt (by omega))
  · intro n
    simp only [f_X3_queue_40]
    rw [e1, if_pos (nI_leR _), ho, show eO (some p) = nI p from rfl, m_plainWeight Z (by omega), Option.bind_some]
  · intro n i hi
    simp only [f_X3_queue_40]
    have l1 := pw_lt Z (p := i) (by omega)
    rw [e1, if_neg (nI_ge hi (by omega)), m_isIn (by omega), Option.bind_some, m_plainWeight Z (by omega), Option.bind_some, Option.bind_some, nI_1, am_1]
    unfold amF
    have hg : (nI (pw w i) ≤ eO L) ↔ gtL L (pw w i) = false := by
      cases L with
      | none => exact ⟨fun h => absurd h (by
          rw [Int32.le_iff_toInt_le, nI_toInt (by omega), show (eO none).toInt = -1 by decide]; omega), fun h => by cases h⟩
      | some l =>
        have hl := hL l rfl
        show nI (pw w i) ≤ nI l ↔ decide (l < pw w i) = false
        rw [nI_leI (by omega) (by omega), decide_eq_false_iff_not]
        omega
    by_cases hin : isIn_ w i = true
    · rw [if_neg (show ¬ bI (isIn_ w i) = 0 by rw [hin]; decide)]
      by_cases hgt : gtL L (pw w i) = true
      · rw [if_neg (fun z => by rw [hg.mp z] at hgt; cases hgt), if_pos (show (isIn_ w i && gtL L (pw w i)) = true by rw [hin, hgt]; rfl)]
        cases hm : am (fun q => isIn_ w q && gtL L (pw w q)) (pw w) i with
        | none => rw [if_pos (show eO none = -1 from rfl)]; rfl
        | some q =>
          have hq := am_lt hm
          have l2 := pw_lt Z (p := q) (by omega)
          rw [if_neg (show ¬ eO (some q) = -1 from nI_m1 (by omega)), show eO (some q) = nI q from rfl, m_plainWeight Z (by omega), Option.bind_some]
          dsimp only
          by_cases hlt : pw w i < pw w q
          · rw [if_neg (nI_ge hlt (by omega)), if_pos hlt]; rfl
          · rw [if_pos (nI_le (by omega) (by omega)), if_neg hlt]; rfl
      · rw [if_pos (hg.mpr (Bool.eq_false_iff.mpr hgt)), if_neg (show ¬ (isIn_ w i && gtL L (pw w i)) = true by rw [hin, Bool.true_and]; exact hgt)]
    · rw [if_pos (show bI (isIn_ w i) = 0 by rw [Bool.eq_false_iff.mpr hin]; rfl), if_neg (show ¬ (isIn_ w i && gtL L (pw w i)) = true by rw [Bool.eq_false_iff.mpr hin]; simp)]
theorem m_queue31 (Z : Rng w) : ∀ (c m T : Nat) (L : Option Nat) (its : Int32), T < 2 ^ nP w → c < pc T → (∀ l, L = some l → l < 50000) → (∀ q, q < nP w → T.testBit q = (isIn_ w q && gtL L (pw w q))) → f_X3_queue_31 (m + c + 2) w (nI c) its (eO L) th st = rA (tO (ordN (pw w) (nP w) c T)) := by
  intro c
  induction c with
  | zero =>
    intro m T L its hT hc hL hTL
    have b1 := Z.gP.2
    have hpk : am (fun q => isIn_ w q && gtL L (pw w q)) (pw w) (nP w) = pk (pw w) (nP w) T := (am_c (nP w) (fun j hj => hTL j hj)).symm
    cases hp : pk (pw w) (nP w) T with
    | none => rw [(pk_none (by omega) hT).mp hp, pc_0] at hc; omega
    | some p =>
      rw [show m + 0 + 2 = (m + 1) + 1 by omega, f_X3_queue_31, if_neg (nI_pos (by decide)), m_queue40 Z hL _ (hpk.trans hp), show nI 0 + (-1) = -1 by decide, f_X3_queue_31, if_pos (show (-1 : Int32) < 0 by decide)]
      show _ = rA (tO (pk (pw w) (nP w) T))
      rw [hp]
      rfl
  | succ c ih =>
    intro m T L its hT hc hL hTL
    have b1 := Z.gP.2
    have hpk : am (fun q => isIn_ w q && gtL L (pw w q)) (pw w) (nP w) = pk (pw w) (nP w) T := (am_c (nP w) (fun j hj => hTL j hj)).symm
    have hcl := pc_le T
    cases hp : pk (pw w) (nP w) T with
    | none => rw [(pk_none (by omega) hT).mp hp, pc_0] at hc; omega
    | some p =>
      have h4 := pk_some (by omega) hT hp
      have h5 := (am_some hp).2.2
      rw [show m + (c + 1) + 2 = (m + c + 2) + 1 by omega, f_X3_queue_31, if_neg (nI_pos (by omega)), m_queue40 Z hL _ (hpk.trans hp), pk_m1]
      have hO : ordN (pw w) (nP w) (c + 1) T = ordN (pw w) (nP w) c (clr T p) := by
        show (match pk (pw w) (nP w) T with | none => none | some p => ordN (pw w) (nP w) c (clr T p)) = _
        rw [hp]
      rw [hO]
      refine ih m (clr T p) (some (pw w p)) (nI p) h4.2.2.1 (by omega) (fun l hl => by cases hl; exact pw_lt Z (by omega)) (fun q hq => ?_)
      rw [clr_tb (by omega)]
      show (T.testBit q && !decide (q = p)) = (isIn_ w q && decide (pw w p < pw w q))
      have hTp := hTL p (by omega)
      rw [h4.2.1] at hTp
      have hTp' := hTp.symm
      rw [Bool.and_eq_true] at hTp'
      by_cases hqp : q = p
      · subst hqp
        simp
      · rw [decide_eq_false hqp, Bool.not_false, Bool.and_true, hTL q hq]
        cases hin : isIn_ w q
        · rfl
        · rw [Bool.true_and, Bool.true_and]
          by_cases hlt : pw w p < pw w q
          · rw [decide_eq_true hlt]
            cases L with
            | none => rfl
            | some l =>
              have := of_decide_eq_true hTp'.2
              exact decide_eq_true (by omega)
          · rw [decide_eq_false hlt]
            cases hgt : gtL L (pw w q) with
            | false => rfl
            | true =>
              exfalso
              have h6 := h5 q hq (by rw [hTL q hq, hin, hgt]; rfl)
              exact hqp (pw_inj (w := w) (by omega) (by omega) (by omega))
theorem m_queue (Z : Rng w) : f_X3_queue w th st a = rA (an_queue w a) := by
  simp only [f_X3_queue, f_X3_refuse, Option.bind_some, an_queue]
  by_cases hb : a < 0
  · rw [if_neg (Int32.not_le.mpr hb), if_pos hb]; rfl
  rw [if_pos (Int32.not_lt.mp hb), if_neg hb]
  obtain ⟨k, hk, rfl⟩ := nI_of hb
  have b1 := Z.gP.2
  have hT := stN_lt (B := isIn_ w) (nP w)
  have hpc := pc_st (B := isIn_ w) (n := nP w) (by omega)
  have hcl := cnN_le (B := isIn_ w) (nP w)
  rw [m_inOnes Z, Option.bind_some, nI_clamp hk]
  by_cases hc : k < cnN (isIn_ w) (nP w)
  · rw [if_pos (nI_lt hc (by omega))]
    have := m_queue31 (th := th) (st := st) Z k (FU - k - 2) (stN (isIn_ w) (nP w)) none (-1) hT (by omega) (fun l hl => by cases hl) (fun q hq => by rw [stN_tb, decide_eq_true hq]; simp [gtL])
    rw [show FU - k - 2 + k + 2 = FU by unfold FU; omega] at this
    exact this
  · rw [if_neg (fun z => hc ((nI_ltI hk (by omega)).mp z)), (ordN_none (by omega) k _ hT).mpr (by omega)]
    rfl
theorem pl_0 (Z : Rng w) {lf : Int32} {a b : Nat} (ha : a < nP w) (hb : b < nP w) : (plI w lf 0 a b < 0 ↔ pw w a < pw w b) := by
  have e8 := Z.gP.2
  obtain ⟨d1, d2⟩ := Z.p3 (p := a) (by omega)
  obtain ⟨d3, d4⟩ := Z.p3 (p := b) (by omega)
  obtain ⟨h1, ba4⟩ := bt_0 (lf := lf) Z ha
  obtain ⟨h2, bb4⟩ := bt_0 (lf := lf) Z hb
  have z0 : (0 : Int32).toInt = 0 := by decide
  have t3 := sub_i (m := bnd w a) (n := bnd w b) (by omega) (by omega)
  have t4 := sub_i (m := pN w a 3) (n := pN w b 3) (by omega) (by omega)
  have t5 := sub_i (m := a) (n := b) (by omega) (by omega)
  rw [Int32.lt_iff_toInt_lt, z0]
  unfold plI pw
  rw [h1, h2, d1, d3]
  by_cases c3 : bnd w a = bnd w b
  · rw [if_pos (t3.1.mpr c3)]
    by_cases c4 : pN w a 3 = pN w b 3
    · rw [if_pos (t4.1.mpr c4)]
      by_cases c5 : a = b
      · rw [if_pos (t5.1.mpr c5), z0]; omega
      · rw [if_neg (fun z => c5 (t5.1.mp z)), t5.2]; omega
    · rw [if_neg (fun z => c4 (t4.1.mp z)), t4.2]; omega
  · rw [if_neg (fun z => c3 (t3.1.mp z)), t3.2]; omega
end PQU
section PQC
variable {A : Nat → Nat} {I : Nat → Int32} {M : Nat → Prop} {w : Rw} {st : Int32} {h h1 h2 h' : AH} {nx nx' n0 n1 n2 : Nat} {E : bE} {v a b u : Int32} {p x y N k q less d : Nat} {f : Option (Int32 × AH × Nat × Nat)} {zs : Nat → Nat} {n : Nat}
theorem z_40 (S : SN A I M w st h nx) (G : Gd w) {q q0 D : Nat} {g : Nat → Int32} (hq : h q = some (.inr (.inr (40, [.ref (A 0), .ref q0])))) (h0 : h q0 = some (.inl (0, 1, .inl g))) (hg : g 0 = nI D) (hD : D < 1024) (hp : p < nP w) : (dE zs (n + 1)).2.1 h nx q (nI p) = some (bI (isIn_ w p && !D.testBit p), h, 0, 0) := by
  have b1 := G.1.gP.2
  obtain ⟨⟨aH, eH, aP, eP, rN, rA, hm, hs, nh, np, tl, O, T, TI, ho, hM⟩, F, wk, rf, sc, la, oa, R, Q, L, K, s0, il, io, hOwn, hno⟩ := id S.1
  rw [E_is hq]
  show lL40 (dE zs n) h nx [.ref (A 0), .ref q0] (nI p) = _
  have ha : aI h q0 0 0 = some (nI D) := by
    simp only [aI, arI, h0, if_true, Option.bind_some]
    rw [show (0 : Int32) = nI 0 from rfl, gdn ⟨by decide, by decide⟩, nI_clamp (by decide), hg]
  obtain ⟨w0, w1, w2, w3, w4, w5, w6, w7, w8⟩ := Q.2.1 p hp
  simp only [lL40, S.i0, gdT, f_X1_lambda_queue_28, S.g2, Option.bind_some, R.g13, R.a13 (show p < 8 by omega), w7, ha, btV D hD p (by omega), bI_0]
  unfold isIn_
  by_cases h0 : pF w p 8 = 0
  · rw [if_pos h0, decide_eq_true h0, Bool.true_and]
    cases D.testBit p <;> rfl
  · rw [if_neg h0, decide_eq_false h0]; rfl
/-- one pick of the queue's next -/
theorem y_pick {h0 : AH} (X0 : RA A M w h0 n0) (G : Gd w) {D T : Nat} {g : Nat → Int32} (hD : D < 2 ^ nP w) (hTD : ∀ p, p < nP w → T.testBit p = (isIn_ w p && !D.testBit p)) (S : SN A I (MR M n0 (n0 + 1)) w 0 h nx) (hn : n0 + 1 ≤ nx) (hg : h n0 = some (.inl (0, 1, .inl g))) (hgD : g 0 = nI D) : ∃ h2, f_X1_first (dE zs (n + 3)) (hu h nx (.inr (.inr (40, [.ref (A 0), .ref n0])))) (nx + 1) (nI (nP w)) nx (A 1 + 34) = some (eO (pk (pw w) (nP w) T), h2, 0, 0) ∧ SN A I (MR M n0 (n0 + 1)) w 0 h2 (nx + 1) ∧ Lt (A 1) h nx h2 (nx + 1) := by
  have Z := G.1
  have b1 := Z.gP.2
  have b2 := p2_le (N := nP w) (by omega)
  have hne := S.1.ne
  have hne0 := X0.ne
  obtain ⟨h2, c, d, e1, ⟨p1, p2⟩, c1, c2⟩ := x_first (E := dE zs (n + 3)) (q := nx) (q2 := A 1 + 34) (P := fun h' nx' => SN A I (MR M n0 (n0 + 1)) w 0 h' nx' ∧ Lt (A 1) (hu h nx (.inr (.inr (40, [.ref (A 0), .ref n0])))) (nx + 1) h' nx') (bc := 0) (bs := 0) (B := fun p => isIn_ w p && !D.testBit p) (key := pw w) (N := nP w) (by omega) (fun h' nx' k hk hP => ⟨h', 0, 0, z_40 (n := n + 2) hP.1 G (by rw [hP.2.2 nx (by omega) (by omega)]; exact hu_s) (by rw [hP.2.2 n0 (by omega) (by omega), hu_n (by omega)]; exact hg) hgD (by omega) hk, hP, by omega, by omega⟩) (fun h' nx' a b ha hb _ _ _ hP => by
    obtain ⟨⟨aH, eH, aP, eP, rN, rA, hm, hs, nh, np, tl, O, T, TI, ho, hM⟩, F, wk, rf, sc, la, oa, R, Q, L, K, s0, il, io, hOwn, hno⟩ := id hP.1.1
    refine ⟨h', plI w sc.2.1 sc.2.2.1 a b, 0, 0, c_plain R Q O T Z ha hb, hP, ?_, by omega, by omega⟩
    rw [s0]
    exact pl_0 Z ha hb) (h := hu h nx (.inr (.inr (40, [.ref (A 0), .ref n0])))) (nx := nx + 1) ⟨S.new, Lt.rfl'⟩
  have hc : c = 0 := by omega
  have hd : d = 0 := by omega
  subst hc hd
  have hpk : am (fun p => isIn_ w p && !D.testBit p) (pw w) (nP w) = pk (pw w) (nP w) T := (am_c (nP w) (fun j hj => hTD j hj)).symm
  rw [hpk] at e1
  exact ⟨h2, e1, p1, Lt.new.trans p2⟩
theorem y_queue27 {h0 : AH} (X0 : RA A M w h0 n0) (G : Gd w) (hk : k < 2 ^ 31) : ∀ (cnt i m T D : Nat) (its : Int32) (h : AH) (nx : Nat) (g : Nat → Int32), pc T = cnt → i ≤ k → i + cnt < 1000 → T < 2 ^ nP w → D < 2 ^ nP w → (∀ p, p < nP w → T.testBit p = (isIn_ w p && !D.testBit p)) → SN A I (MR M n0 (n0 + 1)) w 0 h nx → n0 + 1 ≤ nx → h n0 = some (.inl (0, 1, .inl g)) → g 0 = nI D →
    ∃ h' c d, f_X1_queue_27 (m + cnt + 2) (dE zs (n + 3)) (A 0) (nI k) n0 its (nI i) h nx = some ((tO (ordN (pw w) (nP w) (k - i) T)).1, h', c, d) ∧ SN A I (MR M n0 (n0 + 1)) w (tO (ordN (pw w) (nP w) (k - i) T)).2 h' (nx + c) ∧ (∀ q, q < n0 → q ≠ A 1 → q ≠ A 0 → h' q = h q) ∧ c ≤ 1 * (cnt + 1) ∧ d ≤ 2 * (cnt + 1) := by
  intro cnt
  induction cnt with
  | zero =>
    intro i m T D its h nx g hc hi hi2 hT hD hTD S hn hg hgD
    have Z := G.1
    have b1 := Z.gP.2
    have hne := S.1.ne
    have hne0 := X0.ne
    obtain ⟨h2, e2, S2, L2⟩ := y_pick (zs := zs) (n := n) X0 G hD hTD S hn hg hgD
    have hT0 : pk (pw w) (nP w) T = none := by
      cases hp : pk (pw w) (nP w) T with
      | none => rfl
      | some p => have := (pk_some (by omega) hT hp).2.2.2; omega
    have hO : ordN (pw w) (nP w) (k - i) T = none := (ordN_none (by omega) _ _ hT).mpr (by omega)
    have Sn := S.new (e := .inr (.inr (40, [.ref (A 0), .ref n0])))
    have f23 : gA (hu h nx (.inr (.inr (40, [.ref (A 0), .ref n0])))) (A 1) 1 23 = some (A 1 + 34) := by
      obtain ⟨⟨aH, eH, aP, eP, rN, rA, hm, hs, nh, np, tl, O, T, TI, ho, hM⟩, F, wk, rf, sc, la, oa, R, Q, L, K, s0, il, io, hOwn, hno⟩ := id Sn.1
      exact R.g23
    rw [f_X1_queue_27, if_neg (nI_nlt hi hk)]
    obtain ⟨aP, t3, t4, t5⟩ : ∃ aP, gA h (A 0) 0 1 = some aP ∧ isO h aP 11 = true ∧ f_J2_size (dE zs (n + 3)) h aP = some (nI (nP w)) := by
      obtain ⟨⟨aH, eH, aP, eP, rN, rA, hm, hs, nh, np, tl, O, T, TI, ho, hM⟩, F, wk, rf, sc, la, oa, R, Q, L, K, s0, il, io, hOwn, hno⟩ := id S.1
      exact ⟨_, O.g1, T.2.1.o, T.2.1.size⟩
    rw [t3, Option.bind_some, t4, gdT, t5, Option.bind_some, Sn.g2, Option.bind_some, f23, Option.bind_some, e2, Option.bind_some, hT0, hO]
    dsimp only
    obtain ⟨h3, e3, S3, q3⟩ := S2.no (dE zs (n + 3)) (nI 5)
    rw [if_neg (show ¬ (0 : Int32) ≤ eO none by decide), S2.i0, gdT, aC_id, Nat.add_zero, e3, aC_some, aC_some]
    refine ⟨h3, 1, 2, rfl, S3, fun q h1 h2 h4 => ?_, by omega, by omega⟩
    rw [q3.2 q (by omega) h2 h4, L2.2 q (by omega) h2]
  | succ cnt ih =>
    intro i m T D its h nx g hc hi hi2 hT hD hTD S hn hg hgD
    have Z := G.1
    have b1 := Z.gP.2
    have b2 := p2_le (N := nP w) (by omega)
    have hne := S.1.ne
    have hne0 := X0.ne
    obtain ⟨h2, e2, S2, L2⟩ := y_pick (zs := zs) (n := n) X0 G hD hTD S hn hg hgD
    have Sn := S.new (e := .inr (.inr (40, [.ref (A 0), .ref n0])))
    have f23 : gA (hu h nx (.inr (.inr (40, [.ref (A 0), .ref n0])))) (A 1) 1 23 = some (A 1 + 34) := by
      obtain ⟨⟨aH, eH, aP, eP, rN, rA, hm, hs, nh, np, tl, O, T, TI, ho, hM⟩, F, wk, rf, sc, la, oa, R, Q, L, K, s0, il, io, hOwn, hno⟩ := id Sn.1
      exact R.g23
    have h2g : h2 n0 = some (.inl (0, 1, .inl g)) := by rw [L2.2 n0 (by omega) (by omega)]; exact hg
    rw [show m + (cnt + 1) + 2 = (m + cnt + 2) + 1 by omega, f_X1_queue_27, if_neg (nI_nlt hi hk)]
    obtain ⟨aP, t3, t4, t5⟩ : ∃ aP, gA h (A 0) 0 1 = some aP ∧ isO h aP 11 = true ∧ f_J2_size (dE zs (n + 3)) h aP = some (nI (nP w)) := by
      obtain ⟨⟨aH, eH, aP, eP, rN, rA, hm, hs, nh, np, tl, O, T, TI, ho, hM⟩, F, wk, rf, sc, la, oa, R, Q, L, K, s0, il, io, hOwn, hno⟩ := id S.1
      exact ⟨_, O.g1, T.2.1.o, T.2.1.size⟩
    rw [t3, Option.bind_some, t4, gdT, t5, Option.bind_some, Sn.g2, Option.bind_some, f23, Option.bind_some, e2, Option.bind_some]
    dsimp only
    cases hp : pk (pw w) (nP w) T with
    | none => rw [(pk_none (by omega) hT).mp hp, pc_0] at hc; omega
    | some p =>
      have h4 := pk_some (by omega) hT hp
      have ha : aI h2 n0 0 0 = some (nI D) := by
        simp only [aI, arI, h2g, if_true, Option.bind_some]
        rw [show (0 : Int32) = nI 0 from rfl, gdn ⟨by decide, by decide⟩, nI_clamp (by decide), hgD]
      have hs : sI h2 n0 0 0 (nI (D ||| 2 ^ p)) = some (hu h2 n0 (.inl (0, 1, .inl (upd g 0 (nI (D ||| 2 ^ p)))))) := sI_at (i := 0) h2g (by decide) (by decide) _
      rw [if_pos (show (0 : Int32) ≤ eO (some p) from nI_pos' (by omega)), ha, Option.bind_some, show eO (some p) = nI p from rfl, or_n D (by omega) p (by omega), hs, Option.bind_some, nI_1, Nat.add_zero]
      have S4 : SN A I (MR M n0 (n0 + 1)) w 0 (hu h2 n0 (.inl (0, 1, .inl (upd g 0 (nI (D ||| 2 ^ p)))))) (nx + 1) := S2.wr X0 (fun q hq => hu_n (by omega))
      by_cases hik : i = k
      · subst hik
        rw [show m + cnt + 2 = (m + cnt + 1) + 1 by omega, f_X1_queue_27, if_pos (nI_lt (by omega) (by omega)), aC_some, aC_some, Nat.sub_self]
        show ∃ h' c d, _ = some ((tO (pk (pw w) (nP w) T)).1, h', c, d) ∧ SN A I (MR M n0 (n0 + 1)) w (tO (pk (pw w) (nP w) T)).2 h' (nx + c) ∧ _
        rw [hp]
        refine ⟨_, 1, 2, rfl, S4, fun q h1 h2 h4 => ?_, by omega, by omega⟩
        rw [hu_n (by omega), L2.2 q (by omega) h2]
      · obtain ⟨h5, c5, d5, e5, S5, q5, b5, b6⟩ := ih (i + 1) m (clr T p) (D ||| 2 ^ p) (nI p) _ (nx + 1) (upd g 0 (nI (D ||| 2 ^ p))) (by omega) (by omega) (by omega) h4.2.2.1 (or_lt hD (by omega)) (fun z hz => by
          rw [clr_tb (by omega), hTD z hz, or_tb]
          cases isIn_ w z <;> cases D.testBit z <;> simp) S4 (by omega) hu_s upd_s
        have hO : ordN (pw w) (nP w) (k - i) T = ordN (pw w) (nP w) (k - (i + 1)) (clr T p) := by
          rw [show k - i = (k - (i + 1)) + 1 by omega]
          show (match pk (pw w) (nP w) T with | none => none | some p => ordN (pw w) (nP w) (k - (i + 1)) (clr T p)) = _
          rw [hp]
        rw [e5, aC_some, aC_some, hO]
        refine ⟨h5, _, _, rfl, by rw [show nx + (1 + (0 + c5)) = nx + 1 + c5 by omega]; exact S5, fun q h1 h2 h4 => ?_, by omega, by omega⟩
        rw [q5 q h1 h2 h4, hu_n (by omega), L2.2 q (by omega) h2]
theorem y_queue (S : SN A I M w st h nx) (G : Gd w) : An A I M w h nx (f_X1_queue (dE zs (n + 3)) h nx (A 0) a) (an_queue w a) := by
  have Z := G.1
  unfold f_X1_queue an_queue f_X1_queue_10
  by_cases hb : a < 0
  · rw [if_neg (Int32.not_le.mpr hb), if_pos hb]
    exact An.cn S (by decide)
  rw [if_pos (Int32.not_lt.mp hb), if_neg hb]
  obtain ⟨k, hk, rfl⟩ := nI_of hb
  have b1 := Z.gP.2
  have hT := stN_lt (B := isIn_ w) (nP w)
  have hp := pc_le (stN (isIn_ w) (nP w))
  refine An.can0 S (fun h1 S1 q1 => ?_)
  simp only [Nat.add_zero, nI_clamp hk]
  obtain ⟨h2, c, d, e, S2, q2, c1, c2⟩ := y_queue27 (zs := zs) (n := n) (n0 := nx) (k := k) S1.1 G hk _ 0 (FU - pc (stN (isIn_ w) (nP w)) - 2) (stN (isIn_ w) (nP w)) 0 (-1) (hu h1 nx (.inl (0, 1, .inl (fun _ => 0)))) (nx + 1) (fun _ => 0) rfl (by omega) (by omega) hT (Nat.two_pow_pos _) (fun p hp => by rw [stN_tb, decide_eq_true hp]; simp) (S1.reg (fun q hq => hu_n (by omega)) (by omega)) (by omega) hu_s rfl
  rw [show FU - pc (stN (isIn_ w) (nP w)) - 2 + pc (stN (isIn_ w) (nP w)) + 2 = FU by unfold FU; omega] at e
  exact An.off (h2 := h2) (c := 1 + c) (d := 1 + d) (e := 1) S1 (by rw [← Nat.add_assoc]; exact S2) (fun q h1 h2 h3 => by rw [q2 q h1 h2 h3, hu_n (by omega)]) (congrArg (aC 1 1) e) (by omega) (by omega)
end PQC
