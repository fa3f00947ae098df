/-! THE COMPONENT's side: the object, its register, answers -/
/-- A: 0 the object, 1 its register, 2, 3 the lists' rows, 4, 5 their caps, 6 homes, 7 houses, 8 aside, 9 past, 10 kinds, 11 lines, 12 the tape, 13 the out; I: 0, 1 the fault, 2 how much is taped -/
def oE (A : Nat → Nat) (I : Nat → Int32) (st : Int32) : hE := .inr (.inl (0, oFs (A 6) (A 7) (A 1) (A 8) (A 9) st (I 0) (I 1) (A 10) (A 11) (A 12) (I 2) (A 13)))
def RA (A : Nat → Nat) (M : Nat → Prop) (w : Rw) (h : AH) (nx : Nat) : Prop := RX h nx M (A 0) (A 1) (A 2) (A 3) (A 4) (A 5) w
def SN (A : Nat → Nat) (I : Nat → Int32) (M : Nat → Prop) (w : Rw) (st : Int32) (h : AH) (nx : Nat) : Prop := RA A M w h nx ∧ h (A 0) = some (oE A I st)
def QS (A : Nat → Nat) (h : AH) (nx : Nat) (h' : AH) (nx' : Nat) : Prop := nx ≤ nx' ∧ ∀ q, q < nx → q ≠ A 1 → q ≠ A 0 → h' q = h q
/-- what is answered (value, status), the register's row as it was -/
def An (A : Nat → Nat) (I : Nat → Int32) (M : Nat → Prop) (w : Rw) (h : AH) (nx : Nat) (f : Option (Int32 × AH × Nat × Nat)) (a : Int32 × Int32) : Prop := ∃ h' c d, f = some (a.1, h', c, d) ∧ SN A I M w a.2 h' (nx + c) ∧ QS A h nx h' (nx + c) ∧ c ≤ 2000 ∧ d ≤ 8000
theorem rg_c {m : Nat} (hm : m < 2 ^ 31) {v : Int32} : (!decide (v < 0) && !decide (nI m < v)) = true ↔ ∃ x, x ≤ m ∧ v = nI x := by
  rw [Bool.and_eq_true, Bool.not_eq_true', Bool.not_eq_true', decide_eq_false_iff_not, decide_eq_false_iff_not]
  constructor
  · rintro ⟨h1, h2⟩
    obtain ⟨j, hj, rfl⟩ := nI_of h1
    exact ⟨j, Nat.not_lt.mp (fun z => h2 (nI_lt z hj)), rfl⟩
  · rintro ⟨x, hx, rfl⟩
    exact ⟨nI_pos (by omega), nI_nlt hx hm⟩
theorem rg_t {n : Nat} (hn : n < 2 ^ 31) {v : Int32} : (!decide (v < 0) && !decide (nI n - 1 < v)) = true ↔ ∃ x, x < n ∧ v = nI x := by
  cases n with
  | zero =>
    constructor
    · rw [Bool.and_eq_true, Bool.not_eq_true', Bool.not_eq_true', decide_eq_false_iff_not, decide_eq_false_iff_not]
      rintro ⟨h1, h2⟩
      obtain ⟨j, hj, rfl⟩ := nI_of h1
      exfalso
      apply h2
      rw [Int32.lt_iff_toInt_lt, nI_toInt hj, show (nI 0 - 1).toInt = -1 by decide]
      omega
    · rintro ⟨x, hx, -⟩; omega
  | succ n =>
    rw [nI_pred, rg_c (by omega)]
    constructor
    · rintro ⟨x, hx, rfl⟩; exact ⟨x, by omega, rfl⟩
    · rintro ⟨x, hx, rfl⟩; exact ⟨x, by omega, rfl⟩
/-- from one on -/
theorem rg_1 {m : Nat} (hm : m < 2 ^ 31) {v : Int32} : (!decide (v < 1) && !decide (nI m < v)) = true ↔ ∃ x, 1 ≤ x ∧ x ≤ m ∧ v = nI x := by
  rw [Bool.and_eq_true, Bool.not_eq_true', Bool.not_eq_true', decide_eq_false_iff_not, decide_eq_false_iff_not]
  constructor
  · rintro ⟨h1, h2⟩
    have h0 : ¬ v < 0 := fun z => h1 (Int32.lt_trans z (by decide))
    obtain ⟨j, hj, rfl⟩ := nI_of h0
    refine ⟨j, ?_, Nat.not_lt.mp (fun z => h2 (nI_lt z hj)), rfl⟩
    rcases Nat.eq_zero_or_pos j with z | z
    · subst z; exact absurd (show nI 0 < 1 by decide) h1
    · exact z
  · rintro ⟨x, hx1, hx, rfl⟩
    exact ⟨nI_nlt (b := 1) hx1 (by omega), nI_nlt hx hm⟩
theorem lg_c (a lo hi : Int32) {l2 h2 : Int64} (e1 : lo.toInt64 = l2) (e2 : hi.toInt64 = h2) : f_X1_isIn a.toInt64 l2 h2 = some (bI (!decide (a < lo) && !decide (hi < a))) := by
  subst e1 e2; exact lg_isIn _ _ _
def isHm (w : Rw) (v : Int32) : Bool := !decide (v < 0) && !decide (w 230 - 1 < v)
def isHs (w : Rw) (v : Int32) : Bool := !decide (v < 0) && !decide (w 231 - 1 < v)
def tO (x : Option Nat) : Int32 × Int32 := match x with
  | none => (-1, nI 5)
  | some p => (nI p, 0)
section PSN
variable {A : Nat → Nat} {I : Nat → Int32} {M : Nat → Prop} {w : Rw} {st : Int32} {h h1 h2 h' : AH} {nx nx' n1 n2 : Nat} {E : bE} {v a b : Int32} {p x y N : Nat} {f : Option (Int32 × AH × Nat × Nat)}
theorem hm_t (Z : Rng w) : isHm w v = true ↔ ∃ x, x < nH w ∧ v = nI x := by
  unfold isHm; rw [Z.gH.1]; exact rg_t (by have := Z.gH.2; omega)
theorem hs_t (Z : Rng w) : isHs w v = true ↔ ∃ x, x < nP w ∧ v = nI x := by
  unfold isHs; rw [Z.gP.1]; exact rg_t (by have := Z.gP.2; omega)
theorem m_isHome : f_X3_isHome w v = some (bI (isHm w v)) := by simp only [f_X3_isHome, m_isFrom, Option.bind_some]; rfl
theorem m_isHouse : f_X3_isHouse w v = some (bI (isHs w v)) := by simp only [f_X3_isHouse, m_isFrom, Option.bind_some]; rfl
theorem m_areOnes : f_X3_areOnes w a b = some (bI (isHs w a && isHm w b)) := by
  simp only [f_X3_areOnes, m_isHome, m_isHouse, Option.bind_some, bI_0]
  cases isHs w a <;> cases isHm w b <;> rfl
theorem RX.obj {o r eL eO_ cL cO : Nat} {aH aP rN rA aQ kn ln tp ou rN' rA' aQ' kn' ln' tp' ou' : Nat} {st fk fa td st' fk' fa' td' : Int32} (X : RX h nx M o r eL eO_ cL cO w) (hO : h o = some (.inr (.inl (0, oFs aH aP rN rA aQ st fk fa kn ln tp td ou)))) : RX (hu h o (.inr (.inl (0, oFs aH aP rN' rA' aQ' st' fk' fa' kn' ln' tp' td' ou')))) nx M o r eL eO_ cL cO w := by
  obtain ⟨⟨aH1, eH, aP1, eP, rN1, rA1, hm, hs, nh, np, tl, O, T, TI, ho, hM⟩, F, wk, rf, sc, la, oa, R, Q, L, K, s0, il, io, hOwn, hno⟩ := X
  have e0 : gA h o 0 0 = some aH := by simp [gA, rd, hO, oFs, vR]
  have e1 : gA h o 0 1 = some aP := by simp [gA, rd, hO, oFs, vR]
  have z0 := Option.some.inj (O.g0.symm.trans e0)
  have z1 := Option.some.inj (O.g1.symm.trans e1)
  subst z0 z1
  have hk : ∀ q, ¬ M q → hu h o (.inr (.inl (0, oFs aH1 aP1 rN' rA' aQ' st' fk' fa' kn' ln' tp' td' ou'))) q = h q := fun q hq => hu_n (fun e => hq (e ▸ hM.1))
  exact ⟨⟨aH1, eH, aP1, eP, rN', rA', hm, hs, nh, np, tl, ⟨aQ', st', fk', fa', kn', ln', tp', td', ou', hu_s⟩, T.kept TI (fun q hq => hk q hq.2), TI, ho, hM⟩, F, wk, rf, sc, la, oa, R.kept (fun q hq => hu_n (fun e => hno (e ▸ hq))), Q, L.kept (fun i hi => hk _ (il i hi).2), K.kept (fun i hi => hk _ (io i hi).2), s0, il, io, hOwn, hno⟩
theorem RA.ne (X : RA A M w h nx) : A 0 ≠ A 1 ∧ A 0 < nx ∧ A 1 < nx ∧ A 1 + 40 < nx := by
  obtain ⟨⟨aH, eH, aP, eP, rN, rA, hm, hs, nh, np, tl, O, T, TI, ho, hM⟩, F, wk, rf, sc, la, oa, R, Q, L, K, s0, il, io, hOwn, hno⟩ := id X
  exact ⟨fun e => hno (e ▸ Or.inl ⟨by omega, by omega⟩), ho, (hOwn _ (Or.inl ⟨by omega, by omega⟩)).2, (hOwn _ (Or.inl ⟨by omega, by omega⟩)).2⟩
theorem SN.g0 (S : SN A I M w st h nx) : gA h (A 0) 0 0 = some (A 6) := by simp [gA, rd, S.2, oE, oFs, vR]
theorem SN.g1 (S : SN A I M w st h nx) : gA h (A 0) 0 1 = some (A 7) := by simp [gA, rd, S.2, oE, oFs, vR]
theorem SN.g2 (S : SN A I M w st h nx) : gA h (A 0) 0 2 = some (A 1) := by simp [gA, rd, S.2, oE, oFs, vR]
theorem SN.g3 (S : SN A I M w st h nx) : gA h (A 0) 0 3 = some (A 8) := by simp [gA, rd, S.2, oE, oFs, vR]
theorem SN.g4 (S : SN A I M w st h nx) : gA h (A 0) 0 4 = some (A 9) := by simp [gA, rd, S.2, oE, oFs, vR]
theorem SN.g5 (S : SN A I M w st h nx) : gI h (A 0) 0 5 = some st := by simp [gI, rd, S.2, oE, oFs, vI]
theorem SN.g6 (S : SN A I M w st h nx) : gI h (A 0) 0 6 = some (I 0) := by simp [gI, rd, S.2, oE, oFs, vI]
theorem SN.g7 (S : SN A I M w st h nx) : gI h (A 0) 0 7 = some (I 1) := by simp [gI, rd, S.2, oE, oFs, vI]
theorem SN.g8 (S : SN A I M w st h nx) : gA h (A 0) 0 8 = some (A 10) := by simp [gA, rd, S.2, oE, oFs, vR]
theorem SN.g9 (S : SN A I M w st h nx) : gA h (A 0) 0 9 = some (A 11) := by simp [gA, rd, S.2, oE, oFs, vR]
theorem SN.g10 (S : SN A I M w st h nx) : gA h (A 0) 0 10 = some (A 12) := by simp [gA, rd, S.2, oE, oFs, vR]
theorem SN.g11 (S : SN A I M w st h nx) : gI h (A 0) 0 11 = some (I 2) := by simp [gI, rd, S.2, oE, oFs, vI]
theorem SN.g12 (S : SN A I M w st h nx) : gA h (A 0) 0 12 = some (A 13) := by simp [gA, rd, S.2, oE, oFs, vR]
theorem SN.i0 (S : SN A I M w st h nx) : isO h (A 0) 0 = true := by simp [isO, S.2, oE]
theorem QS.rfl' : QS A h nx h nx := ⟨Nat.le_refl _, fun _ _ _ _ => rfl⟩
theorem QS.trans (a : QS A h nx h1 n1) (b : QS A h1 n1 h2 n2) : QS A h nx h2 n2 := ⟨Nat.le_trans a.1 b.1, fun q hq h0 h1 => (b.2 q (Nat.lt_of_lt_of_le hq a.1) h0 h1).trans (a.2 q hq h0 h1)⟩
theorem Lt.qs (L : Lt (A 1) h nx h1 n1) : QS A h nx h1 n1 := ⟨L.1, fun q hq h0 _ => L.2 q hq h0⟩
theorem SN.lt (S : SN A I M w st h nx) (X : RA A M w h1 n1) (L : Lt (A 1) h nx h1 n1) : SN A I M w st h1 n1 := ⟨X, by rw [L.2 _ S.1.ne.2.1 S.1.ne.1]; exact S.2⟩
theorem RA.new (X : RA A M w h nx) {e : hE} : RA A M w (hu h nx e) (nx + 1) := RX.grow X (by omega) (fun q hq => hu_n (by omega))
theorem SN.new (S : SN A I M w st h nx) {e : hE} : SN A I M w st (hu h nx e) (nx + 1) := S.lt S.1.new Lt.new
theorem SN.set (S : SN A I M w st h nx) (v : Int32) : SN A I M w v (hu h (A 0) (oE A I v)) nx ∧ QS A h nx (hu h (A 0) (oE A I v)) nx :=
  ⟨⟨S.1.obj S.2, hu_s⟩, Nat.le_refl _, fun q _ _ h0 => hu_n h0⟩
theorem SN.w5 (S : SN A I M w st h nx) (v : Int32) : wr h (A 0) 0 5 (.int v) = some (hu h (A 0) (oE A I v)) := wr_at S.2 (by show 5 < 13; decide)
theorem SN.can (S : SN A I M w st h nx) (E : bE) (v : Int32) : ∃ h1, f_X1_can E h nx (A 0) v = some (bI (decide (v = 0)), h1, 0, 0) ∧ SN A I M w v h1 nx ∧ QS A h nx h1 nx := by
  refine ⟨_, ?_, S.set v⟩
  unfold f_X1_can
  rw [S.w5, Option.bind_some]
  by_cases hv : v = 0
  · rw [if_pos hv, decide_eq_true hv]; rfl
  · rw [if_neg hv, decide_eq_false hv]; rfl
theorem SN.no (S : SN A I M w st h nx) (E : bE) (v : Int32) : ∃ h1, f_X1_none E h nx (A 0) v = some (-1, h1, 0, 0) ∧ SN A I M w v h1 nx ∧ QS A h nx h1 nx := by
  refine ⟨_, ?_, S.set v⟩
  unfold f_X1_none
  rw [S.w5, Option.bind_some]
theorem SN.told (S : SN A I M w 0 h nx) (E : bE) {o : Option Nat} (ho : ∀ z, o = some z → z < 2 ^ 31) : ∃ h1, f_X1_toldOr E h nx (A 0) (eO o) = some ((tO o).1, h1, 0, 0) ∧ SN A I M w (tO o).2 h1 nx ∧ QS A h nx h1 nx := by
  cases o with
  | none =>
    obtain ⟨h1, e1, S1, q1⟩ := S.no E (nI 5)
    refine ⟨h1, ?_, S1, q1⟩
    unfold f_X1_toldOr
    rw [if_neg (show ¬ (0 : Int32) ≤ eO none by decide), S.i0, gdT, e1, Option.bind_some]
    rfl
  | some p =>
    refine ⟨h, ?_, S, QS.rfl'⟩
    unfold f_X1_toldOr
    rw [if_pos (show (0 : Int32) ≤ eO (some p) from nI_pos' (ho p rfl))]
    rfl
theorem An.at (S1 : SN A I M w v h1 nx) (q1 : QS A h nx h1 nx) (e : f = some (a, h1, 0, 0)) : An A I M w h nx f (a, v) := ⟨h1, 0, 0, e, S1, q1, by omega, by omega⟩
theorem An.lt {c d : Nat} (S1 : SN A I M w v h1 nx) (q1 : QS A h nx h1 nx) (X : RA A M w h2 (nx + c)) (L : Lt (A 1) h1 nx h2 (nx + c)) (e : f = some (a, h2, c, d)) (hc : c ≤ 2000) (hd : d ≤ 8000) : An A I M w h nx f (a, v) := ⟨h2, c, d, e, S1.lt X L, q1.trans L.qs, hc, hd⟩
theorem c_isHome (S : SN A I M w st h nx) (Z : Rng w) : f_X1_isHome E h (A 0) v = some (bI (isHm w v)) := by
  obtain ⟨⟨aH, eH, aP, eP, rN, rA, hm, hs, nh, np, tl, O, T, TI, ho, hM⟩, F, wk, rf, sc, la, oa, R, Q, L, K, s0, il, io, hOwn, hno⟩ := id S.1
  simp only [f_X1_isHome, O.g0, Option.bind_some, T.1.o, gdT, T.1.size]
  rw [← Z.gH.1, lg_c v 0 (w 230 - 1) (by decide) rfl]
  rfl
theorem c_isHouse (S : SN A I M w st h nx) (Z : Rng w) : f_X1_isHouse E h (A 0) v = some (bI (isHs w v)) := by
  obtain ⟨⟨aH, eH, aP, eP, rN, rA, hm, hs, nh, np, tl, O, T, TI, ho, hM⟩, F, wk, rf, sc, la, oa, R, Q, L, K, s0, il, io, hOwn, hno⟩ := id S.1
  simp only [f_X1_isHouse, O.g1, Option.bind_some, T.2.1.o, gdT, T.2.1.size]
  rw [← Z.gP.1, lg_c v 0 (w 231 - 1) (by decide) rfl]
  rfl
theorem c_whyBoth (S : SN A I M w st h nx) (Z : Rng w) : f_X1_whyBoth E h (A 0) a b = some (if (isHs w a && isHm w b) = true then 0 else nI 2) := by
  simp only [f_X1_whyBoth, S.i0, gdT, c_isHouse S Z, c_isHome S Z, Option.bind_some, bI_0]
  cases isHs w a <;> cases isHm w b <;> rfl
/-- counts over a new function that reads -/
theorem y_countR {B : Nat → Bool} {e : hE} (X : RA A M w h nx) (hN : N ≤ 1000) (hl : ∀ h' nx' j, j < N → RA A M w h' nx' → Lt (A 1) (hu h nx e) (nx + 1) h' nx' → ∃ h'', E.2.1 h' nx' nx (nI j) = some (bI (B j), h'', 0, 0) ∧ RA A M w h'' nx' ∧ ∀ q, q ≠ A 1 → h'' q = h' q) : ∃ h2, f_X1_count E (hu h nx e) (nx + 1) (nI N) nx = some (nI (cnN B N), h2, 0, 0) ∧ RA A M w h2 (nx + 1) ∧ Lt (A 1) h nx h2 (nx + 1) := by
  obtain ⟨h2, c, d, e1, ⟨p1, p2⟩, b1, b2⟩ := x_count (E := E) (q := nx) (P := fun h' nx' => RA A M w h' nx' ∧ Lt (A 1) (hu h nx e) (nx + 1) h' nx') (bc := 0) (bs := 0) (B := B) hN (fun h' nx' k hk hP => by
    obtain ⟨h'', g1, g2, g3⟩ := hl h' nx' k hk hP.1 hP.2
    exact ⟨h'', 0, 0, g1, ⟨g2, hP.2.trans (Lt.one g3)⟩, by omega, by omega⟩) (h := hu h nx e) (nx := nx + 1) ⟨X.new, Lt.rfl'⟩
  have hc : c = 0 := by omega
  have hd : d = 0 := by omega
  subst hc hd
  exact ⟨h2, e1, p1, Lt.new.trans p2⟩
theorem y_count {B : Nat → Bool} {e : hE} (S : SN A I M w st h nx) (hN : N ≤ 1000) (hl : ∀ h' nx' j, j < N → SN A I M w st h' nx' → h' nx = some e → ∃ h'', E.2.1 h' nx' nx (nI j) = some (bI (B j), h'', 0, 0) ∧ RA A M w h'' nx' ∧ ∀ q, q ≠ A 1 → h'' q = h' q) : ∃ h2, f_X1_count E (hu h nx e) (nx + 1) (nI N) nx = some (nI (cnN B N), h2, 0, 0) ∧ SN A I M w st h2 (nx + 1) ∧ Lt (A 1) h nx h2 (nx + 1) := by
  have hne := S.1.ne
  obtain ⟨h2, e1, X2, L2⟩ := y_countR S.1 hN (fun h' nx' j hj X' L' => hl h' nx' j hj (S.new.lt X' L') (by rw [L'.2 nx (by omega) (by omega)]; exact hu_s))
  exact ⟨h2, e1, S.lt X2 L2, L2⟩
theorem y_sumR {g : Nat → Int32} {e : hE} (X : RA A M w h nx) (hN : N ≤ 1000) (hl : ∀ h' nx' j, j < N → RA A M w h' nx' → Lt (A 1) (hu h nx e) (nx + 1) h' nx' → ∃ h'', E.2.2.2 h' nx' nx (nI j) = some (g j, h'', 0, 0) ∧ RA A M w h'' nx' ∧ ∀ q, q ≠ A 1 → h'' q = h' q) : ∃ h2, f_X1_sum E (hu h nx e) (nx + 1) (nI N) nx = some (sm32 g N, h2, 0, 0) ∧ RA A M w h2 (nx + 1) ∧ Lt (A 1) h nx h2 (nx + 1) := by
  obtain ⟨h2, c, d, e1, ⟨p1, p2⟩, b1, b2⟩ := x_sum (E := E) (q := nx) (P := fun h' nx' => RA A M w h' nx' ∧ Lt (A 1) (hu h nx e) (nx + 1) h' nx') (bc := 0) (bs := 0) (f := g) hN (fun h' nx' k hk hP => by
    obtain ⟨h'', g1, g2, g3⟩ := hl h' nx' k hk hP.1 hP.2
    exact ⟨h'', 0, 0, g1, ⟨g2, hP.2.trans (Lt.one g3)⟩, by omega, by omega⟩) (h := hu h nx e) (nx := nx + 1) ⟨X.new, Lt.rfl'⟩
  have hc : c = 0 := by omega
  have hd : d = 0 := by omega
  subst hc hd
  exact ⟨h2, e1, p1, Lt.new.trans p2⟩
theorem y_sum {g : Nat → Int32} {e : hE} (S : SN A I M w st h nx) (hN : N ≤ 1000) (hl : ∀ h' nx' j, j < N → SN A I M w st h' nx' → h' nx = some e → ∃ h'', E.2.2.2 h' nx' nx (nI j) = some (g j, h'', 0, 0) ∧ RA A M w h'' nx' ∧ ∀ q, q ≠ A 1 → h'' q = h' q) : ∃ h2, f_X1_sum E (hu h nx e) (nx + 1) (nI N) nx = some (sm32 g N, h2, 0, 0) ∧ SN A I M w st h2 (nx + 1) ∧ Lt (A 1) h nx h2 (nx + 1) := by
  have hne := S.1.ne
  obtain ⟨h2, e1, X2, L2⟩ := y_sumR S.1 hN (fun h' nx' j hj X' L' => hl h' nx' j hj (S.new.lt X' L') (by rw [L'.2 nx (by omega) (by omega)]; exact hu_s))
  exact ⟨h2, e1, S.lt X2 L2, L2⟩
theorem y_greatR {g : Nat → Int32} {e : hE} (X : RA A M w h nx) (hN : N ≤ 1000) (hl : ∀ h' nx' j, j < N → RA A M w h' nx' → Lt (A 1) (hu h nx e) (nx + 1) h' nx' → ∃ h'', E.2.2.2 h' nx' nx (nI j) = some (g j, h'', 0, 0) ∧ RA A M w h'' nx' ∧ ∀ q, q ≠ A 1 → h'' q = h' q) : ∃ h2, f_X1_greatest E (hu h nx e) (nx + 1) (nI N) nx = some (gr32 g N, h2, 0, 0) ∧ RA A M w h2 (nx + 1) ∧ Lt (A 1) h nx h2 (nx + 1) := by
  obtain ⟨h2, c, d, e1, ⟨p1, p2⟩, b1, b2⟩ := x_great (E := E) (q := nx) (P := fun h' nx' => RA A M w h' nx' ∧ Lt (A 1) (hu h nx e) (nx + 1) h' nx') (bc := 0) (bs := 0) (f := g) hN (fun h' nx' k hk hP => by
    obtain ⟨h'', g1, g2, g3⟩ := hl h' nx' k hk hP.1 hP.2
    exact ⟨h'', 0, 0, g1, ⟨g2, hP.2.trans (Lt.one g3)⟩, by omega, by omega⟩) (h := hu h nx e) (nx := nx + 1) ⟨X.new, Lt.rfl'⟩
  have hc : c = 0 := by omega
  have hd : d = 0 := by omega
  subst hc hd
  exact ⟨h2, e1, p1, Lt.new.trans p2⟩
theorem y_great {g : Nat → Int32} {e : hE} (S : SN A I M w st h nx) (hN : N ≤ 1000) (hl : ∀ h' nx' j, j < N → SN A I M w st h' nx' → h' nx = some e → ∃ h'', E.2.2.2 h' nx' nx (nI j) = some (g j, h'', 0, 0) ∧ RA A M w h'' nx' ∧ ∀ q, q ≠ A 1 → h'' q = h' q) : ∃ h2, f_X1_greatest E (hu h nx e) (nx + 1) (nI N) nx = some (gr32 g N, h2, 0, 0) ∧ SN A I M w st h2 (nx + 1) ∧ Lt (A 1) h nx h2 (nx + 1) := by
  have hne := S.1.ne
  obtain ⟨h2, e1, X2, L2⟩ := y_greatR S.1 hN (fun h' nx' j hj X' L' => hl h' nx' j hj (S.new.lt X' L') (by rw [L'.2 nx (by omega) (by omega)]; exact hu_s))
  exact ⟨h2, e1, S.lt X2 L2, L2⟩
end PSN
