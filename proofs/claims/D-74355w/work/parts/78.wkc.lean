/-! weeks, when: the component's side; iterators -/
def iE (i : Nat) (lr m : Int32) (a : Nat) : hE := .inr (.inl (14, [.int (nI i), .int lr, .int m, .ref a]))
section PIT
variable {h h1 : AH} {E : bE} {a e q n cap i nx : Nat} {m lr : Int32} {f : Nat → Nat}
/-- a list with an iterator over it -/
def ItH (h : AH) (q a e n : Nat) (f : Nat → Nat) (i : Nat) : Prop := ∃ (m lr : Int32) (cap : Nat) (g : Nat → Option Nat), h a = some (lO m e n) ∧ h e = some (rO cap g) ∧ n ≤ cap ∧ cap < 100 ∧ (∀ j, j < n → g j = some (f j)) ∧ h q = some (iE i lr m a)
theorem it_mk (L : LstC h a e n f cap) (ha : a < nx) (he : e < nx) : ∃ h', f_J2_iterator E h nx a = some (nx, h', 1, 4) ∧ ItH h' nx a e n f 0 ∧ ∀ q, q < nx → h' q = h q := by
  obtain ⟨m, g, q1, q2, q3, q4, q5, q6⟩ := L
  have q1 : h a = some (lO m e n) := q1
  have q2 : h e = some (rO cap g) := q2
  have w1 : wr (hu h nx (.inr (.inl (14, df_J16)))) nx 14 3 (.ref a) = some (hu h nx (.inr (.inl (14, [.int 0, .int 0, .int 0, .ref a])))) := by
    rw [wr_at hu_s (by show 3 < 4; decide), hu_hu]; rfl
  have w2 : wr (hu h nx (.inr (.inl (14, [.int 0, .int 0, .int 0, .ref a])))) nx 14 1 (.int (-1)) = some (hu h nx (.inr (.inl (14, [.int 0, .int (-1), .int 0, .ref a])))) := by
    rw [wr_at hu_s (by show 1 < 4; decide), hu_hu]; rfl
  have g3 : gA (hu h nx (.inr (.inl (14, [.int 0, .int (-1), .int 0, .ref a])))) nx 14 3 = some a := by simp [gA, rd, hu_s, vR]
  have g0 : gI (hu h nx (.inr (.inl (14, [.int 0, .int (-1), .int 0, .ref a])))) a 11 0 = some m := l_g0 ((hu_n (by omega)).trans q1)
  have w4 : wr (hu h nx (.inr (.inl (14, [.int 0, .int (-1), .int 0, .ref a])))) nx 14 2 (.int m) = some (hu h nx (iE 0 (-1) m a)) := by
    rw [wr_at hu_s (by show 2 < 4; decide), hu_hu]; rfl
  refine ⟨hu h nx (iE 0 (-1) m a), ?_, ⟨m, -1, cap, g, (hu_n (by omega)).trans q1, (hu_n (by omega)).trans q2, q3, q5, q6.1, hu_s⟩, fun z hz => hu_n (by omega)⟩
  simp only [f_J2_iterator, f_J16_init]
  rw [w1, Option.bind_some, w2, Option.bind_some, g3, Option.bind_some, g0, Option.bind_some, w4, Option.bind_some]
  simp [aC]
theorem ItH.o (T : ItH h q a e n f i) : isO h q 14 = true := by
  obtain ⟨m, lr, cap, g, q1, q2, q3, q4, q5, q6⟩ := T
  simp [isO, q6, iE]
theorem it_has (T : ItH h q a e n f i) (hi : i ≤ n) : f_J16_hasNext E h q = some (bI (!decide (i = n))) := by
  obtain ⟨m, lr, cap, g, q1, q2, q3, q4, q5, q6⟩ := T
  have c0 : gI h q 14 0 = some (nI i) := by simp [gI, rd, q6, iE, vI]
  have c3 : gA h q 14 3 = some a := by simp [gA, rd, q6, iE, vR]
  simp only [f_J16_hasNext, c0, c3, Option.bind_some, l_g2 q1]
  by_cases hin : i = n
  · rw [if_pos (by rw [hin]), decide_eq_true hin]; rfl
  · rw [if_neg (fun z => hin ((nI_eq (by omega) (by omega)).mp z)), decide_eq_false hin]; rfl
theorem it_next (T : ItH h q a e n f i) (hi : i < n) (hqa : q ≠ a) (hqe : q ≠ e) : ∃ h', f_J16_next E h nx q = some (f i, h', 0, 0) ∧ ItH h' q a e n f (i + 1) ∧ ∀ z, z ≠ q → h' z = h z := by
  obtain ⟨m, lr, cap, g, q1, q2, q3, q4, q5, q6⟩ := T
  have c0 : gI h q 14 0 = some (nI i) := by simp [gI, rd, q6, iE, vI]
  have c2 : gI h q 14 2 = some m := by simp [gI, rd, q6, iE, vI]
  have c3 : gA h q 14 3 = some a := by simp [gA, rd, q6, iE, vR]
  have o1 : isO h q 14 = true := by simp [isO, q6, iE]
  have w1 : wr h q 14 0 (.int (nI (i + 1))) = some (hu h q (iE (i + 1) lr m a)) := by
    have hq : h q = some (.inr (.inl (14, [.int (nI i), .int lr, .int m, .ref a]))) := q6
    rw [wr_at hq (by show 0 < 4; decide)]; rfl
  have w2 : wr (hu h q (iE (i + 1) lr m a)) q 14 1 (.int (nI i)) = some (hu h q (iE (i + 1) (nI i) m a)) := by
    have hq : hu h q (iE (i + 1) lr m a) q = some (.inr (.inl (14, [.int (nI (i + 1)), .int lr, .int m, .ref a]))) := hu_s
    rw [wr_at hq (by show 1 < 4; decide), hu_hu]; rfl
  have e2 : hu h q (iE (i + 1) (nI i) m a) e = some (rO cap g) := (hu_n (Ne.symm hqe)).trans q2
  have ar : aR (hu h q (iE (i + 1) (nI i) m a)) e 4 (nI i) = some (f i) := by
    simp only [aR, arR, e2, rO, if_true, Option.bind_some]
    rw [gdn ⟨by omega, by omega⟩, nI_clamp (by omega)]
    exact q5 i hi
  refine ⟨hu h q (iE (i + 1) (nI i) m a), ?_, ⟨m, nI i, cap, g, (hu_n (Ne.symm hqa)).trans q1, e2, q3, q4, q5, hu_s⟩, fun z hz => hu_n hz⟩
  have hcc : f_J16_checkForComodification E h q = some () := by
    unfold f_J16_checkForComodification
    rw [c3, Option.bind_some, l_g0 q1, Option.bind_some, c2, Option.bind_some, if_pos rfl]
  have l1 : nI i < nI n := nI_lt hi (by omega)
  have l2 : nI i < nI cap := nI_lt (by omega) (by omega)
  unfold f_J16_next
  rw [o1, gdT, hcc, Option.bind_some, c0, Option.bind_some, c3, Option.bind_some, l_g2 q1, Option.bind_some, if_pos l1, Option.bind_some, l_g1 q1, Option.bind_some, r_l q2, Option.bind_some, if_pos l2, nI_1, w1, Option.bind_some, w2, Option.bind_some, ar, Option.bind_some]
end PIT
section PWC2
variable {A : Nat → Nat} {I : Nat → Int32} {M M' M1 : Nat → Prop} {w W : Rw} {st : Int32} {h h0 h1 h2 h' : AH} {nx nx' n0 n1 n2 : Nat} {E : bE} {v a b c u : Int32} {p x y N k q d K eL eO_ cL cO eL' eO' cL' cO' : Nat} {f : Option (Int32 × AH × Nat × Nat)} {zs : Nat → Nat} {n : Nat}
theorem y_weeks (S : SN A I M w st h nx) (G : Gd w) (Y : RS h nx M (A 0) (A 8) eL eO_ cL cO) (hc : cL < 60) (hc2 : cO < 60) (P : AP A eL eO_) (hw : wN w 232 + 30 ≤ 999) : AX A I M w eL eO_ h nx (f_X1_weeks (dE zs (n + 5)) h nx (A 0) a b) (an_weeks w a b) := by
  have Z := G.1
  rw [f_X1_weeks, lg_r a 0 (nI 30) (by decide) (by decide), Option.bind_some, lg_r b 0 (nI 5) (by decide) (by decide), Option.bind_some]
  unfold an_weeks f_X1_weeks_30
  cases hv : ir a 0 (nI 30)
  · rw [if_pos (show bI false = 0 from rfl), if_pos (show (false && ir b 0 (nI 5)) = false from rfl)]
    exact An.ax (An.cn S (by decide)) Y hc hc2 P
  rw [if_neg (show ¬ bI true = 0 by decide)]
  cases hv2 : ir b 0 (nI 5)
  · rw [if_pos (show bI false = 0 from rfl), if_pos (show (true && false) = false from rfl)]
    exact An.ax (An.cn S (by decide)) Y hc hc2 P
  rw [if_neg (show ¬ bI true = 0 by decide), if_neg (show ¬ (true && true) = false by decide)]
  obtain ⟨K, hK, rfl⟩ := (rg_c (by decide)).mp hv
  obtain ⟨k, hk, rfl⟩ := (rg_c (by decide)).mp hv2
  rw [nI_clamp (by omega)]
  obtain ⟨GW, KW, -⟩ := omN_ok G K (by omega)
  refine AX.can0 S Y P (fun h1 S1 q1 Y1 => ?_)
  simp only [Nat.add_zero]
  obtain ⟨h2, M2, eL2, eO2, cL2, cO2, c2, d2, e2, B2, l2, l2'⟩ := y_aside (E := dE zs (n + 5)) S1 G Y1 hc hc2 P
  obtain ⟨h3, M3, eL3, eO3, cL3, cO3, c3, d3, e3, B3, l3, l3'⟩ := y_asideGoes (zs := zs) (n := n) B2 G (K := K) (by omega) (by omega)
  have o8 : isO h1 (A 8) 1 = true := by
    obtain ⟨F, wk, rf, sc, nl, la, no, oa, R, -⟩ := Y1
    exact R.o1
  have o82 : isO h2 (A 8) 1 = true := by
    obtain ⟨F, wk, rf, sc, nl, la, no, oa, R, -⟩ := B2.2.1.rs
    exact R.o1
  have S3 := B3.1
  have X3 := B3.2.1
  rw [S1.g3, Option.bind_some, S1.g2, Option.bind_some, o8, gdT, e2, Option.bind_some]
  dsimp only
  rw [B2.1.g3, Option.bind_some, o82, gdT, e3, Option.bind_some]
  dsimp only
  have hx' : k = 0 ∨ k = 1 ∨ k = 2 ∨ k = 3 ∨ k = 4 ∨ k = 5 := by omega
  rcases hx' with rfl | rfl | rfl | rfl | rfl | rfl
  · simp (decide := true) only [if_true, if_false]
    obtain ⟨F, wk, rf, sc, la, oa, R3, -⟩ := X3.2
    have S30 := S3
    obtain ⟨⟨aH, eH, aP, eP, rN, rA, hm, hs, nh, np, tl, O, T, TI, ho, hM⟩, F, wk, rf, sc, la, oa, R, Q, L, K, s0, il, io, hOwn, hno⟩ := id S3.1
    rw [S30.g3, Option.bind_some, R3.g15, Option.bind_some, R3.2.2.1.o, gdT, R3.2.2.1.size, Option.bind_some, S30.g2, Option.bind_some, R.g15, Option.bind_some, R.2.2.1.o, gdT, R.2.2.1.size, Option.bind_some, aC_some, aC_some, ← GW.1.gL.1, ← Z.gL.1]
    exact AW.out (k := c2 + (c3 + 0)) (by rw [← Nat.add_assoc]; exact B3) rfl (by omega) (by omega)
  · simp (decide := true) only [if_true, if_false]
    obtain ⟨F, wk, rf, sc, la, oa, R3, Q3, -⟩ := X3.2
    have S30 := S3
    obtain ⟨⟨aH, eH, aP, eP, rN, rA, hm, hs, nh, np, tl, O, T, TI, ho, hM⟩, F, wk, rf, sc, la, oa, R, Q, L, K, s0, il, io, hOwn, hno⟩ := id S3.1
    rw [S30.g3, Option.bind_some, R3.g18, Option.bind_some, S30.g2, Option.bind_some, R.g18, Option.bind_some, aC_some, aC_some, Q3.2.2.2.2.2.2, Q.2.2.2.2.2.2]
    exact AW.out (k := c2 + (c3 + 0)) (by rw [← Nat.add_assoc]; exact B3) rfl (by omega) (by omega)
  · simp (decide := true) only [if_true, if_false]
    obtain ⟨h4, e4, X4, L4⟩ := y_freeHomes (zs := zs) (n := n + 4) B3.ra GW
    have e4' : f_X1_freeHomes (dE zs (n + 5)) h3 (nx + c2 + c3) (A 0) (A 8) = some (nI (cnN (isFr (omN K w)) (nH (omN K w))), h4, 1, 1) := e4
    rw [S3.g3, Option.bind_some, S3.i0, gdT, aC_id, e4', aC_some, aC_some, KW.eH]
    exact AW.out (k := c2 + (c3 + 1)) (by rw [← Nat.add_assoc, ← Nat.add_assoc]; exact B3.lt X4 L4) rfl (by omega) (by omega)
  · simp (decide := true) only [if_true, if_false]
    obtain ⟨h4, e4, X4, L4⟩ := y_inQueue (zs := zs) (n := n + 4) B3.ra GW
    have e4' : f_X1_inQueue (dE zs (n + 5)) h3 (nx + c2 + c3) (A 0) (A 8) = some (nI (cnN (isIn_ (omN K w)) (nP (omN K w))), h4, 1, 1) := e4
    rw [S3.g3, Option.bind_some, S3.i0, gdT, aC_id, e4', aC_some, aC_some, KW.eP]
    exact AW.out (k := c2 + (c3 + 1)) (by rw [← Nat.add_assoc, ← Nat.add_assoc]; exact B3.lt X4 L4) rfl (by omega) (by omega)
  · simp (decide := true) only [if_true, if_false]
    obtain ⟨h4, e4, X4, L4⟩ := y_chain (zs := zs) (n := n + 4) B3.ra GW
    have e4' : f_X1_greatestChain (dE zs (n + 5)) h3 (nx + c2 + c3) (A 0) (A 8) = some (gr32 (fun i => lF (omN K w) i 3) (nL (omN K w)), h4, 1, 1) := e4
    rw [S3.g3, Option.bind_some, S3.i0, gdT, aC_id, e4', aC_some, aC_some]
    exact AW.out (k := c2 + (c3 + 1)) (by rw [← Nat.add_assoc, ← Nat.add_assoc]; exact B3.lt X4 L4) rfl (by omega) (by omega)
  · simp (decide := true) only [if_true, if_false]
    obtain ⟨h4, e4, X4, L4⟩ := y_passedBy (zs := zs) (n := n + 4) B3.ra GW
    have e4' : f_X1_passedBy (dE zs (n + 5)) h3 (nx + c2 + c3) (A 0) (A 8) = some (sm32 (fun p => pF (omN K w) p 9) (nP (omN K w)), h4, 1, 1) := e4
    have B4 := B3.lt X4 L4
    obtain ⟨h5, e5, X5, L5⟩ := y_passedBy (zs := zs) (n := n + 4) B4.1.1 G
    rw [S3.g3, Option.bind_some, S3.i0, gdT, e4', Option.bind_some]
    dsimp only
    rw [B4.1.g2, Option.bind_some, B4.1.i0, gdT, e5, Option.bind_some]
    dsimp only
    simp only [aC_some, KW.eP]
    have B5 := B4.ln X5 L5
    exact AW.out (k := c2 + (c3 + (1 + (1 + 0)))) (by rw [show nx + (c2 + (c3 + (1 + (1 + 0)))) = nx + c2 + c3 + 1 + 1 by omega]; exact B5) rfl (by omega) (by omega)
theorem y_when85 {q0 p : Nat} (S : SN A I M w 0 h n0) (hq0 : n0 ≤ q0) {a e nl : Nat} {la : Nat → Nat} (hqa : q0 ≠ a) (hqe : q0 ≠ e) (hp : p < 2 ^ 31) (hl : ∀ i, i < nl → ∃ vs, h (la i) = some (.inr (.inl (7, .int (lF W i 0) :: .int (lF W i 1) :: .int (lF W i 2) :: vs))) ∧ la i ≠ q0) : ∀ (k i m : Nat) (h1 : AH), i + k = nl → ItH h1 q0 a e nl la i → (∀ z, z ≠ q0 → h1 z = h z) → ∃ h', (∀ z, z ≠ q0 → h' z = h z) ∧ f_X1_when_85 (m + k + 1) E (A 0) (nI p) c q0 h1 nx = match fdN (fun i => decide (lF W i 0 = nI p)) i k with
    | none => f_X1_none E h' nx (A 0) (nI 5)
    | some j => some (if c = 0 then lF W j 2 else lF W j 1, h', 0, 0) := by
  have ho := S.1.ne.2.1
  intro k
  induction k with
  | zero =>
    intro i m h1 hi T hk
    refine ⟨h1, hk, ?_⟩
    have i0 : isO h1 (A 0) 0 = true := by have := S.i0; unfold isO at this ⊢; rw [hk _ (by omega)]; exact this
    simp only [f_X1_when_85]
    rw [T.o, gdT, it_has T (by omega), Option.bind_some, decide_eq_true (show i = nl by omega), if_pos (show bI (!true) = 0 from rfl), i0, gdT, aC_id]
    rfl
  | succ k ih =>
    intro i m h1 hi T hk
    obtain ⟨h2, e2, T2, k2⟩ := it_next (E := E) (nx := nx) T (by omega) hqa hqe
    obtain ⟨vs, v1, v2⟩ := hl i (by omega)
    have hk2 : ∀ z, z ≠ q0 → h2 z = h z := fun z hz => (k2 z hz).trans (hk z hz)
    have v3 : h2 (la i) = some (.inr (.inl (7, .int (lF W i 0) :: .int (lF W i 1) :: .int (lF W i 2) :: vs))) := by rw [hk2 _ v2]; exact v1
    have g0 : gI h2 (la i) 7 0 = some (lF W i 0) := by simp [gI, rd, v3, vI]
    have g1 : gI h2 (la i) 7 1 = some (lF W i 1) := by simp [gI, rd, v3, vI]
    have g2 : gI h2 (la i) 7 2 = some (lF W i 2) := by simp [gI, rd, v3, vI]
    have o7 : isO h2 (la i) 7 = true := by simp [isO, v3]
    rw [show m + (k + 1) + 1 = (m + k + 1) + 1 by omega]
    have hf : fdN (fun i => decide (lF W i 0 = nI p)) i (k + 1) = if lF W i 0 = nI p then some i else fdN (fun i => decide (lF W i 0 = nI p)) (i + 1) k := by
      show (if decide (lF W i 0 = nI p) = true then some i else fdN (fun i => decide (lF W i 0 = nI p)) (i + 1) k) = _
      by_cases hw : lF W i 0 = nI p
      · rw [if_pos (decide_eq_true hw), if_pos hw]
      · rw [if_neg (fun z => hw (of_decide_eq_true z)), if_neg hw]
    rw [hf]
    simp only [f_X1_when_85]
    rw [T.o, gdT, it_has T (by omega), Option.bind_some, decide_eq_false (show ¬ i = nl by omega), if_neg (show ¬ bI (!false) = 0 by decide), e2, Option.bind_some]
    dsimp only
    rw [aC00, o7, gdT, g0, Option.bind_some, g1, g2, Option.bind_some, Option.bind_some, Nat.add_zero]
    by_cases hw : lF W i 0 = nI p
    · rw [if_pos hw, if_pos hw]
      refine ⟨h2, hk2, ?_⟩
      split <;> rfl
    · rw [if_neg hw, if_neg hw]
      exact ih (i + 1) m h2 (by omega) T2 hk2
theorem y_when (S : SN A I M w st h nx) (G : Gd w) (Y : RS h nx M (A 0) (A 8) eL eO_ cL cO) (hc : cL < 60) (hc2 : cO < 60) (P : AP A eL eO_) (hw : wN w 232 + 30 ≤ 999) : AX A I M w eL eO_ h nx (f_X1_when (dE zs (n + 5)) h nx (A 0) a b c) (an_when w a b c) := by
  have Z := G.1
  have bP := Z.gP.2
  rw [f_X1_when, lg_r b 1 (nI 30) (by decide) (by decide), Option.bind_some, c_isHouse S Z, Option.bind_some]
  unfold an_when
  have u46 : ∀ v, f_X1_when_46 (dE zs (n + 5)) (A 0) a b c (A 0) v h nx = f_X1_when_46 (dE zs (n + 5)) (A 0) a b c (A 0) v h nx := fun _ => rfl
  cases hv : ir b 1 (nI 30)
  · rw [if_pos (show bI false = 0 from rfl), if_pos rfl]
    exact An.ax (An.cn S (by decide)) Y hc hc2 P
  rw [if_neg (show ¬ bI true = 0 by decide), if_neg (show ¬ true = false by nofun), S.i0, gdT]
  cases hh : isHs w a
  · rw [if_pos (show bI false = 0 from rfl), if_pos rfl]
    exact An.ax (An.cn S (by decide)) Y hc hc2 P
  rw [if_neg (show ¬ bI true = 0 by decide), if_neg (show ¬ true = false by nofun)]
  obtain ⟨p, hp, rfl⟩ := (hs_t Z).mp hh
  obtain ⟨K, hK1, hK, rfl⟩ := (rg_1 (by decide)).mp hv
  rw [nI_clamp (by omega), nI_clamp (by omega)]
  have hout : (gA h (A 0) 0 2).bind (fun v6 => (gA h v6 1 13).bind fun v7 => (aI h v7 3 (nI p)).bind fun v8 => if v8 = 0 then f_X1_when_46 (dE zs (n + 5)) (A 0) (nI p) (nI K) c (A 0) 0 h nx else f_X1_when_46 (dE zs (n + 5)) (A 0) (nI p) (nI K) c (A 0) (nI 4) h nx) = if isIn_ w p = true then f_X1_when_46 (dE zs (n + 5)) (A 0) (nI p) (nI K) c (A 0) 0 h nx else f_X1_when_46 (dE zs (n + 5)) (A 0) (nI p) (nI K) c (A 0) (nI 4) h nx := by
    obtain ⟨⟨aH, eH, aP, eP, rN, rA, hm, hs, nh, np, tl, O, T, TI, ho, hM⟩, F, wk, rf, sc, la, oa, R, Q, L, K, s0, il, io, hOwn, hno⟩ := id S.1
    rw [S.g2, Option.bind_some, R.g13, Option.bind_some, R.a13 (by omega), Option.bind_some, (Q.2.1 p hp).2.2.2.2.2.2.2.1]
    unfold isIn_
    by_cases h8 : pF w p 8 = 0
    · rw [if_pos h8, if_pos (decide_eq_true h8)]
    · rw [if_neg h8, if_neg (fun z => h8 (of_decide_eq_true z))]
  rw [hout]
  unfold f_X1_when_46
  cases hin : isIn_ w p
  · rw [if_neg (show ¬ false = true by nofun), if_pos rfl]
    exact An.ax (An.cn S (by decide)) Y hc hc2 P
  rw [if_pos rfl, if_neg (show ¬ true = false by nofun)]
  obtain ⟨GW, KW, -⟩ := omN_ok G K (by omega)
  refine AX.can0 S Y P (fun h1 S1 q1 Y1 => ?_)
  simp only [Nat.add_zero]
  obtain ⟨h2, M2, eL2, eO2, cL2, cO2, c2, d2, e2, B2, l2, l2'⟩ := y_aside (E := dE zs (n + 5)) S1 G Y1 hc hc2 P
  obtain ⟨h3, M3, eL3, eO3, cL3, cO3, c3, d3, e3, B3, l3, l3'⟩ := y_asideGoes (zs := zs) (n := n) B2 G (K := K) (by omega) (by omega)
  have o8 : isO h1 (A 8) 1 = true := by
    obtain ⟨F, wk, rf, sc, nl, la, no, oa, R, -⟩ := Y1
    exact R.o1
  have o82 : isO h2 (A 8) 1 = true := by
    obtain ⟨F, wk, rf, sc, nl, la, no, oa, R, -⟩ := B2.2.1.rs
    exact R.o1
  have S3 := B3.1
  have X3 := B3.2.1
  have ow3 := X3.own
  rw [S1.g3, Option.bind_some, S1.g2, Option.bind_some, o8, gdT, e2, Option.bind_some]
  dsimp only
  rw [B2.1.g3, Option.bind_some, o82, gdT, e3, Option.bind_some]
  dsimp only
  obtain ⟨F, wk, rf, sc, la, oa, R3, Q3, L3, K3, s03, il3, io3, -⟩ := X3.2
  have nL3 := (ow3.1 (A 8 + 16) (Or.inl ⟨by omega, by omega⟩)).2
  have nE3 := (ow3.1 eL3 (Or.inr (Or.inl rfl))).2
  obtain ⟨h4, e4, T4, k4⟩ := it_mk (E := dE zs (n + 5)) (nx := nx + c2 + c3) R3.2.2.1 nL3 nE3
  have S4 : SN A I M3 w 0 h4 (nx + c2 + c3) := S3.grow (Nat.le_refl _) k4
  obtain ⟨h5, k5, e5⟩ := y_when85 (E := dE zs (n + 5)) (c := c) (W := omN K w) (p := p) (nx := nx + c2 + c3 + 1) S4 (Nat.le_refl _) (by omega) (by omega) (by omega) (fun i hi => ⟨_, by rw [k4 _ (il3 i hi).1]; exact L3.2 i hi, by have := (il3 i hi).1; omega⟩) (nL (omN K w)) 0 (FU - nL (omN K w) - 1) h4 (by omega) T4 (fun _ _ => rfl)
  have hl8 := GW.1.gL.2
  rw [show FU - nL (omN K w) - 1 + nL (omN K w) + 1 = FU by unfold FU; omega] at e5
  have B5 := B3.grow (n1 := nx + c2 + c3 + 1) (h1 := h5) (by omega) (fun q hq => (k5 q (by omega)).trans (k4 q hq))
  rw [S3.g3, Option.bind_some, R3.g15, Option.bind_some, R3.2.2.1.o, gdT, e4, Option.bind_some]
  dsimp only
  rw [e5]
  unfold whI
  cases ho : fdN (fun i => decide (lF (omN K w) i 0 = nI p)) 0 (nL (omN K w)) with
  | none =>
    obtain ⟨h6, e6, S6, Y6, k6⟩ := B5.no (dE zs (n + 5)) (nI 5)
    obtain ⟨b1, b2, b3, b4, b5, b6, b7, b8, b9, b10⟩ := B5
    dsimp only
    rw [e6]
    simp only [aC_some]
    refine ⟨h6, M3, eL3, eO3, cL3, cO3, _, _, rfl, ?_, ?_, b5, b6, b7, b8, b4, k6, by omega, by omega⟩
    · rw [show nx + (c2 + (c3 + (1 + 0))) = nx + c2 + c3 + 1 by omega]; exact S6
    · rw [show nx + (c2 + (c3 + (1 + 0))) = nx + c2 + c3 + 1 by omega]; exact Y6
  | some j =>
    dsimp only
    simp only [aC_some]
    exact AW.out (k := c2 + (c3 + (1 + 0))) (by rw [show nx + (c2 + (c3 + (1 + 0))) = nx + c2 + c3 + 1 by omega]; exact B5) rfl (by omega) (by omega)
end PWC2
