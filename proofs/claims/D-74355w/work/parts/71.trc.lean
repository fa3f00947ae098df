/-! trade, trades: the component's side (Trading) -/
def tdE (o n0 : Nat) (ci gr : Int32) : hE := .inr (.inl (9, [.ref (n0 + 1), .int ci, .int gr, .ref o]))
def TS (A : Nat → Nat) (h0 : AH) (n0 : Nat) (s : tS) (h : AH) : Prop := (∀ q, q < n0 → h q = h0 q) ∧ h n0 = some (tdE (A 0) n0 s.1 s.2.1) ∧ h (n0 + 1) = some (.inl (0, 8, .inl s.2.2))
section PTC
variable {A : Nat → Nat} {I : Nat → Int32} {M : Nat → Prop} {w : Rw} {st mo : Int32} {h h0 h1 h2 h' : AH} {nx nx' n0 n1 n2 : Nat} {E : bE} {v a b u : Int32} {p x y N k q less d L c : Nat} {f : Option (Int32 × AH × Nat × Nat)} {zs : Nat → Nat} {n : Nat} {s : tS}
theorem TS.sn (B : TS A h0 n0 s h) (S : SN A I M w st h0 n0) : SN A I M w st h (n0 + 2) := S.grow (by omega) B.1
theorem TS.o (B : TS A h0 n0 s h) : isO h n0 9 = true := by simp [isO, B.2.1, tdE]
theorem TS.g0 (B : TS A h0 n0 s h) : gA h n0 9 0 = some (n0 + 1) := by simp [gA, rd, B.2.1, tdE, vR]
theorem TS.g1 (B : TS A h0 n0 s h) : gI h n0 9 1 = some s.1 := by simp [gI, rd, B.2.1, tdE, vI]
theorem TS.g2 (B : TS A h0 n0 s h) : gI h n0 9 2 = some s.2.1 := by simp [gI, rd, B.2.1, tdE, vI]
theorem TS.g3 (B : TS A h0 n0 s h) : gA h n0 9 3 = some (A 0) := by simp [gA, rd, B.2.1, tdE, vR]
theorem TS.w1 (B : TS A h0 n0 s h) (v : Int32) : ∃ h', wr h n0 9 1 (.int v) = some h' ∧ TS A h0 n0 (v, s.2.1, s.2.2) h' :=
  ⟨_, wr_at B.2.1 (by show 1 < 4; decide), fun q hq => by rw [hu_n (by omega)]; exact B.1 q hq, hu_s, by rw [hu_n (by omega)]; exact B.2.2⟩
theorem TS.w2 (B : TS A h0 n0 s h) (v : Int32) : ∃ h', wr h n0 9 2 (.int v) = some h' ∧ TS A h0 n0 (s.1, v, s.2.2) h' :=
  ⟨_, wr_at B.2.1 (by show 2 < 4; decide), fun q hq => by rw [hu_n (by omega)]; exact B.1 q hq, hu_s, by rw [hu_n (by omega)]; exact B.2.2⟩
theorem TS.wa (B : TS A h0 n0 s h) (hp : p < 8) (v : Int32) : ∃ h', sI h (n0 + 1) 0 (nI p) v = some h' ∧ TS A h0 n0 (s.1, s.2.1, upd s.2.2 p v) h' :=
  ⟨_, sI_at B.2.2 hp (by decide) v, fun q hq => by rw [hu_n (by omega)]; exact B.1 q hq, by rw [hu_n (by omega)]; exact B.2.1, hu_s⟩
theorem c_lkAt (S : SN A I M w st h0 n0) (G : Gd w) (B : TS A h0 n0 s h) (V : LvS w L) (hp : L.testBit p = true) : f_X10_looksAt E h n0 (nI p) (nI L) = some (nI (lk w L p)) := by
  have b1 := G.1.gP.2
  have b3 := G.1.gH.2
  have hL := V.lt b1
  obtain ⟨hp1, hp2⟩ := V p hp
  have h11 := G.1.p11 (p := p) (by omega)
  have S' := B.sn S
  obtain ⟨⟨aH, eH, aP, eP, rN, rA, hm, hs_, nh, np, tl, O, Tt, TI, ho, hM⟩, F, wk, rf, sc_, la, oa, R, Q, Ll, Kk, s0_, il, io, hOwn, hno⟩ := id S'.1
  obtain ⟨w0, w1, w2, w3, w4, w5, w6, w7, w8⟩ := Q.2.1 p hp1
  refine Eq.trans (lp_fd (fun m i => f_X10_looksAt_2 m E h n0 (nI p) (nI L) (nI i)) (fun k => some (hF w (pN w p (12 + k)) 2)) (some (nI p)) (lkB w L p) (pN w p 11) ?_ ?_ FU 0 (Nat.zero_le _) (FU_lt (by omega))) ?_
  · intro m
    simp only [f_X10_looksAt_2]
    rw [B.g3, Option.bind_some, S'.g2, Option.bind_some, R.g6, Option.bind_some, R.a6 (by omega), Option.bind_some, w5, h11.1, if_pos (nI_leR _)]
  · intro m i hi
    have hx := G.2.1.2.2.1 p i hp1 hi
    have hw := (G.1.pw (p := p) (k := i) (by omega) (by omega)).1
    simp only [f_X10_looksAt_2]
    rw [B.g3, Option.bind_some, S'.g2, Option.bind_some, R.g6, Option.bind_some, R.a6 (by omega), Option.bind_some, w5, h11.1, if_neg (nI_ge hi (by omega)), Option.bind_some, S'.g2, Option.bind_some, R.o1, gdT, c_wishAt R Q G.1 hp1 hi, Option.bind_some, Option.bind_some, S'.g2, Option.bind_some, R.o1, gdT, hw, c_whoIn R Q O Tt G.1 G.2.1 hx, Option.bind_some, nI_1, Option.bind_some, S'.g2, Option.bind_some, R.o1, gdT, c_isFitting R Q O Tt G.1 hp1 hx, Option.bind_some]
    unfold lkB
    rcases G.2.1.1 _ hx with z | ⟨q, hq, z1, z2⟩
    · rw [z, if_pos (show (-1 : Int32) < 0 by decide)]; rfl
    · have e : hN_ w (pN w p (12 + i)) 2 = q := by show (hF w _ 2).toNatClampNeg = q; rw [z1, nI_clamp (by omega)]
      rw [z1, if_neg (nI_pos (by omega)), btV L (by omega) q (by omega), decide_eq_false (nI_m1 (by omega)), e]
      cases hb : L.testBit q
      · rw [if_neg (show ¬ bI false = 1 by decide)]; rfl
      · rw [if_pos (show bI true = 1 from rfl)]
        cases dFit w p (pN w p (12 + i))
        · rw [if_pos (show bI false = 0 from rfl)]; rfl
        · rw [if_neg (show ¬ bI true = 0 by decide)]; rfl
  · rw [Nat.sub_zero]
    unfold lk lkI
    cases h : fdN (lkB w L p) 0 (pN w p 11) with
    | none => rfl
    | some k =>
      obtain ⟨h1, h2, h3, -⟩ := fdN_some h
      unfold lkB at h3
      rw [Bool.and_eq_true, Bool.and_eq_true, Bool.not_eq_true', decide_eq_false_iff_not] at h3
      have hx := G.2.1.2.2.1 p k hp1 (by omega)
      rcases G.2.1.1 _ hx with z | ⟨q, hq, z1, z2⟩
      · exact absurd z h3.1.1
      · show some (hF w (pN w p (12 + k)) 2) = some (nI (hN_ w (pN w p (12 + k)) 2))
        have : hN_ w (pN w p (12 + k)) 2 = q := by show (hF w _ 2).toNatClampNeg = q; rw [z1, nI_clamp (by omega)]
        rw [this, z1]
theorem y_cf31 (S : SN A I M w st h0 n0) (G : Gd w) (V : LvS w L) : ∀ (n m p c : Nat) (g : Nat → Int32) (h : AH), unN w c ≤ n → L.testBit p = true → c < 256 → TS A h0 n0 (s.1, s.2.1, g) h → ∃ h', f_X10_circleFrom_31 (m + n + 1) E n0 (nI L) (nI c) (nI p) h nx = some (nI (crc w L n p c g).1, h', 0, 0) ∧ TS A h0 n0 (s.1 + (if pc (crc w L n p c g).1 ≤ 1 then 0 else 1), mx32 s.2.1 (nI (pc (crc w L n p c g).1)), (crc w L n p c g).2) h' := by
  have b1 := G.1.gP.2
  have hL := V.lt b1
  have stop : ∀ (m p c : Nat) (g : Nat → Int32) (h : AH), p < 8 → c.testBit p = true → c < 256 → TS A h0 n0 (s.1, s.2.1, g) h → ∃ h', f_X10_circleFrom_31 (m + 1) E n0 (nI L) (nI c) (nI p) h nx = some (nI c, h', 0, 0) ∧ TS A h0 n0 (s.1 + (if pc c ≤ 1 then 0 else 1), mx32 s.2.1 (nI (pc c)), g) h' := by
    intro m p c g h hp hb hc B
    have hpc := pc_le c
    have fin : ∀ b : Bool, ∃ h', f_X10_circleFrom_110 E n0 (nI c) (nI (pc c)) n0 s.1 (bI b) h nx = some (nI c, h', 0, 0) ∧ TS A h0 n0 (s.1 + bI b, mx32 s.2.1 (nI (pc c)), g) h' := by
      intro b
      obtain ⟨h1, e1, B1⟩ := B.w1 (s.1 + bI b)
      obtain ⟨h2, e2, B2⟩ := B1.w2 (mx32 s.2.1 (nI (pc c)))
      refine ⟨h2, ?_, B2⟩
      simp only [f_X10_circleFrom_110]
      rw [one_b, Option.bind_some, e1, Option.bind_some, B1.g2, Option.bind_some, m_max, Option.bind_some, e2, Option.bind_some]
    simp only [f_X10_circleFrom_31]
    rw [btV c (by omega) p (by omega), hb, if_neg (show ¬ bI true = 0 by decide), j_bits c (by omega), Option.bind_some, B.g1, Option.bind_some]
    by_cases h1 : pc c ≤ 1
    · rw [if_pos (show nI (pc c) ≤ 1 from nI_le (b := 1) h1 (by decide)), if_pos h1]
      exact fin false
    · rw [if_neg (show ¬ nI (pc c) ≤ 1 from nI_ge (a := 1) (by omega) (by omega)), if_neg h1]
      exact fin true
  intro n
  induction n with
  | zero =>
    intro m p c g h hn hp hc B
    have hp1 := (V p hp).1
    have hb : c.testBit p = true := by
      cases hb : c.testBit p with
      | true => rfl
      | false => have := un_or hp1 hb; omega
    exact stop m p c g h (by omega) hb hc B
  | succ n ih =>
    intro m p c g h hn hp hc B
    have hp1 := (V p hp).1
    rw [show m + (n + 1) + 1 = (m + n + 1) + 1 by omega]
    cases hb : c.testBit p with
    | true =>
      have e : crc w L (n + 1) p c g = (c, g) := by unfold crc; rw [if_pos hb]
      rw [e]
      exact stop (m + n + 1) p c g h (by omega) hb hc B
    | false =>
      have e : crc w L (n + 1) p c g = crc w L n (lk w L p) (c ||| 2 ^ p) (upd g p (gtV w L p)) := by
        show (if c.testBit p = true then (c, g) else crc w L n (lk w L p) (c ||| 2 ^ p) (upd g p (gtV w L p))) = _
        rw [if_neg (by rw [hb]; nofun)]
      have hu := un_or hp1 hb
      have hin := lk_in G.1 G.2.1 V hp
      have hq := (V _ hin.1).1
      have S' := B.sn S
      obtain ⟨h1, e1, B1⟩ := B.wa (p := p) (by omega) (gtV w L p)
      obtain ⟨h2, e2, B2⟩ := ih m (lk w L p) (c ||| 2 ^ p) (upd g p (gtV w L p)) h1 (by omega) hin.1 (or_lt (m := 8) hc (by omega)) B1
      rw [e]
      refine ⟨h2, ?_, B2⟩
      have hlive : aI h (A 1 + 2) 0 (nI (lk w L p)) = some (gtV w L p) := by
        obtain ⟨⟨aH, eH, aP, eP, rN, rA, hm, hs, nh, np, tl, O, T, TI, ho, hM⟩, F, wk, rf, sc, la, oa, R, Q, L, K, s0, il, io, hOwn, hno⟩ := id S'.1
        rw [R.a1 (by omega), (Q.2.1 _ hq).1]
        rfl
      have hr : gA h (A 1) 1 1 = some (A 1 + 2) := by
        obtain ⟨⟨aH, eH, aP, eP, rN, rA, hm, hs, nh, np, tl, O, T, TI, ho, hM⟩, F, wk, rf, sc, la, oa, R, Q, L, K, s0, il, io, hOwn, hno⟩ := id S'.1
        exact R.g1
      rw [f_X10_circleFrom_31, btV c (by omega) p (by omega), hb, if_pos (show bI false = 0 from rfl), B.g0, Option.bind_some, B.g3, Option.bind_some, S'.g2, Option.bind_some, hr, Option.bind_some, B.o, gdT, c_lkAt S G B V hp, Option.bind_some, hlive, Option.bind_some, e1, Option.bind_some, B1.o, gdT, c_lkAt S G B1 V hp, Option.bind_some, or_n c (by omega) p (by omega)]
      exact e2
theorem y_circleFrom (S : SN A I M w st h0 n0) (G : Gd w) (V : LvS w L) (hp : L.testBit p = true) (B : TS A h0 n0 s h) : ∃ h', f_X10_circleFrom E h nx n0 (nI p) (nI L) = some (nI (crc w L 9 (itN w L 8 p) 0 s.2.2).1, h', 0, 0) ∧ TS A h0 n0 (s.1 + (if pc (crc w L 9 (itN w L 8 p) 0 s.2.2).1 ≤ 1 then 0 else 1), mx32 s.2.1 (nI (pc (crc w L 9 (itN w L 8 p) 0 s.2.2).1)), (crc w L 9 (itN w L 8 p) 0 s.2.2).2) h' := by
  have b1 := G.1.gP.2
  obtain ⟨h', e, B'⟩ := y_cf31 (E := E) (nx := nx) (s := s) S G V 9 (FU - 10) (itN w L 8 p) 0 s.2.2 h (Nat.le_trans unN_le (by omega)) (itN_in G.1 G.2.1 V 8 p hp) (by decide) B
  rw [show FU - 10 + 9 + 1 = FU by unfold FU; omega] at e
  refine ⟨h', ?_, B'⟩
  have key : ∀ (k j m p : Nat), j + k = 8 → L.testBit p = true → f_X10_circleFrom_5 (m + k + 1) E n0 (nI L) (nI p) (nI j) h nx = f_X10_circleFrom_31 FU E n0 (nI L) 0 (nI (itN w L k p)) h nx := by
    intro k
    induction k with
    | zero =>
      intro j m p hj hp
      simp only [f_X10_circleFrom_5]
      rw [if_pos (nI_le (by omega) (by omega))]
      rfl
    | succ k ih =>
      intro j m p hj hp
      rw [show m + (k + 1) + 1 = (m + k + 1) + 1 by omega]
      rw [f_X10_circleFrom_5, if_neg (nI_ge (by omega) (by decide)), B.o, gdT, c_lkAt S G B V hp, Option.bind_some, nI_1, ih (j + 1) m _ (by omega) (lk_in G.1 G.2.1 V hp).1]
      rfl
  exact (key 8 0 9991 p (by omega) hp).trans e
theorem y_td84 (S : SN A I M w st h0 n0) (G : Gd w) : ∀ (n m L : Nat) (s : tS) (h : AH), LvS w L → L < n → TS A h0 n0 s h → ∃ h', f_X10_init_84 (m + n) E n0 (nI L) h nx = some ((), h', 0, 0) ∧ TS A h0 n0 (trS w n L s) h' := by
  have b1 := G.1.gP.2
  intro n
  induction n with
  | zero => intro m L s h _ hl; exact absurd hl (by omega)
  | succ n ih =>
    intro m L s h V hn B
    have hL := V.lt b1
    rw [show m + (n + 1) = (m + n) + 1 by omega]
    simp only [f_X10_init_84]
    by_cases h0 : L = 0
    · rw [if_pos (show nI L ≤ 0 by rw [h0]; decide)]
      unfold trS
      rw [if_pos h0]
      exact ⟨h, rfl, B⟩
    · obtain ⟨t1, t2, t3⟩ := m_tz L hL h0
      have hin := itN_in G.1 G.2.1 V 8 (tz L) t3
      obtain ⟨h1, e1, B1⟩ := y_circleFrom (E := E) (nx := nx) S G V t3 B
      obtain ⟨g1, g2, g3⟩ := crc_bits G.1 G.2.1 V 9 (itN w L 8 (tz L)) 0 s.2.2 hin (fun q hq => by rw [Nat.zero_testBit] at hq; cases hq)
      have hlt := cls_lt (n := L) (m := (trC w L s.2.2).1) (by omega) (g1 _ (g3 (by decide))) (g3 (by decide))
      have hc := bits_lt V b1 g1
      obtain ⟨h2, e2, B2⟩ := ih m (cls L (trC w L s.2.2).1) (s.1 + (if pc (trC w L s.2.2).1 ≤ 1 then 0 else 1), mx32 s.2.1 (nI (pc (trC w L s.2.2).1)), (trC w L s.2.2).2) h1 (V.cls (by omega)) (by omega) B1
      rw [if_neg (nI_nle (by omega) (by omega)), t1, Option.bind_some, B.o, gdT, e1, Option.bind_some]
      dsimp only
      rw [aC00, Nat.add_zero, cls_n (by omega) (by omega)]
      unfold trS
      rw [if_neg h0]
      exact ⟨h2, e2, B2⟩
theorem y_trd (S : SN A I M w st h nx) (G : Gd w) : ∃ h', f_X10_init E (hu h nx (.inr (.inl (9, df_X10)))) (nx + 1) nx (A 0) = some ((), h', 1, 8) ∧ ∃ g, TS A h nx ((trR w).1, (trR w).2.1, g) h' ∧ ∀ p, p < nP w → g p = (trR w).2.2 p := by
  have b1 := G.1.gP.2
  have hne := S.1.ne
  have w1 : wr (hu h nx (.inr (.inl (9, df_X10)))) nx 9 3 (.ref (A 0)) = some (hu h nx (.inr (.inl (9, [.null, .int 0, .int 0, .ref (A 0)])))) := by
    rw [wr_at hu_s (by show 3 < 4; decide), hu_hu]; rfl
  have w2 : wr (hu (hu h nx (.inr (.inl (9, [.null, .int 0, .int 0, .ref (A 0)])))) (nx + 1) (.inl (0, 8, .inl (fun _ => 0)))) nx 9 0 (.ref (nx + 1)) = some (hu (hu h nx (tdE (A 0) nx 0 0)) (nx + 1) (.inl (0, 8, .inl (fun _ => 0)))) := by
    rw [wr_at (by rw [hu_n (by omega)]; exact hu_s) (by show 0 < 4; decide), hu_comm (by omega), hu_hu]; rfl
  have B0 : TS A h nx (0, 0, fun _ => 0) (hu (hu h nx (tdE (A 0) nx 0 0)) (nx + 1) (.inl (0, 8, .inl (fun _ => 0)))) :=
    ⟨fun q hq => by rw [hu_n (by omega), hu_n (by omega)], by rw [hu_n (by omega)]; exact hu_s, hu_s⟩
  obtain ⟨h1, f1, ⟨g1, B1, H1⟩, e1⟩ := lp_ex (fun f i h' => f_X10_init_19 f E nx (A 0) (nI i) h' (nx + 1 + 1)) 8 (fun i h' => ∃ g, TS A h nx (0, 0, g) h' ∧ ∀ j, j < i → g j = -1) (fun f i h' hi hP => by
    obtain ⟨g, B, hg⟩ := hP
    obtain ⟨h2, e2, B2⟩ := B.wa (p := i) hi (-1)
    refine ⟨h2, ⟨_, B2, fun j hj => ?_⟩, ?_⟩
    · by_cases hji : j = i
      · rw [hji]; exact upd_s
      · rw [upd_n hji]; exact hg j (by omega)
    · simp only [f_X10_init_19]
      rw [if_neg (nI_ge hi (by decide)), B.g0, Option.bind_some, e2, Option.bind_some, nI_1]) FU 0 _ (Nat.zero_le _) (FU_lt (by decide)) ⟨_, B0, fun j hj => absurd hj (by omega)⟩
  have S' := B1.sn S
  -- the set of those who live in homes
  have hlf : f_X10_init_42 FU E nx (A 0) 0 0 h1 (nx + 1 + 1) = f_X10_init_84 FU E nx (nI (liv w)) h1 (nx + 1 + 1) := by
    have key := lp_upI (fun n i s => f_X10_init_42 n E nx (A 0) (nI s) (nI i) h1 (nx + 1 + 1)) (fun s => f_X10_init_84 FU E nx (nI s) h1 (nx + 1 + 1)) (fun i s => if lvP w i = true then s ||| 2 ^ i else s) (nP w) (fun i s => s < 1024) ?_ ?_ ?_ FU 0 0 (Nat.zero_le _) (FU_lt (by omega)) (by decide)
    · exact key.1
    · intro n s hs
      obtain ⟨⟨aH, eH, aP, eP, rN, rA, hm, hs, nh, np, tl, O, T, TI, ho, hM⟩, F, wk, rf, sc, la, oa, R, Q, L, K, s0, il, io, hOwn, hno⟩ := id S'.1
      simp only [f_X10_init_42]
      rw [O.g1, Option.bind_some, T.2.1.o, gdT, T.2.1.size, Option.bind_some, if_pos (nI_leR _)]
    · intro n i s hi hs
      have hv : (if pF w i 4 < 0 then f_X10_init_71 (f_X10_init_42 n E) E nx (A 0) (nI i) (nI s) 0 h1 (nx + 1 + 1) else f_X10_init_71 (f_X10_init_42 n E) E nx (A 0) (nI i) (nI s) 1 h1 (nx + 1 + 1)) = f_X10_init_71 (f_X10_init_42 n E) E nx (A 0) (nI i) (nI s) (bI (lvP w i)) h1 (nx + 1 + 1) := by
        unfold lvP
        rcases G.2.1.2.1 i hi with z | ⟨x, hx, z, -⟩
        · rw [z]; rfl
        · rw [z, if_neg (nI_pos (by have := G.1.gH.2; omega)), decide_eq_false (nI_m1 (by have := G.1.gH.2; omega))]; rfl
      obtain ⟨⟨aH, eH, aP, eP, rN, rA, hm, hs_, nh, np, tl, O, Tt, TI, ho, hM⟩, F, wk, rf, sc_, la, oa, R, Q, Ll, Kk, s0_, il, io, hOwn, hno⟩ := id S'.1
      simp only [f_X10_init_42]
      rw [O.g1, Option.bind_some, Tt.2.1.o, gdT, Tt.2.1.size, Option.bind_some, if_neg (nI_ge hi (by omega)), S'.g2, Option.bind_some, R.g1, Option.bind_some, R.a1 (by omega), Option.bind_some, (Q.2.1 i hi).1, hv]
      simp only [f_X10_init_71]
      rw [one_b, Option.bind_some, or_b _ hs (by omega), nI_1]
    · intro i s hi hs
      show (if lvP w i = true then s ||| 2 ^ i else s) < 1024
      split
      · exact or_lt (m := 10) hs (by omega)
      · exact hs
  have hl := liv_S (w := w) |>.lt b1
  obtain ⟨h2, e2, B2⟩ := y_td84 (E := E) (nx := nx + 1 + 1) S G 300 (FU - 300) (liv w) (0, 0, g1) h1 liv_S (by omega) B1
  rw [show FU - 300 + 300 = FU by unfold FU; omega] at e2
  refine ⟨h2, ?_, ?_⟩
  · unfold f_X10_init
    rw [w1, Option.bind_some, w2, Option.bind_some]
    have e1' : f_X10_init_19 FU E nx (A 0) 0 (hu (hu h nx (tdE (A 0) nx 0 0)) (nx + 1) (.inl (0, 8, .inl (fun _ => 0)))) (nx + 1 + 1) = f_X10_init_19 (f1 + 1) E nx (A 0) (nI 8) h1 (nx + 1 + 1) := e1
    rw [e1']
    simp only [f_X10_init_19]
    rw [if_pos (nI_leR 8), hlf, e2, aC_some]
  · obtain ⟨k1, k2, k3, k4⟩ := tr_eq (gt := g1) G.1 G.2.1
    have hk := (trS_g G.1 G.2.1 300 (liv w) (0, 0, g1) (0, 0, g1) liv_S (by omega) rfl rfl (fun p h1 h2 h3 => by
      unfold liv at h3
      rw [stN_tb, decide_eq_true h2, h1] at h3
      cases h3)).2.2.2
    refine ⟨(trS w 300 (liv w) (0, 0, g1)).2.2, ?_, fun p hp => ?_⟩
    · rw [← k1, ← k2]; exact B2
    · cases hv : lvP w p with
      | true => exact (k3 p hp hv).1
      | false => rw [hk p hv, k4 p hv]; exact H1 p (by omega)
theorem z_41 (S : SN A I M w st h nx) (G : Gd w) {q q0 q1 : Nat} {ci gr : Int32} {g : Nat → Int32} (hq : h q = some (.inr (.inr (41, [.ref (A 0), .ref q0])))) (h0 : h q0 = some (.inr (.inl (9, [.ref q1, .int ci, .int gr, .ref (A 0)])))) (h1 : h q1 = some (.inl (0, 8, .inl g))) (hp : p < nP w) : (dE zs (n + 1)).2.1 h nx q (nI p) = some (bI (!decide (g p = pF w p 4)), h, 0, 0) := by
  have b1 := G.1.gP.2
  obtain ⟨⟨aH, eH, aP, eP, rN, rA, hm, hs, nh, np, tl, O, T, TI, ho, hM⟩, F, wk, rf, sc, la, oa, R, Q, L, K, s0, il, io, hOwn, hno⟩ := id S.1
  rw [E_is hq]
  show lL41 (dE zs n) h nx [.ref (A 0), .ref q0] (nI p) = _
  have hg : gA h q0 9 0 = some q1 := by simp [gA, rd, h0, vR]
  simp only [lL41, S.i0, gdT, f_X1_lambda_trades_29, hg, Option.bind_some, aI_at h1 (show p < 8 by omega) (by decide), S.g2, R.g1, R.a1 (show p < 8 by omega), (Q.2.1 p hp).1]
  by_cases he : g p = pF w p 4
  · rw [if_pos he, decide_eq_true he]; rfl
  · rw [if_neg he, decide_eq_false he]; rfl
theorem y_trade (S : SN A I M w st h nx) (G : Gd w) : An A I M w h nx (f_X1_trade E h nx (A 0) a) (an_trade w a) := by
  have Z := G.1
  rw [f_X1_trade, S.i0, gdT, c_isHouse S Z, Option.bind_some]
  unfold an_trade f_X1_trade_14
  cases hh : isHs w a
  · rw [if_pos (show bI false = 0 from rfl), if_pos (show false = false from rfl)]
    exact An.cn S (by decide)
  rw [if_neg (show ¬ bI true = 0 by decide), if_neg (show ¬ true = false by nofun)]
  obtain ⟨p, hp, rfl⟩ := (hs_t Z).mp hh
  have b1 := Z.gP.2
  rw [nI_clamp (by omega)]
  refine An.can0 S (fun h1 S1 q1 => ?_)
  simp only [Nat.add_zero]
  obtain ⟨h2, e, g, B, hg⟩ := y_trd (E := E) S1 G
  have S2 := B.sn S1
  obtain ⟨k1, k2, k3, k4⟩ := tr_eq (gt := fun _ => -1) Z G.2.1
  have hgo : ∃ o : Option Nat, (∀ z, o = some z → z < 10) ∧ g p = eO o ∧ (if pF w p 4 = -1 then ((-1, nI 5) : Int32 × Int32) else ((trR w).2.2 p, 0)) = tO o := by
    rw [hg p hp]
    by_cases h4 : pF w p 4 = -1
    · refine ⟨none, fun z hz => (by cases hz), k4 p (by unfold lvP; rw [decide_eq_true h4]; rfl), ?_⟩
      rw [if_pos h4]
      rfl
    · obtain ⟨x, x1, x2⟩ := (k3 p hp (by unfold lvP; rw [decide_eq_false h4]; rfl)).2
      refine ⟨some x, fun z hz => by cases hz; exact x1, x2, ?_⟩
      rw [if_neg h4, x2]
      rfl
  obtain ⟨o, o1, o2, o3⟩ := hgo
  obtain ⟨h3, e3, S3, q3⟩ := S2.told E (o := o) (fun z hz => by have := o1 z hz; omega)
  rw [o3, e, Option.bind_some]
  dsimp only
  have ha : aI h2 (nx + 1) 0 (nI p) = some (eO o) := by
    rw [aI_at B.2.2 (by omega) (by decide)]
    exact congrArg some o2
  rw [B.g0, Option.bind_some, ha, Option.bind_some, S2.i0, gdT, aC_id, e3, aC_some, aC_some]
  refine ⟨h3, _, _, rfl, S3, ⟨by omega, fun q hq h4 h5 => ?_⟩, by omega, by omega⟩
  rw [q3.2 q (by omega) h4 h5]; exact B.1 q hq
theorem y_trades (S : SN A I M w st h nx) (G : Gd w) : An A I M w h nx (f_X1_trades (dE zs (n + 1)) h nx (A 0) a) (an_trades w a) := by
  have Z := G.1
  have b1 := Z.gP.2
  rw [f_X1_trades, lg_r a 0 (nI 2) (by decide) (by decide), Option.bind_some]
  unfold an_trades f_X1_trades_18
  cases hv : ir a 0 (nI 2)
  · rw [if_pos (show bI false = 0 from rfl), if_pos (show false = false from rfl)]
    exact An.cn S (by decide)
  rw [if_neg (show ¬ bI true = 0 by decide), if_neg (show ¬ true = false by nofun)]
  refine An.can0 S (fun h1 S1 q1 => ?_)
  simp only [Nat.add_zero]
  have hne := S1.1.ne
  obtain ⟨h2, e, g, B, hg⟩ := y_trd (E := dE zs (n + 1)) S1 G
  have S2 := B.sn S1
  rw [e, Option.bind_some]
  dsimp only
  by_cases h0 : a = 0
  · rw [if_pos h0, if_pos h0]
    have S2n := S2.new (e := .inr (.inr (41, [.ref (A 0), .ref nx])))
    obtain ⟨h3, e3, X3, L3⟩ := y_countR (E := dE zs (n + 1)) (e := .inr (.inr (41, [.ref (A 0), .ref nx]))) (B := fun p => !decide (g p = pF w p 4)) (N := nP w) S2.1 (by omega) (fun h' nx' j hj X' L' => ⟨h', z_41 (S2n.lt X' L') G (by rw [L'.2 _ (by omega) (by omega)]; exact hu_s) (by rw [L'.2 _ (by omega) (by omega), hu_n (by omega)]; exact B.2.1) (by rw [L'.2 _ (by omega) (by omega), hu_n (by omega)]; exact B.2.2) hj, X', fun _ _ => rfl⟩)
    have e3' : f_X1_count (dE zs (n + 1)) (hu h2 (nx + 1 + 1) (.inr (.inr (41, [.ref (A 0), .ref nx])))) (nx + 1 + 1 + 1) (nI (nP w)) (nx + 1 + 1) = _ := e3
    have S3 := S2.lt X3 L3
    have hcn : cnN (fun p => !decide (g p = pF w p 4)) (nP w) = cnN (fun p => !decide ((trR w).2.2 p = pF w p 4)) (nP w) := cnN_c _ (fun j hj => by rw [hg j hj])
    have t3 : ∃ aP, gA h2 (A 0) 0 1 = some aP ∧ isO h2 aP 11 = true ∧ f_J2_size (dE zs (n + 1)) h2 aP = some (nI (nP w)) := by
      obtain ⟨⟨aH, eH, aP, eP, rN, rA, hm, hs, nh, np, tl, O, T, TI, ho, hM⟩, F, wk, rf, sc, la, oa, R, Q, L, K, s0, il, io, hOwn, hno⟩ := id S2.1
      exact ⟨_, O.g1, T.2.1.o, T.2.1.size⟩
    obtain ⟨aP, t4, t5, t6⟩ := t3
    rw [t4, Option.bind_some, t5, gdT, t6, Option.bind_some]
    dsimp only [bd]
    rw [e3', Option.bind_some, hcn]
    simp only [aC_some]
    exact ⟨h3, _, _, rfl, S3, ⟨by omega, fun q hq h4 h5 => by rw [L3.2 q (by omega) h4]; exact B.1 q hq⟩, by omega, by omega⟩
  · rw [if_neg h0, if_neg h0]
    by_cases h1 : a = 1
    · rw [if_pos h1, if_pos h1, B.g1, Option.bind_some, aC_some, aC_some]
      exact ⟨h2, _, _, rfl, S2, ⟨by omega, fun q hq _ _ => B.1 q hq⟩, by omega, by omega⟩
    · rw [if_neg h1, if_neg h1, B.g2, Option.bind_some, aC_some, aC_some]
      exact ⟨h2, _, _, rfl, S2, ⟨by omega, fun q hq _ _ => B.1 q hq⟩, by omega, by omega⟩
end PTC
