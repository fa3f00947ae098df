/-! THE COMPONENT's side: home, house, rule, why, bids, turn -/
section PRC2
variable {A : Nat → Nat} {I : Nat → Int32} {M : Nat → Prop} {w : Rw} {st : Int32} {h h1 h2 h' : AH} {nx nx' n1 n2 : Nat} {E : bE} {v a b u : Int32} {p x y N k : Nat} {f : Option (Int32 × AH × Nat × Nat)} {zs : Nat → Nat} {n : Nat}
theorem ir_c {m : Nat} (hm : m < 2 ^ 31) {v : Int32} : ir v 0 (nI m) = true ↔ ∃ x, x ≤ m ∧ v = nI x := rg_c hm
theorem lg_r (a lo hi : Int32) {l2 h2 : Int64} (e1 : lo.toInt64 = l2) (e2 : hi.toInt64 = h2) : f_X1_isIn a.toInt64 l2 h2 = some (bI (ir a lo hi)) := lg_c a lo hi e1 e2
theorem y_rule (S : SN A I M w st h nx) : An A I M w h nx (f_X1_rule E h nx (A 0) a) (an_rule w a) := by
  rw [f_X1_rule, lg_r a 0 (nI 5) (by decide) (by decide), Option.bind_some]
  unfold an_rule
  cases hv : ir a 0 (nI 5)
  · rw [if_pos (show bI false = 0 from rfl), if_pos rfl]
    exact An.cn S (by decide)
  · rw [if_neg (show ¬ bI true = 0 by decide), if_neg (by nofun)]
    obtain ⟨x, hx, rfl⟩ := (ir_c (by decide)).mp hv
    refine An.can0 S (fun h1 S1 q1 => ?_)
    obtain ⟨⟨aH, eH, aP, eP, rN, rA, hm, hs, nh, np, tl, O, T, TI, ho, hM⟩, F, wk, rf, sc, la, oa, R, Q, L, K, s0, il, io, hOwn, hno⟩ := id S1.1
    dsimp only
    rw [S1.g2, Option.bind_some, R.g0, Option.bind_some, R.a0 (by omega), Q.1 x (by omega), nI_clamp (by omega)]
    exact An.rd S1 rfl
theorem y_why (S : SN A I M w st h nx) (G : Gd w) : An A I M w h nx (f_X1_why (dE zs (n + 1)) h nx (A 0) a b) (an_why w a b) := by
  have Z := G.1
  rw [f_X1_why, S.i0, gdT, c_whyBoth S Z, Option.bind_some, gdT]
  unfold an_why
  cases hv : (isHs w a && isHm w b)
  · rw [if_neg (by nofun), if_pos rfl]
    exact An.cn1 S (by decide)
  · rw [if_pos rfl, if_neg (by nofun)]
    rw [Bool.and_eq_true] at hv
    obtain ⟨p, hp, rfl⟩ := (hs_t Z).mp hv.1
    obtain ⟨x, hx, rfl⟩ := (hm_t Z).mp hv.2
    have b1 := Z.gP.2
    have b2 := Z.gH.2
    refine An.can1 S (fun h1 S1 q1 => ?_)
    obtain ⟨h2, e2, X2, k2⟩ := x_whyNot (zs := zs) (n := n) S1.1 Z G.2.1 hp hx
    obtain ⟨⟨aH, eH, aP, eP, rN, rA, hm, hs, nh, np, tl, O, T, TI, ho, hM⟩, F, wk, rf, sc, la, oa, R, Q, L, K, s0, il, io, hOwn, hno⟩ := id S1.1
    simp only [Nat.add_zero]
    rw [S1.g2, Option.bind_some, R.o1, gdT, aC_id, e2, nI_clamp (by omega), nI_clamp (by omega)]
    exact An.lt (c := 0) S1 QS.rfl' X2 (Lt.one k2) rfl (by omega) (by omega)
theorem y_bids (S : SN A I M w st h nx) (G : Gd w) : An A I M w h nx (f_X1_bids E h nx (A 0) a b) (an_bids w a b) := by
  have Z := G.1
  rw [f_X1_bids, S.i0, gdT, c_whyBoth S Z, Option.bind_some, gdT]
  unfold an_bids
  cases hv : (isHs w a && isHm w b)
  · rw [if_neg (by nofun), if_pos rfl]
    exact An.cn1 S (by decide)
  · rw [if_pos rfl, if_neg (by nofun)]
    rw [Bool.and_eq_true] at hv
    obtain ⟨p, hp, rfl⟩ := (hs_t Z).mp hv.1
    obtain ⟨x, hx, rfl⟩ := (hm_t Z).mp hv.2
    have b1 := Z.gP.2
    have b2 := Z.gH.2
    refine An.can1 S (fun h1 S1 q1 => ?_)
    obtain ⟨⟨aH, eH, aP, eP, rN, rA, hm, hs, nh, np, tl, O, T, TI, ho, hM⟩, F, wk, rf, sc, la, oa, R, Q, L, K, s0, il, io, hOwn, hno⟩ := id S1.1
    dsimp only
    rw [S1.g2, Option.bind_some, R.o1, gdT, c_bidsFor R Q Z hp, Option.bind_some, one_b, Option.bind_some, nI_clamp (by omega), nI_clamp (by omega)]
    exact An.rd S1 rfl
theorem y_turn (S : SN A I M w st h nx) (G : Gd w) : An A I M w h nx (f_X1_turn E h nx (A 0) a b) (an_turn w a b) := by
  have Z := G.1
  rw [f_X1_turn, lg_r b 0 1 (by decide) (by decide), Option.bind_some, c_isHome S Z, Option.bind_some]
  unfold an_turn
  cases hv : ir b 0 1
  · rw [if_pos (show bI false = 0 from rfl), if_pos (show false = false from rfl)]
    exact An.cn S (by decide)
  rw [if_neg (show ¬ bI true = 0 by decide), if_neg (show ¬ true = false by nofun), S.i0, gdT]
  cases hh : isHm w a
  · rw [if_pos (show bI false = 0 from rfl), if_pos (show false = false from rfl)]
    exact An.cn S (by decide)
  rw [if_neg (show ¬ bI true = 0 by decide), if_neg (show ¬ true = false by nofun)]
  obtain ⟨x, hx, rfl⟩ := (hm_t Z).mp hh
  have b2 := Z.gH.2
  refine An.can0 S (fun h1 S1 q1 => ?_)
  obtain ⟨⟨aH, eH, aP, eP, rN, rA, hm, hs, nh, np, tl, O, T, TI, ho, hM⟩, F, wk, rf, sc, la, oa, R, Q, L, K, s0, il, io, hOwn, hno⟩ := id S1.1
  dsimp only
  by_cases hb : b = 0
  · rw [if_pos hb, if_pos hb, S1.g2, Option.bind_some, R.o1, gdT, c_isLocalTurn R Q O T Z G.2.1 L hx, Option.bind_some, f_X1_turn_58, one_b, nI_clamp (by omega)]
    exact An.rd S1 rfl
  · rw [if_neg hb, if_neg hb, S1.g2, Option.bind_some, R.o1, gdT, c_isQuotaTurn R Q Z L, Option.bind_some, f_X1_turn_58, one_b]
    exact An.rd S1 rfl
theorem z_17 (S : SN A I M w st h nx) (G : Gd w) {q : Nat} (hq : h q = some (.inr (.inr (17, [.ref (A 0), .int (nI x)])))) (hp : p < nP w) : (dE zs (n + 1)).2.1 h nx q (nI p) = some (bI (iBd w p x), h, 0, 0) := by
  obtain ⟨⟨aH, eH, aP, eP, rN, rA, hm, hs, nh, np, tl, O, T, TI, ho, hM⟩, F, wk, rf, sc, la, oa, R, Q, L, K, s0, il, io, hOwn, hno⟩ := id S.1
  rw [E_is hq]
  show lL17 (dE zs n) h nx [.ref (A 0), .int (nI x)] (nI p) = _
  simp only [lL17, S.i0, gdT, f_X1_lambda_home_8, S.g2, Option.bind_some, R.o1, c_bidsFor R Q G.1 hp]
theorem z_18 (S : SN A I M w st h nx) {q : Nat} (hq : h q = some (.inr (.inr (18, [.ref (A 0), .int (nI x)])))) (hp : p < nL w) : (dE zs (n + 1)).2.1 h nx q (nI p) = some (bI (decide (lF w p 1 = nI x)), h, 0, 0) := by
  obtain ⟨⟨aH, eH, aP, eP, rN, rA, hm, hs, nh, np, tl, O, T, TI, ho, hM⟩, F, wk, rf, sc, la, oa, R, Q, L, K, s0, il, io, hOwn, hno⟩ := id S.1
  rw [E_is hq]
  show lL18 (dE zs n) h nx [.ref (A 0), .int (nI x)] (nI p) = _
  have hl := L.2 p hp
  simp only [lL18, S.i0, gdT, f_X1_lambda_home_9, S.g2, Option.bind_some, R.g15, R.2.2.1.o, R.2.2.1.get hp]
  rw [show isO h (la p) 7 = true by simp [isO, hl], gdT, show gI h (la p) 7 1 = some (lF w p 1) by simp [gI, rd, hl, vI], Option.bind_some, bI_ite]
  rfl
theorem y_home (S : SN A I M w st h nx) (G : Gd w) (V : Iv1 w) : An A I M w h nx (f_X1_home (dE zs (n + 1)) h nx (A 0) a b) (an_home w a b) := by
  have Z := G.1
  rw [f_X1_home, lg_r b 0 (nI 7) (by decide) (by decide), Option.bind_some, c_isHome S Z, Option.bind_some]
  unfold an_home
  cases hv : ir b 0 (nI 7)
  · rw [if_pos (show bI false = 0 from rfl), if_pos (show false = false from rfl)]
    exact An.cn S (by decide)
  rw [if_neg (show ¬ bI true = 0 by decide), if_neg (show ¬ true = false by nofun), S.i0, gdT]
  cases hh : isHm w a
  · rw [if_pos (show bI false = 0 from rfl), if_pos (show false = false from rfl)]
    exact An.cn S (by decide)
  rw [if_neg (show ¬ bI true = 0 by decide), if_neg (show ¬ true = false by nofun)]
  obtain ⟨x, hx, rfl⟩ := (hm_t Z).mp hh
  obtain ⟨k, hk, rfl⟩ := (ir_c (by decide)).mp hv
  have b2 := Z.gH.2
  have b1 := Z.gP.2
  have b3 := Z.gL.2
  refine An.can0 S (fun h1 S1 q1 => ?_)
  obtain ⟨⟨aH, eH, aP, eP, rN, rA, hm, hs, nh, np, tl, O, T, TI, ho, hM⟩, F, wk, rf, sc, la, oa, R, Q, L, K, s0, il, io, hOwn, hno⟩ := id S1.1
  simp only [Nat.add_zero, nI_clamp (show x < 2 ^ 31 by omega), nI_clamp (show k < 2 ^ 31 by omega)]
  have hx' : k = 0 ∨ k = 1 ∨ k = 2 ∨ k = 3 ∨ k = 4 ∨ k = 5 ∨ k = 6 ∨ k = 7 := by omega
  rcases hx' with rfl | rfl | rfl | rfl | rfl | rfl | rfl | rfl
  · simp (decide := true) only [if_true, if_false]
    rw [S1.i0, gdT, T.homeAt O hx, Option.bind_some, T.rooms hx]
    exact An.rd S1 rfl
  · simp (decide := true) only [if_true, if_false]
    rw [S1.i0, gdT, T.homeAt O hx, Option.bind_some, T.ward hx]
    exact An.rd S1 rfl
  · simp (decide := true) only [if_true, if_false]
    rw [S1.g2, Option.bind_some, R.o1, gdT, c_whoIn R Q O T Z G.2.1 hx, Option.bind_some, S1.i0, gdT, aC_id]
    rcases G.2.1.1 x hx with e | ⟨p, hp, e, -⟩
    · rw [if_pos e, e]
      exact An.told S1 _ (o := none) (fun z hz => by cases hz) rfl
    · rw [if_neg (by rw [e]; exact nI_m1 (by omega)), e]
      exact An.told S1 _ (o := some p) (fun z hz => by cases hz; omega) rfl
  · simp (decide := true) only [if_true, if_false]
    rw [S1.g2, Option.bind_some, R.o1, gdT, c_isFree R Q O T Z G.2.1 hx, Option.bind_some, one_b]
    exact An.rd S1 rfl
  · simp (decide := true) only [if_true, if_false]
    rw [O.g1, Option.bind_some, T.2.1.o, gdT, T.2.1.size, Option.bind_some, aC_id]
    obtain ⟨h2, e, S2, L2⟩ := y_count (E := dE zs (n + 1)) (e := .inr (.inr (17, [.ref (A 0), .int (nI x)]))) (B := fun p => iBd w p x) (N := nP w) S1 (by omega) (fun h' nx' j hj S' hq => ⟨h', z_17 S' G hq hj, S'.1, fun _ _ => rfl⟩)
    rw [e, aC_some]
    exact An.l1 S1 S2 L2 rfl (by omega)
  · simp (decide := true) only [if_true, if_false]
    rw [S1.g2, Option.bind_some, R.g15, Option.bind_some, R.2.2.1.o, gdT, R.2.2.1.size, Option.bind_some, aC_id]
    obtain ⟨h2, e, S2, L2⟩ := y_count (E := dE zs (n + 1)) (e := .inr (.inr (18, [.ref (A 0), .int (nI x)]))) (B := fun i => decide (lF w i 1 = nI x)) (N := nL w) S1 (by omega) (fun h' nx' j hj S' hq => ⟨h', z_18 S' hq hj, S'.1, fun _ _ => rfl⟩)
    rw [e, aC_some, V x hx]
    exact An.l1 S1 S2 L2 rfl (by omega)
  · simp (decide := true) only [if_true, if_false]
    rw [S1.g2, Option.bind_some, R.g12, Option.bind_some, R.a12 (by omega), Option.bind_some, (Q.2.2.2.1 x hx).2.1]
    have hb := (b01 (Z.1 x 6 (by omega) (by decide))).1
    rw [hb, one_b, Option.bind_some]
    exact An.rd S1 rfl
  · simp (decide := true) only [if_true, if_false]
    rw [S1.g2, Option.bind_some, R.g11, Option.bind_some, R.a11 (by omega), Option.bind_some, (Q.2.2.2.1 x hx).1]
    exact An.rd S1 rfl
theorem y_house (S : SN A I M w st h nx) (G : Gd w) : An A I M w h nx (f_X1_house E h nx (A 0) a b) (an_house w a b) := by
  have Z := G.1
  rw [f_X1_house, lg_r b (nI 20) (nI 25) (by decide) (by decide), Option.bind_some, lg_r b 0 (nI 11) (by decide) (by decide), Option.bind_some]
  have key : ¬ (ir b 0 (nI 11) = false ∧ ir b (nI 20) (nI 25) = false) → An A I M w h nx (f_X1_house_33 (f_X1_house_46 E) E (A 0) a b (bI (ir b (nI 20) (nI 25))) (A 0) h nx) (an_house w a b) := by
    intro hn
    unfold f_X1_house_33 an_house
    rw [if_neg hn, S.i0, gdT, c_isHouse S Z, Option.bind_some]
    cases hh : isHs w a
    · rw [if_pos (show bI false = 0 from rfl), if_pos (show false = false from rfl)]
      exact An.cn S (by decide)
    rw [if_neg (show ¬ bI true = 0 by decide), if_neg (show ¬ true = false by nofun)]
    obtain ⟨p, hp, rfl⟩ := (hs_t Z).mp hh
    have b1 := Z.gP.2
    have h11 := Z.p11 (p := p) (by omega)
    unfold f_X1_house_46
    refine An.can0 S (fun h1 S1 q1 => ?_)
    obtain ⟨⟨aH, eH, aP, eP, rN, rA, hm, hs, nh, np, tl, O, T, TI, ho, hM⟩, F, wk, rf, sc, la, oa, R, Q, L, K, s0, il, io, hOwn, hno⟩ := id S1.1
    obtain ⟨w0, w1, w2, w3, w4, w5, w6, w7, w8⟩ := Q.2.1 p hp
    simp only [Nat.add_zero, nI_clamp (show p < 2 ^ 31 by omega)]
    cases h20 : ir b (nI 20) (nI 25)
    · rw [if_pos (show bI false = 0 from rfl), if_neg (show ¬ false = true by nofun), S1.i0, gdT, T.houseAt O hp, Option.bind_some]
      have h0 : ir b 0 (nI 11) = true := by
        cases hz : ir b 0 (nI 11) with
        | true => rfl
        | false => exact absurd ⟨hz, h20⟩ hn
      obtain ⟨k, hk, rfl⟩ := (ir_c (by decide)).mp h0
      have hx' : k = 0 ∨ k = 1 ∨ k = 2 ∨ k = 3 ∨ k = 4 ∨ k = 5 ∨ k = 6 ∨ k = 7 ∨ k = 8 ∨ k = 9 ∨ k = 10 ∨ k = 11 := by omega
      rcases hx' with rfl | rfl | rfl | rfl | rfl | rfl | rfl | rfl | rfl | rfl | rfl | rfl
      · simp (decide := true) only [if_true, if_false]
        rw [T.o6 hp, gdT, T.band hp]
        exact An.rd S1 rfl
      · simp (decide := true) only [if_true, if_false]
        rw [S1.g2, Option.bind_some, R.o1, gdT, c_bandNow R Q O T Z hp]
        exact An.rd S1 rfl
      · simp (decide := true) only [if_true, if_false]
        rw [S1.g2, Option.bind_some, R.g10, Option.bind_some, R.a10 (by omega), w6]
        exact An.rd S1 rfl
      · simp (decide := true) only [if_true, if_false]
        rw [T.o6 hp, gdT, T.tie hp]
        exact An.rd S1 rfl
      · simp (decide := true) only [if_true, if_false]
        rw [T.o6 hp, gdT, T.day hp]
        exact An.rd S1 rfl
      · simp (decide := true) only [if_true, if_false]
        rw [S1.g2, Option.bind_some, R.g1, Option.bind_some, R.a1 (by omega), w0, Option.bind_some, gdT, aC_id]
        rcases Z.p4 (p := p) (by omega) with e | ⟨e, e2⟩
        · rw [if_pos e, e]
          exact An.told S1 _ (o := none) (fun z hz => by cases hz) rfl
        · rw [if_neg (by rw [e]; exact nI_m1 (by omega)), e]
          exact An.told S1 _ (o := some (pN w p 4)) (fun z hz => by cases hz; omega) rfl
      · simp (decide := true) only [if_true, if_false]
        rw [S1.g2, Option.bind_some, R.g2, Option.bind_some, R.a2 (by omega), w1]
        exact An.rd S1 rfl
      · simp (decide := true) only [if_true, if_false]
        rw [S1.g2, Option.bind_some, R.g3, Option.bind_some, R.a3 (by omega), w2]
        exact An.rd S1 rfl
      · simp (decide := true) only [if_true, if_false]
        rw [S1.g2, Option.bind_some, R.g13, Option.bind_some, R.a13 (by omega), w7, Option.bind_some]
        have hb := (b01 (Z.2.1 p 8 (by omega) (by decide))).1
        rw [hb, one_b, Option.bind_some]
        exact An.rd S1 rfl
      · simp (decide := true) only [if_true, if_false]
        rw [S1.g2, Option.bind_some, R.o1, gdT, c_bidMany R Q Z hp]
        exact An.rd S1 rfl
      · simp (decide := true) only [if_true, if_false]
        rw [S1.g2, Option.bind_some, R.g6, Option.bind_some, R.a6 (by omega), w5]
        exact An.rd S1 rfl
      · simp (decide := true) only [if_true, if_false]
        rw [S1.g2, Option.bind_some, R.g4, Option.bind_some, R.a4 (by omega), w3]
        exact An.rd S1 rfl
    · rw [if_neg (show ¬ bI true = 0 by decide), if_pos (show true = true from rfl)]
      have h20' := h20
      unfold ir at h20'
      rw [Bool.and_eq_true, Bool.not_eq_true', Bool.not_eq_true', decide_eq_false_iff_not, decide_eq_false_iff_not] at h20'
      obtain ⟨j, hj, rfl⟩ := nI_of (show ¬ b < 0 from fun z => h20'.1 (Int32.lt_trans z (by decide)))
      have g1 : 20 ≤ j := Nat.not_lt.mp (fun z => h20'.1 (nI_lt z (by decide)))
      have g2 : j ≤ 25 := Nat.not_lt.mp (fun z => h20'.2 (nI_lt z hj))
      have g3 : nI j - nI 20 = nI (j - 20) := by rw [show nI j = nI 20 + nI (j - 20) by rw [nI_add, show 20 + (j - 20) = j by omega]]; grind
      rw [S1.g2, Option.bind_some, R.g6, Option.bind_some, R.a6 (by omega), w5, Option.bind_some, g3, nI_clamp hj]
      by_cases hw : nI (j - 20) < pF w p 11
      · rw [if_neg (Int32.not_le.mpr hw), if_pos hw]
        have hi : j - 20 < pN w p 11 := by rw [h11.1] at hw; exact (nI_ltI (by omega) (by omega)).mp hw
        rw [Option.bind_some, R.o1, gdT, c_wishAt R Q Z hp hi, Option.bind_some]
        obtain ⟨e1, e2⟩ := Z.pw (p := p) (k := j - 20) (by omega) (by omega)
        unfold f_X1_house_91
        rw [S1.i0, gdT, aC_id, e1]
        exact An.told S1 _ (o := some _) (fun z hz => by cases hz; omega) rfl
      · rw [if_pos (Int32.not_lt.mp hw), if_neg hw]
        unfold f_X1_house_91
        rw [S1.i0, gdT, aC_id]
        exact An.told S1 _ (o := none) (fun z hz => by cases hz) rfl
  cases h1 : ir b 0 (nI 11)
  · rw [if_pos (show bI false = 0 from rfl)]
    cases h2 : ir b (nI 20) (nI 25)
    · rw [if_pos (show bI false = 0 from rfl)]
      unfold an_house
      rw [if_pos ⟨h1, h2⟩]
      exact An.cn S (by decide)
    · rw [if_neg (show ¬ bI true = 0 by decide), ← h2]
      exact key (fun z => by rw [z.2] at h2; cases h2)
  · rw [if_neg (show ¬ bI true = 0 by decide)]
    exact key (fun z => by rw [z.1] at h1; cases h1)
end PRC2
