/-! THE COMPONENT's side: many, home, house, rule, why, bids, turn -/
/-- lets of a home are counted -/
def Iv1 (w : Rw) : Prop := ∀ h, h < nH w → hF w h 4 = nI (cnN (fun i => decide (lF w i 1 = nI h)) (nL w))
section PRC1
variable {A : Nat → Nat} {I : Nat → Int32} {M : Nat → Prop} {w : Rw} {st : Int32} {h h1 h2 h' : AH} {nx nx' n1 n2 : Nat} {E : bE} {v a b u : Int32} {p x y N k : Nat} {f : Option (Int32 × AH × Nat × Nat)} {zs : Nat → Nat} {n : Nat}
theorem An.of (q : QS A h nx h1 nx) {an : Int32 × Int32} (B : An A I M w h1 nx f an) : An A I M w h nx f an := by
  obtain ⟨h2, c, d, e, s, q2, b1, b2⟩ := B
  exact ⟨h2, c, d, e, s, q.trans q2, b1, b2⟩
theorem An.can0 {K : Int32 × AH × Nat × Nat → Option (Int32 × AH × Nat × Nat)} {an : Int32 × Int32} (S : SN A I M w st h nx) (hk : ∀ h1, SN A I M w 0 h1 nx → QS A h nx h1 nx → An A I M w h1 nx (K (1, h1, 0, 0)) an) : An A I M w h nx (gd (isO h (A 0) 0) ((f_X1_can E h nx (A 0) 0).bind fun v2 => aC v2.2.2.1 v2.2.2.2 (if v2.1 = 0 then some (-1, v2.2.1, 0, 0) else K v2))) an := by
  obtain ⟨h1, e1, S1, q1⟩ := S.can E 0
  rw [S.i0, gdT, e1, Option.bind_some]
  dsimp only
  rw [aC00, if_neg (show ¬ bI (decide ((0 : Int32) = 0)) = 0 by decide)]
  exact An.of q1 (hk h1 S1 q1)
theorem An.cn {K : Int32 × AH × Nat × Nat → Option (Int32 × AH × Nat × Nat)} (S : SN A I M w st h nx) (hv : ¬ v = 0) : An A I M w h nx (gd (isO h (A 0) 0) ((f_X1_can E h nx (A 0) v).bind fun v2 => aC v2.2.2.1 v2.2.2.2 (if v2.1 = 0 then some (-1, v2.2.1, 0, 0) else K v2))) (-1, v) := by
  obtain ⟨h1, e1, S1, q1⟩ := S.can E v
  rw [S.i0, gdT, e1, Option.bind_some]
  dsimp only
  rw [aC00, decide_eq_false hv, if_pos (show bI false = 0 from rfl)]
  exact An.at S1 q1 rfl
theorem An.can1 {K : Int32 × AH × Nat × Nat → Option (Int32 × AH × Nat × Nat)} {an : Int32 × Int32} (S : SN A I M w st h nx) (hk : ∀ h1, SN A I M w 0 h1 nx → QS A h nx h1 nx → An A I M w h1 nx (K (1, h1, 0, 0)) an) : An A I M w h nx ((f_X1_can E h nx (A 0) 0).bind fun v2 => aC v2.2.2.1 v2.2.2.2 (if v2.1 = 0 then some (-1, v2.2.1, 0, 0) else K v2)) an := by
  have := An.can0 (E := E) (K := K) S hk
  rw [S.i0, gdT] at this
  exact this
theorem An.cn1 {K : Int32 × AH × Nat × Nat → Option (Int32 × AH × Nat × Nat)} (S : SN A I M w st h nx) (hv : ¬ v = 0) : An A I M w h nx ((f_X1_can E h nx (A 0) v).bind fun v2 => aC v2.2.2.1 v2.2.2.2 (if v2.1 = 0 then some (-1, v2.2.1, 0, 0) else K v2)) (-1, v) := by
  have := An.cn (E := E) (K := K) S hv
  rw [S.i0, gdT] at this
  exact this
theorem An.rd (S1 : SN A I M w v h nx) (e : f = some (a, h, 0, 0)) : An A I M w h nx f (a, v) := An.at S1 QS.rfl' e
theorem An.l1 {d : Nat} (S : SN A I M w v h nx) (S2 : SN A I M w v h2 (nx + 1)) (L2 : Lt (A 1) h nx h2 (nx + 1)) (e : f = some (a, h2, 1, d)) (hd : d ≤ 8000) : An A I M w h nx f (a, v) := ⟨h2, 1, d, e, S2, L2.qs, by omega, hd⟩
theorem An.told (S : SN A I M w 0 h nx) (E : bE) {o : Option Nat} (ho : ∀ z, o = some z → z < 2 ^ 31) (e : f = f_X1_toldOr E h nx (A 0) (eO o)) : An A I M w h nx f (tO o) := by
  obtain ⟨h1, e1, S1, q1⟩ := S.told E ho
  exact ⟨h1, 0, 0, e.trans e1, S1, q1, by omega, by omega⟩
theorem aC_id (o : Option (Int32 × AH × Nat × Nat)) : (o.bind fun v => aC v.2.2.1 v.2.2.2 (some (v.1, v.2.1, 0, 0))) = o := by
  cases o with
  | none => rfl
  | some v => simp [aC]
/-- functions of a register alone -/
theorem z_15 (X : RA A M w h nx) (G : Gd w) {q : Nat} (hq : h q = some (.inr (.inr (15, [.ref (A 1)])))) (hx : x < nH w) : (dE zs (n + 1)).2.1 h nx q (nI x) = some (bI (isFr w x), h, 0, 0) := by
  obtain ⟨⟨aH, eH, aP, eP, rN, rA, hm, hs, nh, np, tl, O, T, TI, ho, hM⟩, F, wk, rf, sc, la, oa, R, Q, L, K, s0, il, io, hOwn, hno⟩ := id X
  rw [E_is hq]
  show lL15 (dE zs n) h nx [.ref (A 1)] (nI x) = _
  simp only [lL15, f_X1_lambda_freeHomes_3, R.o1, gdT, c_isFree R Q O T G.1 G.2.1 hx, Option.bind_some]
theorem z_16 (X : RA A M w h nx) (G : Gd w) {q : Nat} (hq : h q = some (.inr (.inr (16, [.ref (A 1)])))) (hp : p < nP w) : (dE zs (n + 1)).2.1 h nx q (nI p) = some (bI (isIn_ w p), h, 0, 0) := by
  obtain ⟨⟨aH, eH, aP, eP, rN, rA, hm, hs, nh, np, tl, O, T, TI, ho, hM⟩, F, wk, rf, sc, la, oa, R, Q, L, K, s0, il, io, hOwn, hno⟩ := id X
  have b2 := G.1.gP.2
  rw [E_is hq]
  show lL16 (dE zs n) h nx [.ref (A 1)] (nI p) = _
  simp only [lL16, f_X1_lambda_inQueue_4, R.g13, Option.bind_some]
  rw [R.a13 (by omega), (Q.2.1 p hp).2.2.2.2.2.2.2.1, Option.bind_some, bI_ite]
  rfl
theorem z_22 (X : RA A M w h nx) {q : Nat} (hq : h q = some (.inr (.inr (22, [.ref (A 1)])))) (hx : x < nL w) : (dE zs (n + 1)).2.2.2 h nx q (nI x) = some (lF w x 3, h, 0, 0) := by
  obtain ⟨⟨aH, eH, aP, eP, rN, rA, hm, hs, nh, np, tl, O, T, TI, ho, hM⟩, F, wk, rf, sc, la, oa, R, Q, L, K, s0, il, io, hOwn, hno⟩ := id X
  rw [E_of hq]
  show lL22 (dE zs n) h nx [.ref (A 1)] (nI x) = _
  have hl := L.2 x hx
  simp only [lL22, f_X1_lambda_greatestChain_6, R.o1, gdT, f_X2_chainOf, R.g15, Option.bind_some, R.2.2.1.o, R.2.2.1.get hx]
  simp [isO, hl, gI, rd, vI, gd]
theorem z_25 (X : RA A M w h nx) (G : Gd w) {q : Nat} (hq : h q = some (.inr (.inr (25, [.ref (A 1)])))) (hp : p < nP w) : (dE zs (n + 1)).2.2.2 h nx q (nI p) = some (pF w p 9, h, 0, 0) := by
  obtain ⟨⟨aH, eH, aP, eP, rN, rA, hm, hs, nh, np, tl, O, T, TI, ho, hM⟩, F, wk, rf, sc, la, oa, R, Q, L, K, s0, il, io, hOwn, hno⟩ := id X
  have b2 := G.1.gP.2
  rw [E_of hq]
  show lL25 (dE zs n) h nx [.ref (A 1)] (nI p) = _
  simp only [lL25, f_X1_lambda_passedBy_5, R.g4, Option.bind_some]
  rw [R.a4 (by omega), (Q.2.1 p hp).2.2.2.1]
  rfl
theorem y_freeHomes (X : RA A M w h nx) (G : Gd w) : ∃ h2, f_X1_freeHomes (dE zs (n + 1)) h nx (A 0) (A 1) = some (nI (cnN (isFr w) (nH w)), h2, 1, 1) ∧ RA A M w h2 (nx + 1) ∧ Lt (A 1) h nx h2 (nx + 1) := by
  have hne := X.ne
  obtain ⟨⟨aH, eH, aP, eP, rN, rA, hm, hs, nh, np, tl, O, T, TI, ho, hM⟩, F, wk, rf, sc, la, oa, R, Q, L, K, s0, il, io, hOwn, hno⟩ := id X
  obtain ⟨h2, e, X2, L2⟩ := y_countR (E := dE zs (n + 1)) (e := .inr (.inr (15, [.ref (A 1)]))) (B := isFr w) (N := nH w) X (by have := G.1.gH.2; omega) (fun h' nx' j hj X' L' => ⟨h', z_15 X' G (by rw [L'.2 nx (by omega) (by omega)]; exact hu_s) hj, X', fun _ _ => rfl⟩)
  refine ⟨h2, ?_, X2, L2⟩
  simp only [f_X1_freeHomes, O.g0, Option.bind_some, T.1.o, gdT, T.1.size, e]
  rfl
theorem y_inQueue (X : RA A M w h nx) (G : Gd w) : ∃ h2, f_X1_inQueue (dE zs (n + 1)) h nx (A 0) (A 1) = some (nI (cnN (isIn_ w) (nP w)), h2, 1, 1) ∧ RA A M w h2 (nx + 1) ∧ Lt (A 1) h nx h2 (nx + 1) := by
  have hne := X.ne
  obtain ⟨⟨aH, eH, aP, eP, rN, rA, hm, hs, nh, np, tl, O, T, TI, ho, hM⟩, F, wk, rf, sc, la, oa, R, Q, L, K, s0, il, io, hOwn, hno⟩ := id X
  obtain ⟨h2, e, X2, L2⟩ := y_countR (E := dE zs (n + 1)) (e := .inr (.inr (16, [.ref (A 1)]))) (B := isIn_ w) (N := nP w) X (by have := G.1.gP.2; omega) (fun h' nx' j hj X' L' => ⟨h', z_16 X' G (by rw [L'.2 nx (by omega) (by omega)]; exact hu_s) hj, X', fun _ _ => rfl⟩)
  refine ⟨h2, ?_, X2, L2⟩
  simp only [f_X1_inQueue, O.g1, Option.bind_some, T.2.1.o, gdT, T.2.1.size, e]
  rfl
theorem y_passedBy (X : RA A M w h nx) (G : Gd w) : ∃ h2, f_X1_passedBy (dE zs (n + 1)) h nx (A 0) (A 1) = some (sm32 (fun p => pF w p 9) (nP w), h2, 1, 1) ∧ RA A M w h2 (nx + 1) ∧ Lt (A 1) h nx h2 (nx + 1) := by
  have hne := X.ne
  obtain ⟨⟨aH, eH, aP, eP, rN, rA, hm, hs, nh, np, tl, O, T, TI, ho, hM⟩, F, wk, rf, sc, la, oa, R, Q, L, K, s0, il, io, hOwn, hno⟩ := id X
  obtain ⟨h2, e, X2, L2⟩ := y_sumR (E := dE zs (n + 1)) (e := .inr (.inr (25, [.ref (A 1)]))) (g := fun p => pF w p 9) (N := nP w) X (by have := G.1.gP.2; omega) (fun h' nx' j hj X' L' => ⟨h', z_25 X' G (by rw [L'.2 nx (by omega) (by omega)]; exact hu_s) hj, X', fun _ _ => rfl⟩)
  refine ⟨h2, ?_, X2, L2⟩
  simp only [f_X1_passedBy, O.g1, Option.bind_some, T.2.1.o, gdT, T.2.1.size, e]
  rfl
theorem y_chain (X : RA A M w h nx) (G : Gd w) : ∃ h2, f_X1_greatestChain (dE zs (n + 1)) h nx (A 0) (A 1) = some (gr32 (fun i => lF w i 3) (nL w), h2, 1, 1) ∧ RA A M w h2 (nx + 1) ∧ Lt (A 1) h nx h2 (nx + 1) := by
  have hne := X.ne
  obtain ⟨⟨aH, eH, aP, eP, rN, rA, hm, hs, nh, np, tl, O, T, TI, ho, hM⟩, F, wk, rf, sc, la, oa, R, Q, L, K, s0, il, io, hOwn, hno⟩ := id X
  obtain ⟨h2, e, X2, L2⟩ := y_greatR (E := dE zs (n + 1)) (e := .inr (.inr (22, [.ref (A 1)]))) (g := fun i => lF w i 3) (N := nL w) X (by have := G.1.gL.2; omega) (fun h' nx' j hj X' L' => ⟨h', z_22 X' (by rw [L'.2 nx (by omega) (by omega)]; exact hu_s) hj, X', fun _ _ => rfl⟩)
  refine ⟨h2, ?_, X2, L2⟩
  simp only [f_X1_greatestChain, R.g15, Option.bind_some, R.2.2.1.o, gdT, R.2.2.1.size, e]
  rfl
theorem z_14 (S : SN A I M w st h nx) (G : Gd w) {q : Nat} (hq : h q = some (.inr (.inr (14, [.ref (A 0)])))) (hp : p < nP w) : (dE zs (n + 1)).2.2.2 h nx q (nI p) = some (nI (pc (pN w p 10)), h, 0, 0) := by
  obtain ⟨⟨aH, eH, aP, eP, rN, rA, hm, hs, nh, np, tl, O, T, TI, ho, hM⟩, F, wk, rf, sc, la, oa, R, Q, L, K, s0, il, io, hOwn, hno⟩ := id S.1
  rw [E_of hq]
  show lL14 (dE zs n) h nx [.ref (A 0)] (nI p) = _
  simp only [lL14, S.i0, gdT, f_X1_lambda_many_7, S.g2, Option.bind_some, R.o1, c_bidMany R Q G.1 hp]
theorem y_many (S : SN A I M w st h nx) (G : Gd w) {m : Int32} {eQ nq : Nat} (hQ : h (A 9) = some (lO m eQ nq)) (hQn : A 9 < nx ∧ A 9 ≠ A 1 ∧ A 9 ≠ A 0) : An A I M w h nx (f_X1_many (dE zs (n + 1)) h nx (A 0) a) (an_many w (nI nq) a) := by
  have Z := G.1
  rw [f_X1_many, lg_c a 0 (nI 9) (by decide) (by decide), Option.bind_some]
  by_cases hv : (!decide (a < 0) && !decide (nI 9 < a)) = true
  · rw [hv, if_neg (show ¬ bI true = 0 by decide)]
    obtain ⟨x, hx, rfl⟩ := (rg_c (by decide)).mp hv
    refine An.can0 S (fun h1 S1 q1 => ?_)
    have X1 := S1.1
    obtain ⟨⟨aH, eH, aP, eP, rN, rA, hm, hs, nh, np, tl, O, T, TI, ho, hM⟩, F, wk, rf, sc, la, oa, R, Q, L, K, s0, il, io, hOwn, hno⟩ := id S1.1
    simp only [Nat.add_zero]
    have hx' : x = 0 ∨ x = 1 ∨ x = 2 ∨ x = 3 ∨ x = 4 ∨ x = 5 ∨ x = 6 ∨ x = 7 ∨ x = 8 ∨ x = 9 := by omega
    rcases hx' with rfl | rfl | rfl | rfl | rfl | rfl | rfl | rfl | rfl | rfl
    · rw [if_pos (by decide), O.g0, Option.bind_some, T.1.o, gdT, T.1.size]
      exact An.rd S1 (by rw [← Z.gH.1]; rfl)
    · rw [if_neg (by decide), if_pos (by decide), O.g1, Option.bind_some, T.2.1.o, gdT, T.2.1.size]
      exact An.rd S1 (by rw [← Z.gP.1]; rfl)
    · rw [if_neg (by decide), if_neg (by decide), if_pos rfl, S1.g2, Option.bind_some, R.g17, Q.2.2.2.2.2.1]
      exact An.rd S1 rfl
    · rw [if_neg (by decide), if_neg (by decide), if_neg (by decide), if_pos rfl, S1.g2, Option.bind_some, R.g15, Option.bind_some, R.2.2.1.o, gdT, R.2.2.1.size]
      exact An.rd S1 (by rw [← Z.gL.1]; rfl)
    · rw [if_neg (by decide), if_neg (by decide), if_neg (by decide), if_neg (by decide), if_pos rfl, O.g1, Option.bind_some, T.2.1.o, gdT, T.2.1.size, Option.bind_some, aC_id]
      obtain ⟨h2, e, S2, L2⟩ := y_sum (E := dE zs (n + 1)) (e := .inr (.inr (14, [.ref (A 0)]))) (g := fun p => nI (pc (pN w p 10))) (N := nP w) S1 (by have := Z.gP.2; omega) (fun h' nx' j hj S' hq => ⟨h', z_14 S' G hq hj, S'.1, fun _ _ => rfl⟩)
      rw [e, aC_some, sm32_n]
      exact An.l1 S1 S2 L2 rfl (by omega)
    · rw [if_neg (by decide), if_neg (by decide), if_neg (by decide), if_neg (by decide), if_neg (by decide), if_pos rfl, S1.g2, Option.bind_some, S1.i0, gdT, aC_id]
      obtain ⟨h2, e, X2, L2⟩ := y_freeHomes (zs := zs) (n := n) X1 G
      rw [e]
      exact An.l1 S1 (S1.lt X2 L2) L2 rfl (by omega)
    · rw [if_neg (by decide), if_neg (by decide), if_neg (by decide), if_neg (by decide), if_neg (by decide), if_neg (by decide), if_pos rfl, S1.g2, Option.bind_some, S1.i0, gdT, aC_id]
      obtain ⟨h2, e, X2, L2⟩ := y_inQueue (zs := zs) (n := n) X1 G
      rw [e]
      exact An.l1 S1 (S1.lt X2 L2) L2 rfl (by omega)
    · have hq1 : h1 (A 9) = some (lO m eQ nq) := by rw [q1.2 _ hQn.1 hQn.2.1 hQn.2.2]; exact hQ
      rw [if_neg (by decide), if_neg (by decide), if_neg (by decide), if_neg (by decide), if_neg (by decide), if_neg (by decide), if_neg (by decide), if_pos rfl, S1.g4, Option.bind_some, l_o hq1, gdT]
      simp only [f_J2_size, l_g2 hq1, Option.bind_some]
      exact An.rd S1 rfl
    · rw [if_neg (by decide), if_neg (by decide), if_neg (by decide), if_neg (by decide), if_neg (by decide), if_neg (by decide), if_neg (by decide), if_neg (by decide), if_pos rfl, S1.g2, Option.bind_some, R.g18, Q.2.2.2.2.2.2]
      exact An.rd S1 rfl
    · rw [if_neg (by decide), if_neg (by decide), if_neg (by decide), if_neg (by decide), if_neg (by decide), if_neg (by decide), if_neg (by decide), if_neg (by decide), if_neg (by decide), S1.g2, Option.bind_some, R.g16, Option.bind_some, R.2.2.2.1.o, gdT, R.2.2.2.1.size]
      exact An.rd S1 (by rw [← Z.gO.1]; rfl)
  · rw [Bool.eq_false_iff.mpr hv, if_pos (show bI false = 0 from rfl)]
    have ha : an_many w (nI nq) a = (-1, 1) := by
      have hn : ∀ x, x ≤ 9 → ¬ a = nI x := fun x hx e => hv ((rg_c (by decide)).mpr ⟨x, hx, e⟩)
      unfold an_many
      rw [if_neg (show ¬ a = 0 from hn 0 (by decide)), if_neg (show ¬ a = 1 from hn 1 (by decide)), if_neg (hn 2 (by decide)), if_neg (hn 3 (by decide)), if_neg (hn 4 (by decide)), if_neg (hn 5 (by decide)), if_neg (hn 6 (by decide)), if_neg (hn 7 (by decide)), if_neg (hn 8 (by decide)), if_neg (hn 9 (by decide))]
    rw [ha]
    exact An.cn S (by decide)
end PRC1
