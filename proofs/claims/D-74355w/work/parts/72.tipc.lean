/-! tip: the component's side -/
section PTC
variable {A : Nat → Nat} {I : Nat → Int32} {M : Nat → Prop} {w : Rw} {st : Int32} {h h1 h2 h' : AH} {nx nx' n0 n1 n2 : Nat} {E : bE} {v a b u : Int32} {p x y N k q less : Nat} {f : Option (Int32 × AH × Nat × Nat)} {zs : Nat → Nat} {n : Nat}
def sbE (g : Nat → Option Nat) : hE := .inl (6, 2, .inr (.inr (.inr (.inr g))))
theorem s6 {c : Nat} {g : Nat → Option Nat} (q : h c = some (sbE g)) (hi : k < 2) (v : Option Nat) : sR h c 6 (nI k) v = some (hu h c (sbE (va_up g k v))) := by
  simp only [sR, arR, q, sbE, if_true, Option.bind_some]
  rw [gdn ⟨hi, by decide⟩, nI_clamp (by omega)]
theorem c_turn2 {E1 : bE} {q q0 q1 c0 s0 : Nat} {v v2 d0 d1 : Int32} {g : Nat → Option Nat} (hq : h q = some (sbE g)) (hq1 : h1 q = h q) (g0 : g 0 = some q0) (g1 : g 1 = some q1)
    (e0 : E1.2.2.1 h nx q0 v v2 = some (d0, h1, c0, s0)) (e1 : E1.2.2.1 h1 (nx + c0) q1 v v2 = some (d1, h1, 0, 0)) :
    f_X1_lambda_inTurn_0 E1 h nx q v v2 = some (if d0 = 0 then d1 else d0, h1, c0, s0) := by
  have hl : aL h q = some (nI 2) := by simp [aL, hq, sbE]; rfl
  have ha : ∀ (h2 : AH) (j qj : Nat), h2 q = h q → g j = some qj → j < 2 → aR h2 q 6 (nI j) = some qj := by
    intro h2 j qj h2q hg hj
    simp only [aR, arR, h2q.trans hq, sbE, if_true, Option.bind_some]
    rw [gdn ⟨hj, by decide⟩, nI_clamp (by omega)]
    exact hg
  simp only [f_X1_lambda_inTurn_0, hl, Option.bind_some]
  show f_X1_lambda_inTurn_0_9 (9997 + 3) E1 v v2 q (nI 2) (nI 0) h nx = _
  rw [f_X1_lambda_inTurn_0_9, if_neg (show ¬ nI 2 ≤ nI 0 by decide), ha h 0 q0 rfl g0 (by decide), Option.bind_some, e0, Option.bind_some]
  dsimp only
  by_cases h0 : d0 = 0
  · rw [if_pos h0, if_pos h0, nI_1, f_X1_lambda_inTurn_0_9, if_neg (show ¬ nI 2 ≤ nI (0 + 1) by decide), ha h1 (0 + 1) q1 hq1 g1 (by decide), Option.bind_some, e1, Option.bind_some]
    dsimp only
    rw [aC00]
    by_cases h1' : d1 = 0
    · rw [if_pos h1', nI_1, f_X1_lambda_inTurn_0_9, if_pos (show nI 2 ≤ nI (0 + 1 + 1) by decide), aC_some, h1']; rfl
    · rw [if_neg h1', aC_some]; rfl
  · rw [if_neg h0, if_neg h0, aC_some]; rfl
theorem sub_l0 {a b : Nat} (ha : a < 2 ^ 30) (hb : b < 2 ^ 30) : (nI a - nI b < 0 ↔ a < b) ∧ (nI a - nI b = 0 ↔ a = b) := by
  have e := pk_sub_toInt (a := a) (b := b) (by omega) (by omega)
  constructor
  · rw [Int32.lt_iff_toInt_lt, e, show (0 : Int32).toInt = 0 by decide]
    omega
  · rw [← Int32.toInt_inj, e, show (0 : Int32).toInt = 0 by decide]
    omega
theorem z_28 (S : SN A I M w st h nx) (G : Gd w) {q : Nat} (hq : h q = some (.inr (.inr (28, [.ref (A 0), .int (nI p)])))) (hp : p < nP w) (hx : x < nH w) : ∃ h', (dE zs (n + 2)).2.1 h nx q (nI x) = some (bI (tpC w p x), h', 0, 0) ∧ SN A I M w st h' nx ∧ Lt (A 1) h nx h' nx := by
  rw [E_is (n := n + 1) hq]
  show ∃ h', lL28 (dE zs (n + 1)) h nx [.ref (A 0), .int (nI p)] (nI x) = _ ∧ _
  obtain ⟨⟨aH, eH, aP, eP, rN, rA, hm, hs, nh, np, tl, O, T, TI, ho, hM⟩, F, wk, rf, sc, la, oa, R, Q, L, K, s0, il, io, hOwn, hno⟩ := id S.1
  simp only [lL28, S.i0, gdT, f_X1_lambda_tip_17, S.g2, Option.bind_some, R.o1, c_couldHave R Q O T G.1 hp hx, c_bidsFor R Q G.1 hp]
  unfold tpC
  cases hc : cHv w p x
  · rw [if_pos (show bI false = 0 from rfl), Bool.false_and]
    exact ⟨h, rfl, S, Lt.rfl'⟩
  · rw [if_neg (show ¬ bI true = 0 by decide)]
    cases hb : iBd w p x
    · rw [if_pos (show bI false = 0 from rfl)]
      obtain ⟨h2, e2, X2, k2⟩ := x_whyNot (zs := zs) (n := n) S.1 G.1 G.2.1 hp hx
      rw [e2, Option.bind_some]
      dsimp only
      have hwl := whN_lt (w := w) (p := p) (h := x)
      refine ⟨h2, ?_, S.lt X2 (Lt.one k2), Lt.one k2⟩
      rw [aC00]
      by_cases hw : whN w p x = 0
      · rw [hw, if_pos (show nI 0 = 0 from rfl)]; rfl
      · rw [if_neg (nI_ne0 (by omega) (by omega)), decide_eq_false hw]; rfl
    · rw [if_neg (show ¬ bI true = 0 by decide)]
      exact ⟨h, rfl, S, Lt.rfl'⟩
theorem z_30 (S : SN A I M w st h nx) (G : Gd w) {q : Nat} (hq : h q = some (.inr (.inr (30, [.ref (A 0), .int (nI p), .int (nI x)])))) (hp : p < nP w) (hx : x < nH w) (hy : y < nP w) : ∃ h'', (dE zs (n + 6)).2.1 h nx q (nI y) = some (bI (iBd w y x && decide (wgt w x y < wgt w x p)), h'', 0, 0) ∧ RA A M w h'' nx ∧ ∀ q, q ≠ A 1 → h'' q = h q := by
  have X := S.1
  have b1 := G.1.gP.2
  obtain ⟨⟨aH, eH, aP, eP, rN, rA, hm, hs, nh, np, tl, O, T, TI, ho, hM⟩, F, wk, rf, sc, la, oa, R, Q, L, K, s0, il, io, hOwn, hno⟩ := id S.1
  rw [E_is (n := n + 5) hq]
  show ∃ h'', lL30 (dE zs (n + 5)) h nx [.ref (A 0), .int (nI p), .int (nI x)] (nI y) = _ ∧ _
  simp only [lL30, S.i0, gdT, f_X1_lambda_aheadOf_16, S.g2, Option.bind_some, R.o1, c_bidsFor R Q G.1 hy]
  by_cases hyp : y = p
  · subst hyp
    rw [if_pos rfl]
    exact ⟨h, by simp [bI], X, fun _ _ => rfl⟩
  · rw [if_neg (fun z => hyp ((nI_eq (by omega) (by omega)).mp z))]
    cases hB : iBd w y x
    · rw [if_pos (show bI false = 0 from rfl)]
      exact ⟨h, rfl, X, fun _ _ => rfl⟩
    · rw [if_neg (show ¬ bI true = 0 by decide)]
      obtain ⟨h3, v, g1, g2, g3, g4, g5⟩ := x_compare (zs := zs) (n := n) X G.1 G.2.1 hy hp hx
      rw [g1, Option.bind_some]
      dsimp only
      rw [aC00]
      by_cases hv : v < 0
      · rw [if_neg (Int32.not_le.mpr hv), decide_eq_true (g4.mp hv)]
        exact ⟨h3, rfl, g2, g3⟩
      · rw [if_pos (Int32.not_lt.mp hv), decide_eq_false (fun z => hv (g4.mpr z))]
        exact ⟨h3, rfl, g2, g3⟩
theorem y_aheadOf (S : SN A I M w st h nx) (G : Gd w) (hp : p < nP w) (hx : x < nH w) : ∃ h', f_X1_aheadOf (dE zs (n + 6)) h nx (A 0) (nI p) (nI x) = some (nI (ahN w (fun q => iBd w q x) x p), h', 1, 3) ∧ SN A I M w st h' (nx + 1) ∧ Lt (A 1) h nx h' (nx + 1) := by
  have b1 := G.1.gP.2
  obtain ⟨h2, e, S2, L2⟩ := y_count (E := dE zs (n + 6)) (e := .inr (.inr (30, [.ref (A 0), .int (nI p), .int (nI x)]))) (B := fun q => iBd w q x && decide (wgt w x q < wgt w x p)) (N := nP w) S (by omega) (fun h' nx' j hj S' hq => z_30 S' G hq hp hx hj)
  refine ⟨h2, ?_, S2, L2⟩
  obtain ⟨⟨aH, eH, aP, eP, rN, rA, hm, hs, nh, np, tl, O, T, TI, ho, hM⟩, F, wk, rf, sc, la, oa, R, Q, L, K, s0, il, io, hOwn, hno⟩ := id S.1
  unfold f_X1_aheadOf
  rw [O.g1, Option.bind_some, T.2.1.o, gdT, T.2.1.size, Option.bind_some, e]
  rfl
theorem z_29 (S : SN A I M w st h nx) (G : Gd w) {q : Nat} (hq : h q = some (.inr (.inr (29, [.ref (A 0), .int (nI p)])))) (hp : p < nP w) (hx : x < nH w) : ∃ h', (dE zs (n + 7)).2.2.2 h nx q (nI x) = some (nI (ahN w (fun q => iBd w q x) x p), h', 1, 3) ∧ SN A I M w st h' (nx + 1) ∧ Lt (A 1) h nx h' (nx + 1) := by
  rw [E_of (n := n + 6) hq]
  show ∃ h', lL29 (dE zs (n + 6)) h nx [.ref (A 0), .int (nI p)] (nI x) = _ ∧ _
  obtain ⟨h2, e2, S2, L2⟩ := y_aheadOf (zs := zs) (n := n) S G hp hx
  refine ⟨h2, ?_, S2, L2⟩
  simp only [lL29, S.i0, gdT, f_X1_lambda_tip_18]
  rw [e2]
  rfl
theorem z_31 (S : SN A I M w st h nx) (G : Gd w) {q : Nat} (hq : h q = some (.inr (.inr (31, [.ref (A 0), .int (nI p)])))) (hp : p < nP w) (hx : x < nH w) : (dE zs (n + 1)).2.2.2 h nx q (nI x) = some (nI (dea w p x), h, 0, 0) := by
  rw [E_of hq]
  show lL31 (dE zs n) h nx [.ref (A 0), .int (nI p)] (nI x) = _
  simp only [lL31, S.i0, gdT, f_X1_lambda_tip_19, c_dearness S G hp hx, Option.bind_some]
theorem dea_lt (Z : Rng w) (hp : p < nP w) (hx : x < nH w) : dea w p x < 10 := by
  have b1 := Z.gP.2
  have b2 := Z.gH.2
  have h11 := Z.p11 (p := p) (by omega)
  unfold dea
  cases hw : wsh w p x with
  | none => show x < 10; omega
  | some k =>
    have := (fdN_some hw).2.1
    show k < 10
    omega
theorem y_tip (S : SN A I M w st h nx) (G : Gd w) (V : Iv2 w) : An A I M w h nx (f_X1_tip (dE zs (n + 9)) h nx (A 0) a) (an_tip w a) := by
  have Z := G.1
  have hne := S.1.ne
  unfold f_X1_tip an_tip
  rw [S.i0, gdT, c_isHouse S Z, Option.bind_some]
  cases hh : isHs w a
  · rw [if_pos (show bI false = 0 from rfl), if_pos (show false = false from rfl)]
    exact An.cn S (v := nI 2) (by decide)
  rw [if_neg (show ¬ bI true = 0 by decide), if_neg (show ¬ true = false by nofun)]
  obtain ⟨p, hp, rfl⟩ := (hs_t Z).mp hh
  have b1 := Z.gP.2
  have b2 := Z.gH.2
  rw [nI_clamp (show p < 2 ^ 31 by omega), ← tp_am Z G.2.1 V hp]
  unfold f_X1_tip_14
  refine An.can0 S (fun h1 S1 q1 => ?_)
  have hne1 := S1.1.ne
  simp only [Nat.add_zero, bd, f_X1_rising, f_X1_inTurn, aC_some, Option.bind_some]
  generalize eA : hu h1 nx (.inr (.inr (28, [.ref (A 0), .int (nI p)]))) = hA
  have SA : SN A I M w 0 hA (nx + 1) := eA ▸ S1.new
  have a0 : hA nx = some (.inr (.inr (28, [.ref (A 0), .int (nI p)]))) := eA ▸ hu_s
  have ak : ∀ q, q < nx → hA q = h1 q := fun q hq => eA ▸ hu_n (by omega)
  obtain ⟨⟨aH, eH, aP, eP, rN, rA, hm, hs, nh, np, tl, O, T, TI, ho, hM⟩, F, wk, rf, sc, la, oa, R, Q, L, K, s0, il, io, hOwn, hno⟩ := id SA.1
  rw [O.g0, Option.bind_some, T.1.o, gdT, T.1.size, Option.bind_some]
  rw [show (Sum.inl (6, 2, Sum.inr (Sum.inr (Sum.inr (Sum.inr fun x => none)))) : hE) = sbE (fun _ => none) from rfl]
  generalize eD : hu (hu (hu hA (nx + 1) (sbE (fun _ => none))) (nx + 1 + 1) (.inr (.inr (29, [.ref (A 0), .int (nI p)])))) (nx + 1 + 1 + 1) (.inr (.inr (7, [.ref (nx + 1 + 1)]))) = hD
  have d1 : hD (nx + 1) = some (sbE (fun _ => none)) := by rw [← eD, hu_n (by omega), hu_n (by omega)]; exact hu_s
  have d2 : hD (nx + 1 + 1) = some (.inr (.inr (29, [.ref (A 0), .int (nI p)]))) := by rw [← eD, hu_n (by omega)]; exact hu_s
  have d3 : hD (nx + 1 + 1 + 1) = some (.inr (.inr (7, [.ref (nx + 1 + 1)]))) := by rw [← eD]; exact hu_s
  have dk : ∀ q, q < nx + 1 → hD q = hA q := fun q hq => by rw [← eD, hu_n (by omega), hu_n (by omega), hu_n (by omega)]
  rw [show stO 6 (hD (nx + 1 + 1 + 1)) = true by rw [d3]; rfl, gdT, show (0 : Int32) = nI 0 from rfl, s6 (k := 0) d1 (by decide), Option.bind_some]
  generalize eF : hu (hu (hu hD (nx + 1) (sbE (va_up (fun _ => none) 0 (some (nx + 1 + 1 + 1))))) (nx + 1 + 1 + 1 + 1) (.inr (.inr (31, [.ref (A 0), .int (nI p)])))) (nx + 1 + 1 + 1 + 1 + 1) (.inr (.inr (7, [.ref (nx + 1 + 1 + 1 + 1)]))) = hF
  have f1 : hF (nx + 1) = some (sbE (va_up (fun _ => none) 0 (some (nx + 1 + 1 + 1)))) := by rw [← eF, hu_n (by omega), hu_n (by omega)]; exact hu_s
  have f2 : hF (nx + 1 + 1) = some (.inr (.inr (29, [.ref (A 0), .int (nI p)]))) := by rw [← eF, hu_n (by omega), hu_n (by omega), hu_n (by omega)]; exact d2
  have f3 : hF (nx + 1 + 1 + 1) = some (.inr (.inr (7, [.ref (nx + 1 + 1)]))) := by rw [← eF, hu_n (by omega), hu_n (by omega), hu_n (by omega)]; exact d3
  have f4 : hF (nx + 1 + 1 + 1 + 1) = some (.inr (.inr (31, [.ref (A 0), .int (nI p)]))) := by rw [← eF, hu_n (by omega)]; exact hu_s
  have f5 : hF (nx + 1 + 1 + 1 + 1 + 1) = some (.inr (.inr (7, [.ref (nx + 1 + 1 + 1 + 1)]))) := by rw [← eF]; exact hu_s
  have fk : ∀ q, q < nx + 1 → hF q = hA q := fun q hq => by rw [← eF, hu_n (by omega), hu_n (by omega), hu_n (by omega)]; exact dk q hq
  rw [show stO 6 (hF (nx + 1 + 1 + 1 + 1 + 1)) = true by rw [f5]; rfl, gdT, show (1 : Int32) = nI 1 from rfl, s6 (k := 1) f1 (by decide), Option.bind_some]
  generalize eH : hu (hu hF (nx + 1) (sbE (va_up (va_up (fun _ => none) 0 (some (nx + 1 + 1 + 1))) 1 (some (nx + 1 + 1 + 1 + 1 + 1))))) (nx + 1 + 1 + 1 + 1 + 1 + 1) (.inr (.inr (10, [.ref (nx + 1)]))) = hH
  have k0 : hH nx = some (.inr (.inr (28, [.ref (A 0), .int (nI p)]))) := by rw [← eH, hu_n (by omega), hu_n (by omega), fk _ (by omega)]; exact a0
  have k1 : hH (nx + 1) = some (sbE (va_up (va_up (fun _ => none) 0 (some (nx + 1 + 1 + 1))) 1 (some (nx + 1 + 1 + 1 + 1 + 1)))) := by rw [← eH, hu_n (by omega)]; exact hu_s
  have k2 : hH (nx + 1 + 1) = some (.inr (.inr (29, [.ref (A 0), .int (nI p)]))) := by rw [← eH, hu_n (by omega), hu_n (by omega)]; exact f2
  have k3 : hH (nx + 1 + 1 + 1) = some (.inr (.inr (7, [.ref (nx + 1 + 1)]))) := by rw [← eH, hu_n (by omega), hu_n (by omega)]; exact f3
  have k4 : hH (nx + 1 + 1 + 1 + 1) = some (.inr (.inr (31, [.ref (A 0), .int (nI p)]))) := by rw [← eH, hu_n (by omega), hu_n (by omega)]; exact f4
  have k5 : hH (nx + 1 + 1 + 1 + 1 + 1) = some (.inr (.inr (7, [.ref (nx + 1 + 1 + 1 + 1)]))) := by rw [← eH, hu_n (by omega), hu_n (by omega)]; exact f5
  have k6 : hH (nx + 1 + 1 + 1 + 1 + 1 + 1) = some (.inr (.inr (10, [.ref (nx + 1)]))) := by rw [← eH]; exact hu_s
  have kk : ∀ q, q < nx → hH q = h1 q := fun q hq => by rw [← eH, hu_n (by omega), hu_n (by omega), fk q (by omega)]; exact ak q hq
  have SH : SN A I M w 0 hH (nx + 1 + 1 + 1 + 1 + 1 + 1 + 1) := S1.grow (by omega) kk
  obtain ⟨h2, c, d, e2, ⟨S2, L2⟩, c1, c2⟩ := x_first (E := dE zs (n + 9)) (q := nx) (q2 := nx + 1 + 1 + 1 + 1 + 1 + 1) (N := nH w) (B := tpC w p) (key := tpE w p) (bc := 2) (bs := 6) (h := hH) (nx := nx + 1 + 1 + 1 + 1 + 1 + 1 + 1) (P := fun h' nx' => SN A I M w 0 h' nx' ∧ Lt (A 1) hH (nx + 1 + 1 + 1 + 1 + 1 + 1 + 1) h' nx') (by omega) (fun h' nx' k hk hP => by
    obtain ⟨h3, e3, S3, L3⟩ := z_28 (zs := zs) (n := n + 7) hP.1 G (by rw [hP.2.2 nx (by omega) (by omega)]; exact k0) hp hk
    exact ⟨h3, 0, 0, e3, ⟨S3, hP.2.trans L3⟩, by decide, by decide⟩) (fun h' nx' a b ha hb _ _ _ hP => by
    have hnn := hP.2.1
    have kp : ∀ q, nx ≤ q → q < nx + 1 + 1 + 1 + 1 + 1 + 1 + 1 → h' q = hH q := fun q h1 h2 => hP.2.2 q h2 (by omega)
    obtain ⟨h3, e3, S3, L3⟩ := z_29 (zs := zs) (n := n) (x := a) hP.1 G (q := nx + 1 + 1) (by rw [kp _ (by omega) (by omega)]; exact k2) hp ha
    obtain ⟨h4, e4, S4, L4⟩ := z_29 (zs := zs) (n := n) (x := b) S3 G (q := nx + 1 + 1) (by rw [L3.2 _ (by omega) (by omega), kp _ (by omega) (by omega)]; exact k2) hp hb
    have kq : ∀ q, nx ≤ q → q < nx + 1 + 1 + 1 + 1 + 1 + 1 + 1 → h4 q = hH q := fun q h1 h2 => by rw [L4.2 q (by omega) (by omega), L3.2 q (by omega) (by omega), kp q h1 h2]
    have e5 := z_31 (zs := zs) (n := n + 6) (x := a) S4 G (q := nx + 1 + 1 + 1 + 1) (by rw [kq _ (by omega) (by omega)]; exact k4) hp ha
    have e6 := z_31 (zs := zs) (n := n + 6) (x := b) S4 G (q := nx + 1 + 1 + 1 + 1) (by rw [kq _ (by omega) (by omega)]; exact k4) hp hb
    have hda := dea_lt Z hp ha
    have hdb := dea_lt Z hp hb
    have la : ahN w (fun q => iBd w q a) a p ≤ nP w := ahN_le
    have lb : ahN w (fun q => iBd w q b) b p ≤ nP w := ahN_le
    refine ⟨h4, if nI (ahN w (fun q => iBd w q a) a p) - nI (ahN w (fun q => iBd w q b) b p) = 0 then nI (dea w p a) - nI (dea w p b) else nI (ahN w (fun q => iBd w q a) a p) - nI (ahN w (fun q => iBd w q b) b p), 2, 6, ?_, ⟨S4, hP.2.trans (L3.trans L4)⟩, ?_, by decide, by decide⟩
    · rw [E_by (n := n + 8) (by rw [kp _ (by omega) (by omega)]; exact k6)]
      show lL10 (dE zs (n + 8)) h' nx' [.ref (nx + 1)] (nI a) (nI b) = _
      simp only [lL10]
      refine c_turn2 (q0 := nx + 1 + 1 + 1) (q1 := nx + 1 + 1 + 1 + 1 + 1) (by rw [kp _ (by omega) (by omega)]; exact k1) (by rw [kq _ (by omega) (by omega), kp _ (by omega) (by omega)]) rfl rfl ?_ ?_
      · rw [E_by (n := n + 7) (by rw [kp _ (by omega) (by omega)]; exact k3)]
        show lL7 (dE zs (n + 7)) h' nx' [.ref (nx + 1 + 1)] (nI a) (nI b) = _
        simp only [lL7, f_X1_lambda_rising_1, e3, Option.bind_some, e4, aC_some]
      · rw [E_by (n := n + 7) (by rw [kq _ (by omega) (by omega)]; exact k5)]
        show lL7 (dE zs (n + 7)) h4 (nx' + 2) [.ref (nx + 1 + 1 + 1 + 1)] (nI a) (nI b) = _
        simp only [lL7, f_X1_lambda_rising_1]
        rw [e5, Option.bind_some]
        dsimp only
        rw [aC00, e6, Option.bind_some]
        dsimp only
        rw [aC00]
    · have s1 := sub_l0 (a := ahN w (fun q => iBd w q a) a p) (b := ahN w (fun q => iBd w q b) b p) (by omega) (by omega)
      have s2 := sub_l0 (a := dea w p a) (b := dea w p b) (by omega) (by omega)
      unfold tpE
      by_cases hz : nI (ahN w (fun q => iBd w q a) a p) - nI (ahN w (fun q => iBd w q b) b p) = 0
      · rw [if_pos hz, s2.1]
        have := s1.2.mp hz
        omega
      · rw [if_neg hz, s1.1]
        have : ¬ ahN w (fun q => iBd w q a) a p = ahN w (fun q => iBd w q b) b p := fun z => hz (s1.2.mpr z)
        omega) ⟨SH, Lt.rfl'⟩
  have hc : c ≤ 40 := Nat.le_trans c1 (Nat.le_trans (Nat.mul_le_mul_right _ b2) (by decide))
  have hd : d ≤ 120 := Nat.le_trans c2 (Nat.le_trans (Nat.mul_le_mul_right _ b2) (by decide))
  rw [e2, Option.bind_some]
  dsimp only
  obtain ⟨h3, e3, S3, q3⟩ := S2.told (dE zs (n + 9)) (o := am (tpC w p) (tpE w p) (nH w)) (fun z hz => by have := am_lt hz; omega)
  rw [S2.i0, gdT, e3, Option.bind_some]
  simp only [aC_some]
  refine ⟨h3, _, _, rfl, ?_, ⟨by omega, fun q g1 g2 g3 => ?_⟩, by omega, by omega⟩
  · refine Eq.subst (motive := fun z => SN A I M w _ h3 z) ?_ S3
    omega
  · rw [q3.2 q (by omega) g2 g3, L2.2 q (by omega) g2]
    exact kk q g1
end PTC
