/-! THE COMPONENT's side: a week ends = the reference's week's end -/
section PZT
variable {h h' h'' : AH} {nx nx' nx'' : Nat} {M M' M'' : Nat → Prop} {o r eL eO_ cL cO : Nat} {w w' : Rw} {p x off : Nat} {zs : Nat → Nat} {n : Nat} {E : bE}
theorem fed_ok (G : Gd w) : ∀ j, j ≤ nP w → Gd (flN edF 0 j w) ∧ KT w (flN edF 0 j w) ∧ nL (flN edF 0 j w) = nL w ∧ flN edF 0 j w 232 = w 232 ∧ nO (flN edF 0 j w) = nO w
  | 0, _ => ⟨G, KT.rfl', rfl, rfl, rfl⟩
  | j + 1, hj => by
    obtain ⟨a1, a2, a3, a4, a5⟩ := fed_ok G j (by omega)
    obtain ⟨c1, c2, c3, c4, c5, c6⟩ := edF_ok a1 (p := j) (by rw [a2.eP]; omega)
    rw [flN_1, Nat.zero_add]
    exact ⟨c1, a2.trans c2, c3.trans a3, c4.trans a4, c5.trans a5⟩
theorem x_eds (G : Gd w) (X : RX h nx M o r eL eO_ cL cO w) (v : Int32) : ∃ (h' : AH) (m : Nat), f_X2_ends_117 FU E r v 0 h nx = f_X2_ends_117 (m + 1) E r v (nI (nP w)) h' nx ∧ RX h' nx M o r eL eO_ cL cO (flN edF 0 (nP w) w) ∧ ∀ q, ¬ Own r eL eO_ q → h' q = h q := by
  have b2 := G.1.gP.2
  have key := lp_ex (fun n' j (s : AH) => f_X2_ends_117 n' E r v (nI j) s nx) (nP w) (fun j s => RX s nx M o r eL eO_ cL cO (flN edF 0 j w) ∧ ∀ q, ¬ Own r eL eO_ q → s q = h q) ?_ FU 0 h (Nat.zero_le _) (FU_lt (by omega)) ⟨X, fun _ _ => rfl⟩
  · obtain ⟨s, m, ⟨k1, k2⟩, k3⟩ := key
    exact ⟨s, m, k3, k1, k2⟩
  · intro n' j s hj hs
    obtain ⟨k1, k2⟩ := hs
    obtain ⟨a1, a2, -⟩ := fed_ok G j (by omega)
    obtain ⟨h1, c1, c2, c3⟩ := x_ed (E := E) a1 k1 (p := j) (by rw [a2.eP]; exact hj) v n'
    refine ⟨h1, ⟨?_, fun q hq => (c3 q hq).trans (k2 q hq)⟩, c1⟩
    rw [flN_1, Nat.zero_add]
    exact c2
theorem RelF_wk {F : Nat → Nat → Int32} {wk rf : Int32} (Q : RelF F wk rf w) (Z : Rng w) : RelF F (wk + 1) rf (upd (rsF (nH w) w) 232 (w 232 + 1)) := by
  have b1 := Z.gH.2
  have b2 := Z.gP.2
  have bL := Z.gL.2
  obtain ⟨e232, l232⟩ := Z.gW
  obtain ⟨q1, q2, q3, q4, q5, q6, q7⟩ := Q
  have out : ∀ i, 80 ≤ i → i ≠ 232 → upd (rsF (nH w) w) 232 (w 232 + 1) i = w i := fun i h1 h2 => by rw [upd_n h2]; exact rsF_o _ (fun y hy => by omega)
  have ep : ∀ q k, q < 8 → k < 18 → pF (upd (rsF (nH w) w) 232 (w 232 + 1)) q k = pF w q k := fun q k h1 h2 => out _ (by omega) (by omega)
  have eh : ∀ y k, y < 10 → k < 8 → k ≠ 3 → hF (upd (rsF (nH w) w) 232 (w 232 + 1)) y k = hF w y k := fun y k h1 h2 h3 => by
    unfold hF
    rw [upd_n (by omega)]; exact rsF_o _ (fun z hz => by omega)
  have eh3 : ∀ y, y < nH w → hF (upd (rsF (nH w) w) 232 (w 232 + 1)) y 3 = 0 := fun y hy => by
    unfold hF
    rw [upd_n (by omega)]; exact rsF_3 _ hy
  have eP : nP (upd (rsF (nH w) w) 232 (w 232 + 1)) = nP w := congrArg Int32.toNatClampNeg (out 231 (by decide) (by decide))
  have eH : nH (upd (rsF (nH w) w) 232 (w 232 + 1)) = nH w := congrArg Int32.toNatClampNeg (out 230 (by decide) (by decide))
  have eL : nL (upd (rsF (nH w) w) 232 (w 232 + 1)) = nL w := congrArg Int32.toNatClampNeg (out 233 (by decide) (by decide))
  refine ⟨fun j hj => by rw [q1 j hj]; exact (out _ (by omega) (by omega)).symm, fun q hq => ?_, fun q i hq hi => ?_, fun y hy => ?_, fun y hy => ?_, ?_, q7.trans (out _ (by decide) (by decide)).symm⟩
  · rw [eP] at hq
    rw [ep q 4 (by omega) (by decide), ep q 5 (by omega) (by decide), ep q 6 (by omega) (by decide), ep q 9 (by omega) (by decide), ep q 10 (by omega) (by decide), ep q 11 (by omega) (by decide), ep q 1 (by omega) (by decide), ep q 8 (by omega) (by decide), ep q 7 (by omega) (by decide)]
    exact q2 q hq
  · rw [eP] at hq
    have e11 : pN (upd (rsF (nH w) w) 232 (w 232 + 1)) q 11 = pN w q 11 := by unfold pN; rw [ep q 11 (by omega) (by decide)]
    rw [e11] at hi
    have := (Z.p11 (p := q) (by omega)).2
    rw [ep q (12 + i) (by omega) (by omega)]
    exact q3 q i hq hi
  · rw [eH] at hy
    obtain ⟨z1, z2, z3, z4⟩ := q4 y hy
    rw [eh y 7 (by omega) (by decide) (by decide), eh y 6 (by omega) (by decide) (by decide), eh3 y hy]
    refine ⟨z1, z2, fun _ => ?_, fun z => absurd rfl z⟩
    by_cases e : hF w y 3 = 0
    · have hl : wk ≤ wk + 1 := by
        rw [q6, e232, nI_1]
        have : ∀ n, n ≤ 999 → nI n ≤ nI (n + 1) := by decide +kernel
        exact this _ l232
      exact Int32.le_trans (z3 e) hl
    · rw [z4 e]; exact Int32.le_refl _
  · rw [eH] at hy
    rw [eh y 5 (by omega) (by decide) (by decide), eL]
    rcases q5 y hy with z | ⟨i, z1, z2, z3⟩
    · exact Or.inl z
    · exact Or.inr ⟨i, z1, z2, by rw [z3]; unfold lF; exact (out _ (by omega) (by omega)).symm⟩
  · rw [upd_s, q6]
theorem x_week (X : RX h nx M o r eL eO_ cL cO w) (Z : Rng w) : ∃ h' : AH, wr h r 1 17 (.int (w 232 + 1)) = some h' ∧ RX h' nx M o r eL eO_ cL cO (upd (rsF (nH w) w) 232 (w 232 + 1)) ∧ ∀ q, q ≠ r → h' q = h q := by
  have b1 := Z.gH.2
  have bL := Z.gL.2
  obtain ⟨H, F, wk, rf, sc, la, oa, R, Q, L, K, s0, il, io, hOwn, hno⟩ := X
  have hr : M r := (hOwn r (Or.inl ⟨by omega, by omega⟩)).1
  have hor : o ≠ r := fun z => hno (by rw [z]; exact Or.inl ⟨by omega, by omega⟩)
  have hwk : w 232 + 1 = wk + 1 := by rw [Q.2.2.2.2.2.1]
  have hk : ∀ q, q < nx → ¬ M q ∨ q = o → hu h r (.inr (.inl (1, rFs o r (wk + 1) rf sc))) q = h q := fun q hq hz => hu_n (fun e => by
    subst e
    rcases hz with z | z
    · exact z hr
    · exact hor z.symm)
  have out : ∀ i, 80 ≤ i → i ≠ 232 → upd (rsF (nH w) w) 232 (w 232 + 1) i = w i := fun i h1 h2 => by rw [upd_n h2]; exact rsF_o _ (fun y hy => by omega)
  have hL : nL (upd (rsF (nH w) w) 232 (w 232 + 1)) = nL w := congrArg Int32.toNatClampNeg (out 233 (by decide) (by decide))
  have hO : nO (upd (rsF (nH w) w) 232 (w 232 + 1)) = nO w := congrArg Int32.toNatClampNeg (out 299 (by decide) (by decide))
  have KK : KT w (upd (rsF (nH w) w) 232 (w 232 + 1)) := ⟨fun q k a1 a2 a3 => out _ (by omega) (by omega), fun y k a1 a2 => by
    unfold hF
    rw [upd_n (by omega)]; exact rsF_o _ (fun z hz => by omega), fun i a1 a2 => out _ (by omega) (by omega)⟩
  refine ⟨_, by rw [hwk]; exact R.w17 (wk + 1), ⟨(H.step (Nat.le_refl _) Ext.rfl' H.bd hk).row KK Z, F, wk + 1, rf, sc, la, oa, by rw [hL, hO]; exact R.setO (wk + 1) rf sc, RelF_wk Q Z, ?_, ?_, s0, fun i hi => il i (by rw [← hL]; exact hi), fun i hi => io i (by rw [← hO]; exact hi), hOwn, hno⟩, fun q hq => hu_n hq⟩
  · rw [hL]
    exact (L.kept (fun i hi => hk _ (il i hi).1 (Or.inl (il i hi).2))).row Z hL (fun i j hi hj => by unfold lF; exact out _ (by omega) (by omega)) (fun q hq => KK.1 q 2 hq (by decide) (by omega)) (fun y hy => KK.2.1 y 1 hy (by omega))
  · rw [hO]
    exact (K.kept (fun i hi => hk _ (io i hi).1 (Or.inl (io i hi).2))).row hO (fun i j hi hj => out _ (by omega) (by omega))
theorem stN_e {B C : Nat → Bool} : ∀ n, (∀ j, j < n → B j = C j) → stN B n = stN C n
  | 0, _ => rfl
  | n + 1, H => by rw [stN_1, stN_1, H n (by omega), stN_e n (fun j hj => H j (by omega))]
/-- a week ends -/
theorem x_ends (G : Gd w) (X : RX h nx M o r eL eO_ cL cO w) (hcL : cL < 60) (hcO : cO < 60) : ∃ (h' : AH) (M' : Nat → Prop) (eL' eO' cL' cO' c d : Nat), f_X2_ends (dE zs (n + 5)) h nx r = some (nI (nL (wkE w)) - nI (nL w), h', c, d) ∧ XW o r h nx M eL eO_ cL cO w h' (nx + c) M' eL' eO' cL' cO' (wkE w) 30 90 d := by
  have Z := G.1
  have b1 := Z.gH.2
  have b2 := Z.gP.2
  have e0 : nH (upd w 299 0) = nH w := by unfold nH wN; rw [upd_n (by decide)]
  have eL0 : nL (upd w 299 0) = nL w := by unfold nL wN; rw [upd_n (by decide)]
  obtain ⟨_, F, wk, rf, sc, la, oa, R, -⟩ := id X
  obtain ⟨h1, a1, a2, a3⟩ := x_clearO (E := dE zs (n + 5)) X Z
  have P0 := P60_0 Z G.2.1 G.2.2
  have G0 : Gd (upd w 299 0) := ⟨P0.1, P0.2.1, P0.2.2.1⟩
  have hfr : stN (isFr (upd w 299 0)) (nH (upd w 299 0)) = frE w := by
    rw [e0]
    exact stN_e _ (fun j hj => isFr_u (by decide) (by omega))
  have h19 := x_ends19 (E := dE zs (n + 5)) G0 a2 (nI (nL w))
  rw [hfr] at h19
  have hlt : frE w < 1024 := by
    have := stN_lt (B := isFr w) (nH w)
    have h2 : 2 ^ nH w ≤ 2 ^ 10 := Nat.pow_le_pow_right (by decide) b1
    unfold frE
    omega
  obtain ⟨h2, M2, eL2, eO2, cL2, cO2, c2, d2, c1, W2⟩ := x_e54 (zs := zs) (n := n) (v := nI (nL w)) hlt (nH w) 0 (9999 - nH w) (upd w 299 0) h1 nx M eL eO_ cL cO (by rw [e0]; omega) (by rw [e0]; exact b1) P0 a2 hcL hcO
  have hFU : 9999 - nH w + nH w + 1 = FU := by show _ = 10000; omega
  rw [hFU] at c1
  have W1 : XW o r h nx M eL eO_ cL cO w h1 nx M eL eO_ cL cO (upd w 299 0) 0 0 0 := XW.here a2 hcL hcO eL0 (fun q _ hn => a3 q hn)
  have hw1 : flN (hmF (frE w)) 0 (nH w) (upd w 299 0) = w1E w := rfl
  rw [hw1] at W2
  obtain ⟨g1, g2, g3, g4, g5⟩ := w1_ok G
  obtain ⟨h3, m, d1, d2', d3⟩ := x_eds (E := dE zs (n + 5)) g1 W2.1 (nI (nL w))
  obtain ⟨u1, u2, u3, u4, u5⟩ := fed_ok g1 (nP (w1E w)) (Nat.le_refl _)
  obtain ⟨h4, f1, f2, f3⟩ := x_week d2' u1.1
  have hU : wkE w = upd (rsF (nH (flN edF 0 (nP (w1E w)) (w1E w))) (flN edF 0 (nP (w1E w)) (w1E w))) 232 (flN edF 0 (nP (w1E w)) (w1E w) 232 + 1) := by
    rw [u2.eH, g2.eH, g2.eP]
    unfold wkE w3E
    rw [show w2E w = rsF (nH w) (w1E w) from rfl, fed_rs _ b1, rsF_o _ (fun y hy => by omega)]
  rw [← hU] at f2
  have hLU : nL (wkE w) = nL (w1E w) := by
    rw [hU, ← u3]
    unfold nL wN
    rw [upd_n (by decide), rsF_o _ (fun y hy => by omega)]
  have hcL2 := W2.2.2.2.2.2.2.2.1
  have hcO2 := W2.2.2.2.2.2.2.2.2.1
  have W3 : XW o r h2 (nx + c2) M2 eL2 eO2 cL2 cO2 (w1E w) h4 (nx + c2) M2 eL2 eO2 cL2 cO2 (wkE w) 0 0 0 := XW.here f2 hcL2 hcO2 hLU (fun q hq hn => (f3 q (fun z => hn (by rw [z]; exact Or.inl ⟨by omega, by omega⟩))).trans (d3 q hn))
  have W := (W1.trans W2).trans W3
  obtain ⟨⟨aH3, eH3, aP3, eP3, rN3, rA3, hm3, hs3, nh3, np3, tl3, O3, T3, TI3, ho3, hM3⟩, F3, wk3, rf3, sc3, la3, oa3, R3, Q3, -⟩ := id d2'
  obtain ⟨_, F4, wk4, rf4, sc4, la4, oa4, R4, -⟩ := id f2
  refine ⟨h4, M2, eL2, eO2, cL2, cO2, c2, d2, ?_, ?_⟩
  · simp only [f_X2_ends, R.g15, Option.bind_some, R.2.2.1.o, gdT, R.2.2.1.size, R.g16, R.2.2.2.1.o, a1, aC00, Nat.add_zero]
    rw [h19, show (0 : Int32) = nI 0 from rfl, c1, d1]
    simp only [f_X2_ends_117, R3.g26, Option.bind_some, O3.g1, T3.2.1.o, gdT, T3.2.1.size, R3.g17]
    rw [if_pos (by rw [u2.eP]; exact nI_leR _), Q3.2.2.2.2.2.1, f1, Option.bind_some, R4.g15, Option.bind_some, R4.2.2.1.o, gdT, R4.2.2.1.size, Option.bind_some, aC_some]
    rfl
  · obtain ⟨w1, w2, w3, w4, w5, w6, w7, w8, w9, w10, w11, w12, w13⟩ := W
    exact ⟨w1, w2, w3, w4, w5, w6, w7, w8, w9, w10, by omega, by omega, w13⟩
end PZT
