/-! THE COMPONENT's side: bids -/
section PBD
variable {h h1 : AH} {nx nx' : Nat} {M M' : Nat → Prop} {o r eL eO_ cL cO : Nat} {w W : Rw} {p x a b dn : Nat} {zs : Nat → Nat} {n : Nat} {E : bE}
theorem LetsH.row {nl : Nat} {la : Nat → Nat} (L : LetsH h nl la w) (Z : Rng w) (hL : nL W = nL w) (hl : ∀ i k, i < nL w → k < 8 → lF W i k = lF w i k) (hp : ∀ q, q < 8 → pF W q 2 = pF w q 2) (hh : ∀ y, y < 10 → hF W y 1 = hF w y 1) : LetsH h nl la W := by
  have b := Z.gL.2
  refine ⟨L.1.trans hL.symm, fun i hi => ?_⟩
  rw [hL] at hi
  have l0 : lN_ W i 0 = lN_ w i 0 := by unfold lN_; rw [hl i 0 hi (by decide)]
  have l1 : lN_ W i 1 = lN_ w i 1 := by unfold lN_; rw [hl i 1 hi (by decide)]
  have b0 := (Z.l0 (i := i) (by omega)).2
  have b1 := (Z.l1 (i := i) (by omega)).2
  rw [hl i 0 hi (by decide), hl i 1 hi (by decide), hl i 2 hi (by decide), hl i 3 hi (by decide), hl i 4 hi (by decide), hl i 5 hi (by decide), hl i 6 hi (by decide), hl i 7 hi (by decide), l0, l1, hp _ (by omega), hh _ (by omega)]
  exact L.2 i hi
theorem OffH.row {no : Nat} {oa : Nat → Nat} (K : OffH h no oa w) (hO : nO W = nO w) (ho : ∀ i k, i < nO w → k < 3 → W (300 + 3 * i + k) = w (300 + 3 * i + k)) : OffH h no oa W := by
  refine ⟨K.1.trans hO.symm, fun i hi => ?_⟩
  rw [hO] at hi
  obtain ⟨g, g1, g2, g3, g4⟩ := K.2 i hi
  exact ⟨g, g1, g2.trans (ho i 0 hi (by decide)).symm, g3.trans (ho i 1 hi (by decide)).symm, g4.trans (ho i 2 hi (by decide)).symm⟩
/-- one entry of one of its rows is written, and the row w with it -/
theorem RX.put (X : RX h nx M o r eL eO_ cL cO w) (Z : Rng w) {a j : Nat} (ha : a < 15) (hj : j < al a) (v : Int32) (hQ : ∀ F wk rf, RelF F wk rf w → RelF (uF F a j v) wk rf W) (hK : KT w W) (hL : nL W = nL w) (hO : nO W = nO w) (hl : ∀ i k, i < nL w → k < 8 → lF W i k = lF w i k) (ho : ∀ i k, i < nO w → k < 3 → W (300 + 3 * i + k) = w (300 + 3 * i + k)) :
    ∃ h' : AH, sI h (r + (a + 1)) (ak a) (nI j) v = some h' ∧ RX h' nx M o r eL eO_ cL cO W ∧ ∀ q, q ≠ r + (a + 1) → h' q = h q := by
  obtain ⟨H, F, wk, rf, sc, la, oa, R, Q, L, K, s0, il, io, hOwn, hno⟩ := X
  have hr : M (r + (a + 1)) := (hOwn (r + (a + 1)) (Or.inl ⟨by omega, by omega⟩)).1
  have hor : o ≠ r + (a + 1) := fun z => hno (by rw [z]; exact Or.inl ⟨by omega, by omega⟩)
  refine ⟨_, R.st ha hj v, ?_, fun q hq => hu_n hq⟩
  have hk : ∀ q, q < nx → ¬ M q ∨ q = o → hu h (r + (a + 1)) (.inl (ak a, al a, .inl (upd (F a) j v))) q = h q := fun q hq hz => hu_n (fun e => by
    subst e
    rcases hz with z | z
    · exact z hr
    · exact hor z.symm)
  refine ⟨(H.step (Nat.le_refl _) Ext.rfl' H.bd hk).row hK Z, uF F a j v, wk, rf, sc, la, oa, ?_, hQ F wk rf Q, ?_, ?_, s0, fun i hi => il i (by rw [← hL]; exact hi), fun i hi => io i (by rw [← hO]; exact hi), hOwn, hno⟩
  · rw [hL, hO]
    exact R.setA ha (upd (F a) j v)
  · rw [hL]
    exact (L.kept (fun i hi => hk _ (il i hi).1 (Or.inl (il i hi).2))).row Z hL hl (fun q hq => hK.1 q 2 hq (by decide) (by omega)) (fun y hy => hK.2.1 y 1 hy (by omega))
  · rw [hO]
    exact (K.kept (fun i hi => hk _ (io i hi).1 (Or.inl (io i hi).2))).row hO ho
theorem KT_bw (hp : p < 8) : KT w (bw w p n) := ⟨fun q k a1 a2 a3 => bw_p a1 a2 (by omega), fun y k a1 a2 => bw_h a1 (by omega), fun i a1 a2 => bw_o (by omega)⟩
theorem RX.bids (X : RX h nx M o r eL eO_ cL cO w) (Z : Rng w) (hp : p < 8) (m : Nat) : ∃ h' : AH, sI h (r + 6) 0 (nI p) (nI m) = some h' ∧ RX h' nx M o r eL eO_ cL cO (bw w p m) ∧ ∀ q, q ≠ r + 6 → h' q = h q :=
  X.put Z (a := 5) (by decide) hp (nI m) (fun F wk rf Q => RelF_p5 Q Z hp (nI m)) (KT_bw hp) (bw_nL hp) (by unfold nO wN; rw [bw_o (by omega)]) (fun i k hi hk => by unfold lF; exact bw_o (by omega)) (fun i k hi hk => bw_o (by omega))
theorem x_putsBid (X : RX h nx M o r eL eO_ cL cO w) (Z : Rng w) (hp : p < nP w) (hx : x < 10) : ∃ h' : AH, f_X2_putsBid E h nx r (nI p) (nI x) = some ((), h', 0, 0) ∧ RX h' nx M o r eL eO_ cL cO (bw w p (pN w p 10 ||| 2 ^ x)) ∧ ∀ q, q ≠ r + 6 → h' q = h q := by
  have b2 := Z.gP.2
  obtain ⟨e10, l10⟩ := Z.p10 (p := p) (by omega)
  obtain ⟨h', k1, k2, k3⟩ := X.bids Z (p := p) (by omega) (pN w p 10 ||| 2 ^ x)
  obtain ⟨H, F, wk, rf, sc, la, oa, R, Q, L, K, s0, il, io, hOwn, hno⟩ := X
  refine ⟨h', ?_, k2, k3⟩
  simp only [f_X2_putsBid, R.g5, Option.bind_some]
  rw [R.a5 (by omega), Option.bind_some, (Q.2.1 p hp).2.2.2.2.1, e10, or_n _ (by omega) x hx, k1, Option.bind_some]
theorem x_together (X : RX h nx M o r eL eO_ cL cO w) (Z : Rng w) : f_X2_bidsTogether E h r = some (nI (tot w)) := by
  have b2 := Z.gP.2
  obtain ⟨⟨aH, eH, aP, eP, rN, rA, hm, hs, nh, np, tl, O, T, TI, ho, hM⟩, F, wk, rf, sc, la, oa, R, Q, L, K, s0, il, io, hOwn, hno⟩ := X
  refine (lp_up (fun n i s => f_X2_bidsTogether_4 n E h r (nI s) (nI i)) (fun s => some (nI s)) (fun i s => s + pc (pN w i 10)) (nP w) ?_ ?_ FU 0 0 (Nat.zero_le _) (FU_lt (by omega)))
  · intro n s
    simp only [f_X2_bidsTogether_4, R.g26, Option.bind_some, O.g1, T.2.1.o, gdT, T.2.1.size]
    rw [if_pos (nI_leR _)]
  · intro n i s hi
    simp only [f_X2_bidsTogether_4, R.g26, Option.bind_some, O.g1, T.2.1.o, gdT, T.2.1.size, R.o1, c_bidMany R Q Z hi, nI_add, nI_1]
    rw [if_neg (nI_ge hi (by omega))]
end PBD
