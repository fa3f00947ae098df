/-! THE COMPONENT's side: one refuses -/
section PRR
variable {h h1 : AH} {nx nx' : Nat} {M M' : Nat → Prop} {o r eL eO_ cL cO : Nat} {w W : Rw} {p x a b dn k : Nat} {zs : Nat → Nat} {n : Nat} {E : bE}
theorem KT_up {v : Int32} (hp : p < 8) (hk : 4 ≤ k ∧ k ≤ 10) : KT w (upd w (80 + 18 * p + k) v) := ⟨fun q j a1 a2 a3 => by unfold pF; exact upd_n (by omega), fun y j a1 a2 => by unfold hF; exact upd_n (by omega), fun i a1 a2 => upd_n (by omega)⟩
theorem RX.putP (X : RX h nx M o r eL eO_ cL cO w) (Z : Rng w) (hp : p < 8) (hk : 4 ≤ k ∧ k ≤ 10) (ha : a < 15) (hal : al a = 8) (v : Int32) (hQ : ∀ F wk rf, RelF F wk rf w → RelF (uF F a p v) wk rf (upd w (80 + 18 * p + k) v)) :
    ∃ h' : AH, sI h (r + (a + 1)) (ak a) (nI p) v = some h' ∧ RX h' nx M o r eL eO_ cL cO (upd w (80 + 18 * p + k) v) ∧ ∀ q, q ≠ r + (a + 1) → h' q = h q :=
  X.put Z ha (by rw [hal]; exact hp) v hQ (KT_up hp hk) (by unfold nL wN; rw [upd_n (by omega)]) (by unfold nO wN; rw [upd_n (by omega)]) (fun i j hi hj => by unfold lF; exact upd_n (by omega)) (fun i j hi hj => upd_n (by omega))
theorem RelF_298 {F : Nat → Nat → Int32} {wk rf : Int32} (Q : RelF F wk rf w) (Z : Rng w) (v : Int32) : RelF F wk v (upd w 298 v) := by
  have b1 := Z.gH.2
  have b2 := Z.gP.2
  have bL := Z.gL.2
  obtain ⟨q1, q2, q3, q4, q5, q6, q7⟩ := Q
  have eP : nP (upd w 298 v) = nP w := by unfold nP wN; rw [upd_n (by decide)]
  have eH : nH (upd w 298 v) = nH w := by unfold nH wN; rw [upd_n (by decide)]
  have eL : nL (upd w 298 v) = nL w := by unfold nL wN; rw [upd_n (by decide)]
  have ep : ∀ q j, q < 8 → j < 18 → pF (upd w 298 v) q j = pF w q j := fun q j h1 h2 => by unfold pF; exact upd_n (by omega)
  have eh : ∀ y j, y < 10 → j < 8 → hF (upd w 298 v) y j = hF w y j := fun y j h1 h2 => by unfold hF; exact upd_n (by omega)
  refine ⟨fun j hj => by rw [q1 j hj]; exact (upd_n (by omega)).symm, fun q hq => ?_, fun q i hq hi => ?_, fun y hy => ?_, fun y hy => ?_, q6.trans (upd_n (by decide)).symm, upd_s.symm⟩
  · rw [eP] at hq
    rw [ep q 4 (by omega) (by decide), ep q 5 (by omega) (by decide), ep q 6 (by omega) (by decide), ep q 9 (by omega) (by decide), ep q 10 (by omega) (by decide), ep q 11 (by omega) (by decide), ep q 1 (by omega) (by decide), ep q 8 (by omega) (by decide), ep q 7 (by omega) (by decide)]
    exact q2 q hq
  · rw [eP] at hq
    have e11 : pN (upd w 298 v) q 11 = pN w q 11 := by unfold pN; rw [ep q 11 (by omega) (by decide)]
    rw [e11] at hi
    have := (Z.p11 (p := q) (by omega)).2
    rw [ep q (12 + i) (by omega) (by omega)]
    exact q3 q i hq hi
  · rw [eH] at hy
    rw [eh y 7 (by omega) (by decide), eh y 6 (by omega) (by decide), eh y 3 (by omega) (by decide)]
    exact q4 y hy
  · rw [eH] at hy
    rw [eh y 5 (by omega) (by decide), eL]
    rcases q5 y hy with z | ⟨i, z1, z2, z3⟩
    · exact Or.inl z
    · exact Or.inr ⟨i, z1, z2, by rw [z3]; unfold lF; exact (upd_n (by omega)).symm⟩
theorem KT_298 {v : Int32} : KT w (upd w 298 v) := ⟨fun q j a1 a2 a3 => by unfold pF; exact upd_n (by omega), fun y j a1 a2 => by unfold hF; exact upd_n (by omega), fun i a1 a2 => upd_n (by omega)⟩
theorem RX.rf (X : RX h nx M o r eL eO_ cL cO w) (Z : Rng w) (v : Int32) : ∃ h' : AH, wr h r 1 18 (.int v) = some h' ∧ RX h' nx M o r eL eO_ cL cO (upd w 298 v) ∧ ∀ q, q ≠ r → h' q = h q := by
  have bL := Z.gL.2
  obtain ⟨H, F, wk, rf, sc, la, oa, R, Q, L, K, s0, il, io, hOwn, hno⟩ := X
  have hr : M r := (hOwn r (Or.inl ⟨by omega, by omega⟩)).1
  have hor : o ≠ r := fun z => hno (by rw [z]; exact Or.inl ⟨by omega, by omega⟩)
  have hk : ∀ q, q < nx → ¬ M q ∨ q = o → hu h r (.inr (.inl (1, rFs o r wk v sc))) q = h q := fun q hq hz => hu_n (fun e => by
    subst e
    rcases hz with z | z
    · exact z hr
    · exact hor z.symm)
  have hL : nL (upd w 298 v) = nL w := by unfold nL wN; rw [upd_n (by decide)]
  have hO : nO (upd w 298 v) = nO w := by unfold nO wN; rw [upd_n (by decide)]
  refine ⟨_, R.w18 v, ⟨(H.step (Nat.le_refl _) Ext.rfl' H.bd hk).row KT_298 Z, F, wk, v, sc, la, oa, by rw [hL, hO]; exact R.setO wk v sc, RelF_298 Q Z v, ?_, ?_, s0, fun i hi => il i (by rw [← hL]; exact hi), fun i hi => io i (by rw [← hO]; exact hi), hOwn, hno⟩, fun q hq => hu_n hq⟩
  · rw [hL]
    exact (L.kept (fun i hi => hk _ (il i hi).1 (Or.inl (il i hi).2))).row Z hL (fun i j hi hj => by unfold lF; exact upd_n (by omega)) (fun q hq => by unfold pF; exact upd_n (by omega)) (fun y hy => by unfold hF; exact upd_n (by omega))
  · rw [hO]
    exact (K.kept (fun i hi => hk _ (io i hi).1 (Or.inl (io i hi).2))).row hO (fun i j hi hj => upd_n (by omega))
theorem upd_cm {f : Nat → Int32} {i j : Nat} {a b : Int32} (hij : i ≠ j) : upd (upd f i a) j b = upd (upd f j b) i a := by
  funext q
  by_cases e1 : q = i
  · subst e1; rw [upd_n hij, upd_s, upd_s]
  · by_cases e2 : q = j
    · subst e2; rw [upd_s, upd_n e1, upd_s]
    · rw [upd_n e2, upd_n e1, upd_n e1, upd_n e2]
theorem rf1_cm (hp : p < 8) : rf1 w p = upd (upd w 298 (w 298 + 1)) (80 + 18 * p + 5) (pF w p 5 + 1) := by
  unfold rf1
  exact upd_cm (by omega)
theorem x_refuses (X : RX h nx M o r eL eO_ cL cO w) (Z : Rng w) (hp : p < nP w) : ∃ h' : AH, f_X2_refuses E h nx r (nI p) = some ((), h', 0, 0) ∧ RX h' nx M o r eL eO_ cL cO (refd w p) ∧ ∀ q, (q < r ∨ r + 16 ≤ q) → h' q = h q := by
  have b2 := Z.gP.2
  have hp8 : p < 8 := by omega
  have Z2 : Rng (upd w 298 (w 298 + 1)) := Rng_g Z (by decide) (by unfold gB; simp)
  have eP2 : nP (upd w 298 (w 298 + 1)) = nP w := by unfold nP wN; rw [upd_n (by decide)]
  have Zr := Rng_rf1 Z hp8
  obtain ⟨h2, a1, a2, a3⟩ := X.rf Z (w 298 + 1)
  obtain ⟨h5, c1, c2, c3⟩ := a2.putP Z2 (a := 2) (k := 5) hp8 (by omega) (by decide) rfl (pF w p 5 + 1) (fun F wk rf Q => RelF_p2 Q Z2 hp8 _)
  rw [← rf1_cm hp8] at c2
  have p5 : pF (upd w 298 (w 298 + 1)) p 5 = pF w p 5 := by unfold pF; exact upd_n (by omega)
  have p5' : pF (rf1 w p) p 5 = pF w p 5 + 1 := by unfold pF rf1; rw [upd_n (by omega), upd_s]; rfl
  have e224 : rf1 w p 224 = w 224 := by unfold rf1; rw [upd_n (by omega), upd_n (by omega)]
  have e225 : rf1 w p 225 = w 225 := by unfold rf1; rw [upd_n (by omega), upd_n (by omega)]
  have ePr : nP (rf1 w p) = nP w := by unfold nP wN rf1; rw [upd_n (by omega), upd_n (by omega)]
  obtain ⟨H, F, wk, rf, sc, la, oa, R, Q, -⟩ := id X
  obtain ⟨H2, F2, wk2, rf2, sc2, la2, oa2, R2, Q2, -⟩ := id a2
  obtain ⟨H5, F5, wk5, rf5, sc5, la5, oa5, R5, Q5, -⟩ := id c2
  simp only [f_X2_refuses, R.g18, Option.bind_some, Q.2.2.2.2.2.2, a1, R2.g2, R5.g2, R5.g0, R5.g3]
  rw [R2.a2 (by omega), Option.bind_some, (Q2.2.1 p (by rw [eP2]; exact hp)).2.1, p5]
  rw [show sI h2 (r + 3) 0 (nI p) (pF w p 5 + 1) = some h5 from c1, Option.bind_some]
  simp only [R5.g2, R5.g0, Option.bind_some]
  rw [R5.a2 (by omega), Option.bind_some, (Q5.2.1 p (by rw [ePr]; exact hp)).2.1, p5', show aI h5 (r + 1) 0 0 = some (F5 0 0) from R5.a0 (j := 0) (by decide), Option.bind_some, Q5.1 0 (by decide), e224]
  unfold refd
  by_cases hc : w 224 ≤ pF w p 5 + 1
  · rw [if_pos hc, if_pos hc]
    obtain ⟨h6, d1, d2, d3⟩ := c2.putP Zr (a := 2) (k := 5) hp8 (by omega) (by decide) rfl 0 (fun F wk rf Q => RelF_p2 Q Zr hp8 _)
    have Z6 : Rng (upd (rf1 w p) (80 + 18 * p + 5) 0) := Rng_p Zr hp8 (by decide) (by unfold pB; simp)
    obtain ⟨h7, f1, f2, f3⟩ := d2.putP Z6 (a := 3) (k := 6) hp8 (by omega) (by decide) rfl (w 225) (fun F wk rf Q => RelF_p3 Q Z6 hp8 _)
    have hb : inI (w 225) 1 52 := Z.2.2.2.2 225 (by decide) (by decide)
    have Z7 : Rng (upd (upd (rf1 w p) (80 + 18 * p + 5) 0) (80 + 18 * p + 6) (w 225)) := Rng_p Z6 hp8 (by decide) (show inI _ 0 52 from ⟨by have := hb.1; omega, hb.2⟩)
    obtain ⟨h8, g1, g2, g3⟩ := f2.putP Z7 (a := 14) (k := 7) hp8 (by omega) (by decide) rfl 1 (fun F wk rf Q => RelF_p14 Q Z7 hp8 _)
    obtain ⟨H6, F6, wk6, rf6, sc6, la6, oa6, R6, Q6, -⟩ := id d2
    obtain ⟨H7, F7, wk7, rf7, sc7, la7, oa7, R7, Q7, -⟩ := id f2
    rw [show sI h5 (r + 3) 0 (nI p) 0 = some h6 from d1, Option.bind_some]
    simp only [R6.g3, R6.g0, Option.bind_some]
    rw [show aI h6 (r + 1) 0 1 = some (F6 0 1) from R6.a0 (j := 1) (by decide), Option.bind_some, Q6.1 1 (by decide), show upd (rf1 w p) (80 + 18 * p + 5) 0 (224 + 1) = w 225 by rw [upd_n (by omega)]; exact e225]
    rw [show sI h6 (r + 4) 0 (nI p) (w 225) = some h7 from f1, Option.bind_some]
    simp only [R7.g14, Option.bind_some]
    rw [show sI h7 (r + 15) 3 (nI p) (vp_nar .boolean 1) = some h8 from g1, Option.bind_some]
    exact ⟨h8, rfl, g2, fun q hq => (g3 q (by omega)).trans ((f3 q (by omega)).trans ((d3 q (by omega)).trans ((c3 q (by omega)).trans (a3 q (by omega)))))⟩
  · rw [if_neg hc, if_neg hc]
    exact ⟨h5, rfl, c2, fun q hq => (c3 q (by omega)).trans (a3 q (by omega))⟩
end PRR
