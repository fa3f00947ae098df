/-! rows that are the same below 390 -/
section GRE
variable {A : Nat → Nat} {I : Nat → Int32} {M : Nat → Prop} {w W : Rw} {st : Int32} {h : AH} {nx n : Nat} {P : Nat → Rw} {B : Nat → Nat → Nat} {eP cP eB : Nat} {C : Nat → hE}
theorem RE.wn (H : RE w W) {i : Nat} (hi : i < 390) : wN W i = wN w i := by unfold wN; rw [H i hi]
theorem RE.pf (H : RE w W) {q k : Nat} (hq : q < 8) (hk : k < 18) : pF W q k = pF w q k := by unfold pF; exact H _ (by omega)
theorem RE.hf (H : RE w W) {y k : Nat} (hy : y < 10) (hk : k < 8) : hF W y k = hF w y k := by unfold hF; exact H _ (by omega)
theorem RE.lf (H : RE w W) {i k : Nat} (hi : i < 8) (hk : k < 8) : lF W i k = lF w i k := by unfold lF; exact H _ (by omega)
theorem RE.pn (H : RE w W) {q k : Nat} (hq : q < 8) (hk : k < 18) : pN W q k = pN w q k := by unfold pN; rw [H.pf hq hk]
theorem RE.ln (H : RE w W) {i k : Nat} (hi : i < 8) (hk : k < 8) : lN_ W i k = lN_ w i k := by unfold lN_; rw [H.lf hi hk]
theorem RE.sy (H : RE w W) : RE W w := fun i hi => (H i hi).symm
theorem RE.rf' : RE w w := fun _ _ => rfl
theorem RE.tr {V : Rw} (H : RE w W) (H2 : RE W V) : RE w V := fun i hi => (H2 i hi).trans (H i hi)
theorem RE.isin (H : RE w W) {q : Nat} (hq : q < 8) : isIn_ W q = isIn_ w q := by unfold isIn_; rw [H.pf hq (by decide)]
theorem Gd_re (H : RE w W) (G : Gd w) : Gd W := by
  obtain ⟨Z, ⟨c1, c2, c3, c4, c5, c6⟩, cn⟩ := G
  have b1 := Z.gH.2
  have b2 := Z.gP.2
  have bL := Z.gL.2
  have eH : nH W = nH w := H.wn (by decide)
  have eP : nP W = nP w := H.wn (by decide)
  have eL : nL W = nL w := H.wn (by decide)
  have e11 : ∀ p, p < nP w → pN W p 11 = pN w p 11 ∧ pN w p 11 ≤ 6 := fun p hp => ⟨H.pn (by omega) (by decide), (Z.p11 (p := p) (by omega)).2⟩
  obtain ⟨z1, z2, z3, z4, z5⟩ := Z
  refine ⟨⟨fun y k h1 h2 => by rw [H.hf h1 h2]; exact z1 y k h1 h2, fun p k h1 h2 => by rw [H.pf h1 h2]; exact z2 p k h1 h2, fun i k h1 h2 => by rw [H.lf h1 h2]; exact z3 i k h1 h2, fun j k h1 h2 => by rw [H _ (by omega)]; exact z4 j k h1 h2, fun i h1 h2 => by rw [H _ (by omega)]; exact z5 i h1 h2⟩, ⟨fun y hy => ?_, fun p hp => ?_, fun p i hp hi => ?_, fun p i j hp hi hj => ?_, fun i hi => ?_, fun p hp => ?_⟩, ?_⟩
  · rw [eH] at hy
    rw [H.hf (by omega) (by decide)]
    rcases c1 y hy with z | ⟨p, q1, q2, q3⟩
    · exact Or.inl z
    · exact Or.inr ⟨p, by rw [eP]; exact q1, q2, by rw [H.pf (by omega) (by decide)]; exact q3⟩
  · rw [eP] at hp
    rw [H.pf (by omega) (by decide)]
    rcases c2 p hp with z | ⟨y, q1, q2, q3⟩
    · exact Or.inl z
    · exact Or.inr ⟨y, by rw [eH]; exact q1, q2, by rw [H.hf (by omega) (by decide)]; exact q3⟩
  · rw [eP] at hp
    obtain ⟨e1, e2⟩ := e11 p hp
    rw [e1] at hi
    rw [eH, H.pn (by omega) (by omega)]
    exact c3 p i hp hi
  · rw [eP] at hp
    obtain ⟨e1, e2⟩ := e11 p hp
    rw [e1] at hi hj
    rw [H.pf (by omega) (by omega), H.pf (by omega) (by omega)]
    exact c4 p i j hp hi hj
  · rw [eL] at hi
    obtain ⟨q1, q2, q3⟩ := c5 i hi
    rw [H.ln (by omega) (by decide), H.ln (by omega) (by decide), H.isin (by omega), eH, eP]
    exact ⟨q1, q2, q3⟩
  · rw [eP] at hp
    rw [H.pn (by omega) (by decide), eH]
    exact c6 p hp
  · show nL W ≤ cnN _ (nP W)
    rw [eL, eP, cnN_c (C := fun p => !isIn_ w p) _ (fun j hj => by show (!isIn_ W j) = _; rw [H.isin (by omega)])]
    exact cn
theorem Inv_re (H : RE w W) (V : Inv w) : Inv W := by
  obtain ⟨G, ⟨l1, l2, l3⟩, v2, v3⟩ := V
  have Z := G.1
  have b1 := Z.gH.2
  have b2 := Z.gP.2
  have bL := Z.gL.2
  have eH : nH W = nH w := H.wn (by decide)
  have eP : nP W = nP w := H.wn (by decide)
  have eL : nL W = nL w := H.wn (by decide)
  have c5 := G.2.1.2.2.2.2.1
  have eB : ∀ p y, p < nP w → iBd W p y = iBd w p y := fun p y hp => by unfold iBd; rw [H.pf (by omega) (by decide)]
  refine ⟨Gd_re H G, ⟨fun i j hi hj => ?_, fun i hi => ?_, fun y hy => ?_⟩, fun p y hp hy hb => ?_, fun p y hp hy hb => ?_⟩
  · rw [eL] at hi hj
    rw [H.lf (by omega) (by decide), H.lf (by omega) (by decide)]
    exact l1 i j hi hj
  · rw [eL] at hi
    have := (c5 i hi).1
    rw [H.ln (by omega) (by decide), H.lf (by omega) (by decide), H.pf (by omega) (by decide)]
    exact l2 i hi
  · rw [eH] at hy
    rw [H.hf (by omega) (by decide), l3 y hy, eL]
    rw [cnN_c (B := fun i => decide (lF W i 1 = nI y)) (C := fun i => decide (lF w i 1 = nI y)) _ (fun j hj => by rw [H.lf (by omega) (by decide)])]
  · rw [eP] at hp
    rw [eH] at hy
    rw [eB p y hp] at hb
    obtain ⟨q1, q2⟩ := v2 p y hp hy hb
    unfold mayH dFit at *
    rw [H.isin (by omega), H.pf (by omega) (by decide), H.pf (by omega) (by decide), H.hf (by omega) (by decide)]
    exact ⟨q1, q2⟩
  · rw [eP] at hp
    rw [eH] at hy
    rw [eB p y hp] at hb
    rw [H.hf (by omega) (by decide)]
    exact v3 p y hp hy hb
/-- the object is the same for such a row -/
theorem Sys.of_re (S : Sys A I M w n P B eP cP eB C st h nx) (Z : Rng w) (H : RE w W) : Sys A I M W n P B eP cP eB C st h nx := ⟨⟨S.1.1.of_re Z H, S.1.2⟩, S.2⟩
end GRE
