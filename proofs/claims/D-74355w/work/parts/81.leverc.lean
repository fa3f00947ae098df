/-! rows anew on the same cells; lever: the component's side -/
def KV (w W : Rw) : Prop := nH W = nH w ∧ nP W = nP w ∧ (∀ q, q < 8 → pF W q 0 = pF w q 0 ∧ pF W q 2 = pF w q 2 ∧ pF W q 3 = pF w q 3) ∧ ∀ y, y < 10 → hF W y 0 = hF w y 0 ∧ hF W y 1 = hF w y 1
def KL (w W : Rw) : Prop := nL W = nL w ∧ nO W = nO w ∧ (∀ i k, i < nL w → k < 8 → lF W i k = lF w i k) ∧ ∀ i k, i < nO w → k < 3 → W (300 + 3 * i + k) = w (300 + 3 * i + k)
section PKV
variable {h h1 : AH} {nx nx' : Nat} {M M' : Nat → Prop} {o r eL eO_ cL cO : Nat} {w W : Rw} {p x a b dn i k : Nat} {zs : Nat → Nat} {n : Nat} {E : bE} {v : Int32}
theorem CXT.row2 (H : CXT h nx M o w) (K : KV w W) (Z : Rng w) : CXT h nx M o W := by
  obtain ⟨aH, eH, aP, eP, rN, rA, hm, hs, nh, np, tl, O, T, TI, ho, hM⟩ := H
  have b1 := Z.gH.2
  have b2 := Z.gP.2
  obtain ⟨kH, kP, kp, kh⟩ := K
  refine ⟨aH, eH, aP, eP, rN, rA, hm, hs, nh, np, tl, O, ⟨?_, ?_, fun i hi => ?_, fun p hp => ?_⟩, ?_, ho, hM⟩
  · rw [kH]; exact T.1
  · rw [kP]; exact T.2.1
  · rw [kH] at hi
    rw [(kh i (by omega)).1, (kh i (by omega)).2]
    exact T.2.2.1 i hi
  · rw [kP] at hp
    rw [(kp p (by omega)).1, (kp p (by omega)).2.1, (kp p (by omega)).2.2]
    exact T.2.2.2 p hp
  · obtain ⟨t1, t2, t3, t4, t5, t6⟩ := TI
    exact ⟨t1, t2, t3, t4, fun i hi => t5 i (by rw [← kH]; exact hi), fun p hp => t6 p (by rw [← kP]; exact hp)⟩
theorem RX.re (X : RX h nx M o r eL eO_ cL cO w) (Z : Rng w) : ∃ (F : Nat → Nat → Int32) (wk rf : Int32) (sc : Int32 × Int32 × Int32 × Int32) (la oa : Nat → Nat), RegH h o r eL eO_ F wk rf sc (nL w) la (nO w) oa cL cO ∧ RelF F wk rf w ∧ ∀ (h' : AH) (F' : Nat → Nat → Int32) (wk' rf' : Int32) (W : Rw), RegH h' o r eL eO_ F' wk' rf' sc (nL w) la (nO w) oa cL cO → RelF F' wk' rf' W → KV w W → KL w W → (∀ q, q < nx → ¬ M q ∨ q = o → h' q = h q) → RX h' nx M o r eL eO_ cL cO W := by
  obtain ⟨H, F, wk, rf, sc, la, oa, R, Q, L, K, s0, il, io, hOwn, hno⟩ := X
  refine ⟨F, wk, rf, sc, la, oa, R, Q, fun h' F' wk' rf' W R' Q' kv kl hk => ?_⟩
  obtain ⟨l1, l2, l3, l4⟩ := kl
  refine ⟨(H.step (Nat.le_refl _) Ext.rfl' H.bd hk).row2 kv Z, F', wk', rf', sc, la, oa, ?_, Q', ?_, ?_, s0, fun i hi => il i (by rw [← l1]; exact hi), fun i hi => io i (by rw [← l2]; exact hi), hOwn, hno⟩
  · rw [l1, l2]; exact R'
  · rw [l1]
    exact (L.kept (fun i hi => hk _ (il i hi).1 (Or.inl (il i hi).2))).row Z l1 l3 (fun q hq => (kv.2.2.1 q hq).2.1) (fun y hy => (kv.2.2.2 y hy).2)
  · rw [l2]
    exact (K.kept (fun i hi => hk _ (io i hi).1 (Or.inl (io i hi).2))).row l2 l4
theorem RX.put2 (X : RX h nx M o r eL eO_ cL cO w) (Z : Rng w) {a j : Nat} (ha : a < 15) (hj : j < al a) (v : Int32) (hQ : ∀ F wk rf, RelF F wk rf w → RelF (uF F a j v) wk rf W) (hK : KV w W) (hL : KL w W) :
    ∃ h' : AH, sI h (r + (a + 1)) (ak a) (nI j) v = some h' ∧ RX h' nx M o r eL eO_ cL cO W ∧ ∀ q, q ≠ r + (a + 1) → h' q = h q := by
  have ow := X.own
  obtain ⟨F, wk, rf, sc, la, oa, R, Q, mk⟩ := X.re Z
  have hr := ow.1 (r + (a + 1)) (Or.inl ⟨by omega, by omega⟩)
  have hor : o ≠ r + (a + 1) := fun z => ow.2.1 (by rw [z]; exact Or.inl ⟨by omega, by omega⟩)
  refine ⟨_, R.st ha hj v, mk _ (uF F a j v) wk rf W (R.setA ha (upd (F a) j v)) (hQ F wk rf Q) hK hL (fun q hq hz => hu_n (fun e => ?_)), fun q hq => hu_n hq⟩
  subst e
  rcases hz with z | z
  · exact z hr.1
  · exact hor z.symm
theorem KV_u (hi : (224 ≤ i ∧ i < 230) ∨ (∃ q k, q < 8 ∧ k < 18 ∧ k ≠ 0 ∧ k ≠ 2 ∧ k ≠ 3 ∧ i = 80 + 18 * q + k) ∨ ∃ y k, y < 10 ∧ 2 ≤ k ∧ k < 8 ∧ i = 8 * y + k) : KV w (upd w i v) ∧ KL w (upd w i v) := by
  have h1 : i < 230 := by
    rcases hi with z | ⟨q, k, z1, z2, -, -, -, z3⟩ | ⟨y, k, z1, z2, z3, z4⟩ <;> omega
  refine ⟨⟨?_, ?_, fun q hq => ⟨?_, ?_, ?_⟩, fun y hy => ⟨?_, ?_⟩⟩, ?_, ?_, fun j k _ _ => ?_, fun j k _ _ => ?_⟩
  · unfold nH wN; rw [upd_n (by omega)]
  · unfold nP wN; rw [upd_n (by omega)]
  · unfold pF; exact upd_n (by rcases hi with z | ⟨q, k, z1, z2, z3, z4, z5, z6⟩ | ⟨y, k, z1, z2, z3, z4⟩ <;> omega)
  · unfold pF; exact upd_n (by rcases hi with z | ⟨q, k, z1, z2, z3, z4, z5, z6⟩ | ⟨y, k, z1, z2, z3, z4⟩ <;> omega)
  · unfold pF; exact upd_n (by rcases hi with z | ⟨q, k, z1, z2, z3, z4, z5, z6⟩ | ⟨y, k, z1, z2, z3, z4⟩ <;> omega)
  · unfold hF; exact upd_n (by rcases hi with z | ⟨q, k, z1, z2, z3, z4, z5, z6⟩ | ⟨y, k, z1, z2, z3, z4⟩ <;> omega)
  · unfold hF; exact upd_n (by rcases hi with z | ⟨q, k, z1, z2, z3, z4, z5, z6⟩ | ⟨y, k, z1, z2, z3, z4⟩ <;> omega)
  · unfold nL wN; rw [upd_n (by omega)]
  · unfold nO wN; rw [upd_n (by omega)]
  · unfold lF; exact upd_n (by omega)
  · exact upd_n (by omega)
theorem RelF_0 {F : Nat → Nat → Int32} {wk rf : Int32} (Q : RelF F wk rf w) (Z : Rng w) {k : Nat} (hk : k < 6) (v : Int32) : RelF (uF F 0 k v) wk rf (upd w (224 + k) v) := by
  have b1 := Z.gH.2
  have b2 := Z.gP.2
  have bL := Z.gL.2
  obtain ⟨q1, q2, q3, q4, q5, q6, q7⟩ := Q
  have eP : nP (upd w (224 + k) v) = nP w := by unfold nP wN; rw [upd_n (by omega)]
  have eH : nH (upd w (224 + k) v) = nH w := by unfold nH wN; rw [upd_n (by omega)]
  have eL : nL (upd w (224 + k) v) = nL w := by unfold nL wN; rw [upd_n (by omega)]
  have ep : ∀ q j, q < 8 → j < 18 → pF (upd w (224 + k) v) q j = pF w q j := fun q j h1 h2 => by unfold pF; exact upd_n (by omega)
  have eh : ∀ y j, y < 10 → j < 8 → hF (upd w (224 + k) v) y j = hF w y j := fun y j h1 h2 => by unfold hF; exact upd_n (by omega)
  have el : ∀ i j, i < nL w → j < 8 → lF (upd w (224 + k) v) i j = lF w i j := fun i j h1 h2 => by unfold lF; exact upd_n (by omega)
  refine ⟨fun j hj => ?_, fun q hq => ?_, fun q i hq hi => ?_, fun y hy => ?_, fun y hy => ?_, q6.trans (upd_n (by omega)).symm, q7.trans (upd_n (by omega)).symm⟩
  · rw [uF_a]
    by_cases hjk : j = k
    · subst hjk; rw [if_pos rfl, upd_s]
    · rw [if_neg hjk, upd_n (by omega)]; exact q1 j hj
  · rw [eP] at hq
    have h8 : ∀ a, a ≠ 0 → uF F 0 k v a q = F a q := fun a ha => uF_n ha
    rw [h8 1 (by decide), h8 2 (by decide), h8 3 (by decide), h8 4 (by decide), h8 5 (by decide), h8 6 (by decide), h8 10 (by decide), h8 13 (by decide), h8 14 (by decide), ep q 4 (by omega) (by decide), ep q 5 (by omega) (by decide), ep q 6 (by omega) (by decide), ep q 9 (by omega) (by decide), ep q 10 (by omega) (by decide), ep q 11 (by omega) (by decide), ep q 1 (by omega) (by decide), ep q 8 (by omega) (by decide), ep q 7 (by omega) (by decide)]
    exact q2 q hq
  · rw [eP] at hq
    have e11 : pN (upd w (224 + k) v) q 11 = pN w q 11 := by unfold pN; rw [ep q 11 (by omega) (by decide)]
    rw [e11] at hi
    have := (Z.p11 (p := q) (by omega)).2
    rw [uF_n (by decide), ep q (12 + i) (by omega) (by omega)]
    exact q3 q i hq hi
  · rw [eH] at hy
    rw [uF_n (by decide), uF_n (by decide), uF_n (by decide), eh y 7 (by omega) (by decide), eh y 6 (by omega) (by decide), eh y 3 (by omega) (by decide)]
    exact q4 y hy
  · rw [eH] at hy
    rw [uF_n (by decide), eh y 5 (by omega) (by decide), eL]
    rcases q5 y hy with z | ⟨i, z1, z2, z3⟩
    · exact Or.inl z
    · exact Or.inr ⟨i, z1, z2, by rw [el i 3 z1 (by decide)]; exact z3⟩
theorem RX.rule (X : RX h nx M o r eL eO_ cL cO w) (Z : Rng w) (hk : k < 6) (v : Int32) : ∃ h' : AH, sI h (r + 1) 0 (nI k) v = some h' ∧ RX h' nx M o r eL eO_ cL cO (upd w (224 + k) v) ∧ ∀ q, q ≠ r + 1 → h' q = h q := by
  obtain ⟨k1, k2⟩ := KV_u (w := w) (i := 224 + k) (v := v) (Or.inl ⟨by omega, by omega⟩)
  exact X.put2 Z (a := 0) (by decide) (by show k < 6; exact hk) v (fun F wk rf Q => RelF_0 Q Z hk v) k1 k2
theorem RelF_re {F : Nat → Nat → Int32} {wk rf : Int32} (Q : RelF F wk rf w) (Z : Rng w) (H : RE w W) : RelF F wk rf W := by
  have b1 := Z.gH.2
  have b2 := Z.gP.2
  have bL := Z.gL.2
  obtain ⟨q1, q2, q3, q4, q5, q6, q7⟩ := Q
  have eP : nP W = nP w := by unfold nP wN; rw [H _ (by decide)]
  have eH : nH W = nH w := by unfold nH wN; rw [H _ (by decide)]
  have eL : nL W = nL w := by unfold nL wN; rw [H _ (by decide)]
  have ep : ∀ q j, q < 8 → j < 18 → pF W q j = pF w q j := fun q j h1 h2 => by unfold pF; exact H _ (by omega)
  have eh : ∀ y j, y < 10 → j < 8 → hF W y j = hF w y j := fun y j h1 h2 => by unfold hF; exact H _ (by omega)
  have el : ∀ i j, i < nL w → j < 8 → lF W i j = lF w i j := fun i j h1 h2 => by unfold lF; exact H _ (by omega)
  refine ⟨fun j hj => by rw [H _ (by omega)]; exact q1 j hj, fun q hq => ?_, fun q i hq hi => ?_, fun y hy => ?_, fun y hy => ?_, by rw [H _ (by decide)]; exact q6, by rw [H _ (by decide)]; exact q7⟩
  · rw [eP] at hq
    rw [ep q 4 (by omega) (by decide), ep q 5 (by omega) (by decide), ep q 6 (by omega) (by decide), ep q 9 (by omega) (by decide), ep q 10 (by omega) (by decide), ep q 11 (by omega) (by decide), ep q 1 (by omega) (by decide), ep q 8 (by omega) (by decide), ep q 7 (by omega) (by decide)]
    exact q2 q hq
  · rw [eP] at hq
    have e11 : pN W q 11 = pN w q 11 := by unfold pN; rw [ep q 11 (by omega) (by decide)]
    rw [e11] at hi
    have := (Z.p11 (p := q) (by omega)).2
    rw [ep q (12 + i) (by omega) (by omega)]
    exact q3 q i hq hi
  · rw [eH] at hy
    rw [eh y 7 (by omega) (by decide), eh y 6 (by omega) (by decide), eh y 3 (by omega) (by decide)]
    exact q4 y hy
  · rw [eH] at hy
    rw [eh y 5 (by omega) (by decide), eL]
    rcases q5 y hy with z | ⟨i, z1, z2, z3⟩
    · exact Or.inl z
    · exact Or.inr ⟨i, z1, z2, by rw [el i 3 z1 (by decide)]; exact z3⟩
theorem KV_re (Z : Rng w) (H : RE w W) : KV w W ∧ KL w W := by
  have bL := Z.gL.2
  have bO := Z.gO.2
  refine ⟨⟨by unfold nH wN; rw [H _ (by decide)], by unfold nP wN; rw [H _ (by decide)], fun q hq => ⟨H _ (by omega), H _ (by omega), H _ (by omega)⟩, fun y hy => ⟨H _ (by omega), H _ (by omega)⟩⟩, by unfold nL wN; rw [H _ (by decide)], by unfold nO wN; rw [H _ (by decide)], fun i k hi hk => H _ (by omega), fun i k hi hk => H _ (by omega)⟩
theorem RX.of_re (X : RX h nx M o r eL eO_ cL cO w) (Z : Rng w) (H : RE w W) : RX h nx M o r eL eO_ cL cO W := by
  obtain ⟨F, wk, rf, sc, la, oa, R, Q, mk⟩ := X.re Z
  obtain ⟨k1, k2⟩ := KV_re Z H
  exact mk h F wk rf W R (RelF_re Q Z H) k1 k2 (fun _ _ _ => rfl)
end PKV
/-- the aside register after something was tried, whatever it tells -/
def AZ (A : Nat → Nat) (I : Nat → Int32) (M : Nat → Prop) (w : Rw) (eL eO_ : Nat) (h0 : AH) (n0 : Nat) (M' : Nat → Prop) (eL' eO' cL' cO' : Nat) (h : AH) (nx : Nat) : Prop := SN A I M' w 0 h nx ∧ RS h nx M' (A 0) (A 8) eL' eO' cL' cO' ∧ n0 ≤ nx ∧ Ext M M' n0 ∧ cL' < 60 ∧ cO' < 60 ∧ (eL' = eL ∨ n0 ≤ eL') ∧ (eO' = eO_ ∨ n0 ≤ eO') ∧ AP A eL' eO' ∧ ∀ q, q < n0 → q ≠ A 1 → q ≠ A 0 → ¬ Own (A 8) eL eO_ q → h q = h0 q
/-- the least and most of the rules, as the class keeps them -/
def ZS (zs : Nat → Nat) (M : Nat → Prop) (h : AH) (nx : Nat) : Prop := (∃ f : Nat → Int32, h (zs 0) = some (.inl (0, 6, .inl f)) ∧ ∀ k, k < 6 → f k = loR k) ∧ (∃ f : Nat → Int32, h (zs 1) = some (.inl (0, 6, .inl f)) ∧ ∀ k, k < 6 → f k = hiR k) ∧ ∀ j, j < 2 → zs j < nx ∧ ¬ M (zs j)
section PLC
variable {A : Nat → Nat} {I : Nat → Int32} {M M' M1 : Nat → Prop} {w W : Rw} {st : Int32} {h h0 h1 h2 h' : AH} {nx nx' n0 n1 n2 : Nat} {E : bE} {v a b u : Int32} {p x y N k q d K r eL eO_ cL cO eL' eO' cL' cO' eL2 eO2 cL2 cO2 : Nat} {f : Option (Int32 × AH × Nat × Nat)} {zs : Nat → Nat} {n : Nat}
theorem AZ.base (S : SN A I M w 0 h nx) (Y : RS h nx M (A 0) (A 8) eL eO_ cL cO) (hc : cL < 60) (hc2 : cO < 60) (P : AP A eL eO_) : AZ A I M w eL eO_ h nx M eL eO_ cL cO h nx :=
  ⟨S, Y, Nat.le_refl _, Ext.rfl', hc, hc2, Or.inl rfl, Or.inl rfl, P, fun _ _ _ _ _ => rfl⟩
theorem AZ.out (B : AZ A I M w eL eO_ h nx M' eL' eO' cL' cO' h' (nx + k)) (hf : f = some (a, h', k, d)) (hc : k ≤ 15998) (hd : d ≤ 94215) : AX A I M w eL eO_ h nx f (a, 0) := by
  obtain ⟨b1, b2, b3, b4, b5, b6, b7, b8, b9, b10⟩ := B
  exact ⟨h', M', eL', eO', cL', cO', k, d, hf, b1, b2, b5, b6, b7, b8, b4, b10, hc, hd⟩
theorem AZ.aw (B : AZ A I M w eL eO_ h0 n0 M' eL' eO' cL' cO' h nx) (V : AW A I M' w eL' eO' h nx M1 W eL2 eO2 cL2 cO2 h2 n2) : AZ A I M w eL eO_ h0 n0 M1 eL2 eO2 cL2 cO2 h2 n2 := by
  obtain ⟨b1, b2, b3, b4, b5, b6, b7, b8, b9, b10⟩ := B
  obtain ⟨a1, a2, a3, a4, a5, a6, a7, a8, a9, a10⟩ := V
  refine ⟨a1, a2.rs, by omega, b4.trans b3 a4, a5, a6, by omega, by omega, a9, fun q hq h1 h2 h3 => ?_⟩
  rw [a10 q (by omega) h1 h2 (fun o => ?_)]
  · exact b10 q hq h1 h2 h3
  · rcases o with z | z | z
    · exact h3 (Or.inl z)
    · rcases b7 with y | y
      · exact h3 (Or.inr (Or.inl (z.trans y)))
      · omega
    · rcases b8 with y | y
      · exact h3 (Or.inr (Or.inr (z.trans y)))
      · omega
theorem y_letsBy (S : SN A I M w 0 h nx) (G : Gd w) (Y : RS h nx M (A 0) (A 8) eL eO_ cL cO) (hc : cL < 60) (hc2 : cO < 60) (P : AP A eL eO_) (hr : r < 6) (hv : ir v (loR r) (hiR r) = true) (hK : K ≤ 30) (hw : wN w 232 + K ≤ 999) : ∃ h' M' eL' eO' cL' cO' c d, f_X1_letsBy (dE zs (n + 5)) h nx (A 0) (nI K) (nI r) v = some (omN K (upd w (224 + r) v) 233 - w 233, h', c, d) ∧ AW A I M w eL eO_ h nx M' (omN K (upd w (224 + r) v)) eL' eO' cL' cO' h' (nx + c) ∧ c ≤ 1046 ∧ d ≤ 3504 := by
  have Z := G.1
  have Gb : Gd (upd w (224 + r) v) := Gd_rule G hr hv
  have hW : wN (upd w (224 + r) v) 232 + K ≤ 999 := by unfold wN; rw [upd_n (by omega)]; exact hw
  obtain ⟨GW, KW, -⟩ := omN_ok Gb K hW
  obtain ⟨h2, M2, eL2, eO2, cL2, cO2, c2, d2, e2, B2, l2, l2'⟩ := y_aside (E := dE zs (n + 5)) S G Y hc hc2 P
  have o8 : isO h (A 8) 1 = true := by
    obtain ⟨F, wk, rf, sc, nl, la, no, oa, R, -⟩ := Y
    exact R.o1
  obtain ⟨h3, e3, X3, k3⟩ := B2.2.1.rule Z hr v
  have g0 : gA h2 (A 8) 1 0 = some (A 8 + 1) := by
    obtain ⟨F, wk, rf, sc, nl, la, no, oa, R, -⟩ := B2.2.1.rs
    exact R.g0
  have B3 := B2.put X3 (fun q hq => k3 q (fun e => hq (Or.inl ⟨by omega, by omega⟩)))
  have o83 : isO h3 (A 8) 1 = true := by
    obtain ⟨F, wk, rf, sc, nl, la, no, oa, R, -⟩ := X3.rs
    exact R.o1
  obtain ⟨h4, M4, eL4, eO4, cL4, cO4, c4, d4, e4, B4, l4, l4'⟩ := y_asideGoes (zs := zs) (n := n) B3 Gb (K := K) (by omega) hW
  have S4 := B4.1
  obtain ⟨F, wk, rf, sc, la, oa, R4, -⟩ := B4.2.1.2
  refine ⟨h4, M4, eL4, eO4, cL4, cO4, c2 + c4, d2 + d4, ?_, by rw [← Nat.add_assoc]; exact B4, by omega, by omega⟩
  unfold f_X1_letsBy
  have S40 := S4
  obtain ⟨⟨aH, eH, aP, eP, rN, rA, hm, hs, nh, np, tl, O, T, TI, ho, hM⟩, F, wk, rf, sc, la, oa, R, Q, L, K, s0, il, io, hOwn, hno⟩ := id S4.1
  rw [S.g3, Option.bind_some, S.g2, Option.bind_some, o8, gdT, e2, Option.bind_some]
  dsimp only
  rw [B2.1.g3, Option.bind_some, g0, Option.bind_some, e3, Option.bind_some, B3.1.g3, Option.bind_some, o83, gdT, e4, Option.bind_some]
  dsimp only
  rw [S40.g3, Option.bind_some, R4.g15, Option.bind_some, R4.2.2.1.o, gdT, R4.2.2.1.size, Option.bind_some, S40.g2, Option.bind_some, R.g15, Option.bind_some, R.2.2.1.o, gdT, R.2.2.1.size, Option.bind_some, aC_some, aC_some, ← GW.1.gL.1, ← Z.gL.1]
  rfl
theorem y_lever59 (G : Gd w) (B : AZ A I M w eL eO_ h0 n0 M' eL' eO' cL' cO' h nx) (D : ZS zs M h0 n0) (Y0 : ∀ q, Own (A 8) eL eO_ q → M q) (hA : M (A 1) ∧ M (A 0)) (hK : K ≤ 30) (hw : wN w 232 + K ≤ 999) {i m : Nat} (hi : i < 12) {d : Int32} (hd : d = if i % 2 = 0 then -1 else 1) {k49 : Nat → Int32 → Int32 → Int32 → Int32 → Int32 → Int32 → AH → Nat → Option (Int32 × AH × Nat × Nat)} : ∃ h' M1 eL2 eO2 cL2 cO2 c d', f_X1_lever_59 (m + 1) k49 (dE zs (n + 5)) (A 0) (nI K) b (lvS w K i).1 (lvS w K i).2.1 (lvS w K i).2.2 (nI (i / 2)) d h nx = aC c d' (f_X1_lever_59 m k49 (dE zs (n + 5)) (A 0) (nI K) b (lvS w K (i + 1)).1 (lvS w K (i + 1)).2.1 (lvS w K (i + 1)).2.2 (nI (i / 2)) (d + 2) h' (nx + c)) ∧ AZ A I M w eL eO_ h0 n0 M1 eL2 eO2 cL2 cO2 h' (nx + c) ∧ c ≤ 1046 ∧ d' ≤ 3504 := by
  have Z := G.1
  have hr : i / 2 < 6 := by omega
  obtain ⟨⟨f0, z0, z0'⟩, ⟨f1, z1, z1'⟩, zM⟩ := D
  have B0 := B
  obtain ⟨b1, b2, b3, b4, b5, b6, b7, b8, b9, b10⟩ := B
  have rd : ∀ j, j < 2 → h (zs j) = h0 (zs j) := fun j hj => b10 _ (zM j hj).1 (fun e => (zM j hj).2 (e ▸ hA.1)) (fun e => (zM j hj).2 (e ▸ hA.2)) (fun o => (zM j hj).2 (Y0 _ o))
  have a0 : aI h ((dE zs (n + 5)).1 0) 0 (nI (i / 2)) = some (loR (i / 2)) := by
    rw [dE_1, aI_at (by rw [rd 0 (by decide)]; exact z0) hr (by decide), z0' _ hr]
  have a1 : aI h ((dE zs (n + 5)).1 1) 0 (nI (i / 2)) = some (hiR (i / 2)) := by
    rw [dE_1, aI_at (by rw [rd 1 (by decide)]; exact z1) hr (by decide), z1' _ hr]
  have hlt : ¬ nI 2 ≤ d := by rw [hd]; split <;> decide
  have hv : w (224 + i / 2) + d = lvV w i := by rw [hd]; rfl
  have e0 : (gA h (A 0) 0 2) = some (A 1) := b1.g2
  have e1 : gA h (A 1) 1 0 = some (A 1 + 1) := by
    obtain ⟨⟨aH, eH, aP, eP, rN, rA, hm, hs, nh, np, tl, O, T, TI, ho, hM⟩, F, wk, rf, sc, la, oa, R, Q, L, K, s0, il, io, hOwn, hno⟩ := id b1.1
    exact R.g0
  have e2 : aI h (A 1 + 1) 0 (nI (i / 2)) = some (w (224 + i / 2)) := by
    obtain ⟨⟨aH, eH, aP, eP, rN, rA, hm, hs, nh, np, tl, O, T, TI, ho, hM⟩, F, wk, rf, sc, la, oa, R, Q, L, K, s0, il, io, hOwn, hno⟩ := id b1.1
    rw [R.a0 hr, Q.1 _ hr]
  rw [f_X1_lever_59, if_neg hlt, e0, Option.bind_some, e1, Option.bind_some, e2, Option.bind_some, a0, Option.bind_some, a1, Option.bind_some, hv, lg_c (lvV w i) (loR (i / 2)) (hiR (i / 2)) rfl rfl, Option.bind_some, lvS_1]
  unfold lvF
  have eir : (!decide (lvV w i < loR (i / 2)) && !decide (hiR (i / 2) < lvV w i)) = ir (lvV w i) (loR (i / 2)) (hiR (i / 2)) := rfl
  rw [eir]
  cases hir : ir (lvV w i) (loR (i / 2)) (hiR (i / 2))
  · rw [if_pos (show bI false = 0 from rfl), if_neg (show ¬ false = true by nofun)]
    exact ⟨h, M', eL', eO', cL', cO', 0, 0, by rw [aC00]; rfl, B0, by omega, by omega⟩
  · rw [if_neg (show ¬ bI true = 0 by decide), if_pos (show true = true from rfl), b1.i0, gdT]
    obtain ⟨h', M1, eL2, eO2, cL2, cO2, c, d', e, V, v1, v2⟩ := y_letsBy (zs := zs) (n := n) b1 G b2 b5 b6 b9 hr hir hK hw
    refine ⟨h', M1, eL2, eO2, cL2, cO2, c, d', ?_, B0.aw V, v1, v2⟩
    rw [e, Option.bind_some]
    dsimp only
    have e5 : omN K (upd w (224 + i / 2) (lvV w i)) 233 - w 233 = lvB w K i := rfl
    rw [e5]
    by_cases hl : (lvS w K i).1 < lvB w K i
    · rw [if_pos hl, if_pos hl]
    · rw [if_neg hl, if_neg hl]
theorem y_lever49 (G : Gd w) (D : ZS zs M h0 n0) (Y0 : ∀ q, Own (A 8) eL eO_ q → M q) (hA : M (A 1) ∧ M (A 0)) (hK : K ≤ 30) (hw : wN w 232 + K ≤ 999) : ∀ (k r m : Nat) (M' : Nat → Prop) (eL' eO' cL' cO' : Nat) (h : AH) (nx : Nat), r + k = 6 → AZ A I M w eL eO_ h0 n0 M' eL' eO' cL' cO' h nx → ∃ h' M1 eL2 eO2 cL2 cO2 c d, f_X1_lever_49 (m + k + 1) (dE zs (n + 5)) (A 0) (nI K) b (lvS w K (2 * r)).1 (lvS w K (2 * r)).2.1 (lvS w K (2 * r)).2.2 (nI r) h nx = some (lvA w K b, h', c, d) ∧ AZ A I M w eL eO_ h0 n0 M1 eL2 eO2 cL2 cO2 h' (nx + c) ∧ c ≤ k * 2092 ∧ d ≤ k * 7008 := by
  intro k
  induction k with
  | zero =>
    intro r m M' eL' eO' cL' cO' h nx hr B
    have : r = 6 := by omega
    subst this
    refine ⟨h, M', eL', eO', cL', cO', 0, 0, ?_, B, by omega, by omega⟩
    rw [f_X1_lever_49, if_pos (nI_leR 6)]
    unfold lvA
    by_cases h0 : b = 0
    · rw [if_pos h0, if_pos h0]
    · rw [if_neg h0, if_neg h0]
      by_cases h1 : b = 1
      · rw [if_pos h1, if_pos h1]
      · rw [if_neg h1, if_neg h1]
  | succ k ih =>
    intro r m M' eL' eO' cL' cO' h nx hr B
    have d1 : 2 * r / 2 = r := by omega
    have d2 : (2 * r + 1) / 2 = r := by omega
    rw [show m + (k + 1) + 1 = (m + k + 1) + 1 by omega, f_X1_lever_49, if_neg (nI_ge (by omega) (by decide))]
    obtain ⟨h1, M1, eL1, eO1, cL1, cO1, c1, s1, e1, B1, b1, b1'⟩ := y_lever59 (n := n) (b := b) (m := 9999) (k49 := f_X1_lever_49 (m + k + 1) (dE zs (n + 5))) G B D Y0 hA hK hw (i := 2 * r) (by omega) (d := -1) (by rw [if_pos (by omega)])
    obtain ⟨h2, M2, eL2, eO2, cL2, cO2, c2, s2, e2, B2, b2, b2'⟩ := y_lever59 (n := n) (b := b) (m := 9998) (k49 := f_X1_lever_49 (m + k + 1) (dE zs (n + 5))) G B1 D Y0 hA hK hw (i := 2 * r + 1) (by omega) (d := -1 + 2) (by rw [if_neg (by omega)]; rfl)
    obtain ⟨h3, M3, eL3, eO3, cL3, cO3, c3, s3, e3, B3, b3, b3'⟩ := ih (r + 1) m M2 eL2 eO2 cL2 cO2 h2 (nx + c1 + c2) (by omega) B2
    rw [d1] at e1
    rw [d2] at e2
    rw [show FU = 9999 + 1 from rfl, e1, e2, f_X1_lever_59, if_pos (by decide), nI_1, show 2 * r + 1 + 1 = 2 * (r + 1) by omega, e3, aC_some, aC_some]
    refine ⟨h3, M3, eL3, eO3, cL3, cO3, _, _, rfl, ?_, by omega, by omega⟩
    rw [show nx + (c1 + (c2 + c3)) = nx + c1 + c2 + c3 by omega]
    exact B3
theorem y_lever (S : SN A I M w st h nx) (G : Gd w) (Y : RS h nx M (A 0) (A 8) eL eO_ cL cO) (hc : cL < 60) (hc2 : cO < 60) (P : AP A eL eO_) (D : ZS zs M h nx) (hw : wN w 232 + 30 ≤ 999) : AX A I M w eL eO_ h nx (f_X1_lever (dE zs (n + 5)) h nx (A 0) a b) (an_lever w a b) := by
  have Z := G.1
  rw [f_X1_lever, lg_r a 1 (nI 30) (by decide) (by decide), Option.bind_some, lg_r b 0 (nI 2) (by decide) (by decide), Option.bind_some]
  unfold an_lever f_X1_lever_30
  cases hv : ir a 1 (nI 30)
  · rw [if_pos (show bI false = 0 from rfl), if_pos (show (false && ir b 0 (nI 2)) = false from rfl)]
    exact An.ax (An.cn S (by decide)) Y hc hc2 P
  rw [if_neg (show ¬ bI true = 0 by decide)]
  cases hv2 : ir b 0 (nI 2)
  · rw [if_pos (show bI false = 0 from rfl), if_pos (show (true && false) = false from rfl)]
    exact An.ax (An.cn S (by decide)) Y hc hc2 P
  rw [if_neg (show ¬ bI true = 0 by decide), if_neg (show ¬ (true && true) = false by decide)]
  obtain ⟨K, hK1, hK, rfl⟩ := (rg_1 (by decide)).mp hv
  rw [nI_clamp (by omega)]
  have own1 := S.1.own
  have hA1 : M (A 1) := (own1.1 _ (Or.inl ⟨by omega, by omega⟩)).1
  have hA0 : M (A 0) := own1.2.2.2
  have Y0 : ∀ q, Own (A 8) eL eO_ q → M q := by
    obtain ⟨F, wk, rf, sc, nl, la, no, oa, R, s0, hOwn, hno⟩ := Y
    exact fun q hq => (hOwn q hq).1
  refine AX.can0 S Y P (fun h1 S1 q1 Y1 => ?_)
  simp only [Nat.add_zero]
  have D1 : ZS zs M h1 nx := by
    obtain ⟨⟨f0, z0, z0'⟩, ⟨f1, z1, z1'⟩, zM⟩ := D
    have rd : ∀ j, j < 2 → h1 (zs j) = h (zs j) := fun j hj => q1.2 _ (zM j hj).1 (fun e => (zM j hj).2 (e ▸ hA1)) (fun e => (zM j hj).2 (e ▸ hA0))
    exact ⟨⟨f0, by rw [rd 0 (by decide)]; exact z0, z0'⟩, ⟨f1, by rw [rd 1 (by decide)]; exact z1, z1'⟩, zM⟩
  obtain ⟨h2, M2, eL2, eO2, cL2, cO2, c, d, e, B, l1, l2⟩ := y_lever49 (n := n) (b := b) G D1 Y0 ⟨hA1, hA0⟩ hK (by omega) 6 0 (FU - 7) M eL eO_ cL cO h1 nx rfl (AZ.base S1 Y1 hc hc2 P)
  exact AZ.out (k := c) B e (by omega) (by omega)
end PLC
