/-! THE COMPONENT's side: a week ends, up to the offers -/
section PZR
variable {h h' h'' : AH} {nx nx' nx'' : Nat} {M M' M'' : Nat → Prop} {o r eL eO_ cL cO : Nat} {w w' : Rw} {p x off : Nat} {zs : Nat → Nat} {n : Nat} {E : bE}
theorem x_clearO (X : RX h nx M o r eL eO_ cL cO w) (Z : Rng w) : ∃ h' : AH, f_J2_clear E h nx (r + 18) = some ((), h', 0, 0) ∧ RX h' nx M o r eL eO_ cL cO (upd w 299 0) ∧ ∀ q, ¬ Own r eL eO_ q → h' q = h q := by
  have bL := Z.gL.2
  obtain ⟨H, F, wk, rf, sc, la, oa, R, Q, L, K, s0, il, io, hOwn, hno⟩ := X
  obtain ⟨r1, r2, r3, r4, r5, r6, r7, r8⟩ := id R
  have hok6 : eL < r ∨ r + 41 ≤ eL ∨ eL = r + 17 ∨ eL = r + 19 := r6
  have hok7 : eO_ < r ∨ r + 41 ≤ eO_ ∨ eO_ = r + 17 ∨ eO_ = r + 19 := r7
  obtain ⟨h', a1, a2, a3⟩ := L_clear (E := E) (nx := nx) r4
  have keep : ∀ q, ¬ Own r eL eO_ q → h' q = h q := fun q hq => a3 q (fun z => hq (by rw [z]; exact Or.inl ⟨by omega, by omega⟩)) (fun z => hq (Or.inr (Or.inr z)))
  have kM : ∀ q, q < nx → ¬ M q ∨ q = o → h' q = h q := fun q hq hz => keep q (fun z => by
    rcases hz with y | y
    · exact y (hOwn q z).1
    · exact hno (by rw [← y]; exact z))
  have hNL : nL (upd w 299 0) = nL w := by unfold nL wN; rw [upd_n (by decide)]
  have hNO : nO (upd w 299 0) = 0 := by unfold nO wN; rw [upd_s]; rfl
  have K0 : KT w (upd w 299 0) := ⟨fun q k a1 a2 a3 => by unfold pF; exact upd_n (by omega), fun y k a1 a2 => by unfold hF; exact upd_n (by omega), fun i a1 a2 => upd_n (by omega)⟩
  refine ⟨h', a1, ⟨(H.step (Nat.le_refl _) Ext.rfl' H.bd kM).row K0 Z, F, wk, rf, sc, la, oa, ?_, RelF_c Q Z (fun i hi => upd_n (by omega)), ?_, ?_, s0, fun i hi => il i (by rw [← hNL]; exact hi), fun i hi => by rw [hNO] at hi; omega, hOwn, hno⟩, keep⟩
  · rw [hNL, hNO]
    exact ⟨by rw [a3 r (by omega) (by omega)]; exact r1, fun a ha => by rw [a3 _ (by omega) (by omega)]; exact r2 a ha, r3.kept (a3 _ (by omega) (by omega)) (a3 _ (by omega) r8), a2, fun i h1 h2 => by rw [a3 _ (by omega) (by omega)]; exact r5 i h1 h2, r6, r7, r8⟩
  · rw [hNL]
    exact (L.kept (fun i hi => kM _ (il i hi).1 (Or.inl (il i hi).2))).row Z hNL (fun i j hi hj => by unfold lF; exact upd_n (by omega)) (fun q hq => by unfold pF; exact upd_n (by omega)) (fun y hy => by unfold hF; exact upd_n (by omega))
  · rw [hNO]
    exact ⟨hNO.symm, fun i hi => by rw [hNO] at hi; omega⟩
theorem or_b (b : Bool) {s i : Nat} (hs : s < 1024) (hi : i < 10) : nI s ||| (bI b <<< (nI i &&& 31)) = nI (if b = true then s ||| 2 ^ i else s) := by
  cases b
  · have : ∀ i, i < 10 → (bI false <<< (nI i &&& 31)) = 0 := by decide
    rw [this i hi, or_0]; rfl
  · rw [if_pos rfl]; exact or_n s hs i hi
theorem x_ends19 (G : Gd w) (X : RX h nx M o r eL eO_ cL cO w) (v : Int32) : f_X2_ends_19 FU E r v 0 0 h nx = f_X2_ends_54 FU E r v (nI (stN (isFr w) (nH w))) 0 h nx := by
  have Z := G.1
  have b1 := Z.gH.2
  obtain ⟨⟨aH, eH, aP, eP', rN, rA, hm, hs, nh, np, tl, O, T, TI, ho, hM'⟩, F, wk, rf, sc, la, oa, R, Q, L, K, s0, il, io, hOwn, hno⟩ := id X
  refine lp_sq (fun n i (s : Nat) => f_X2_ends_19 n E r v (nI s) (nI i) h nx) (fun i => stN (isFr w) i) _ (nH w) ?_ ?_ FU 0 (Nat.zero_le _) (FU_lt (by omega))
  · intro n
    simp only [f_X2_ends_19, R.g26, Option.bind_some, O.g0, T.1.o, gdT, T.1.size]
    rw [if_pos (nI_leR _)]
  · intro n i hi
    simp only [f_X2_ends_19, R.g26, Option.bind_some, O.g0, T.1.o, gdT, T.1.size, R.o1, c_isFree R Q O T Z G.2.1 hi, one_b]
    have := stN_lt (B := isFr w) i
    have h2 : 2 ^ i ≤ 2 ^ 10 := Nat.pow_le_pow_right (by decide) (by omega)
    rw [if_neg (nI_ge hi (by omega)), or_b _ (by omega) (by omega), nI_1, ← stN_1]
theorem x_e54 {w0 : Rw} {fr : Nat} {v : Int32} (hfr : fr < 1024) : ∀ (k j m : Nat) (s : Rw) (h : AH) (nx : Nat) (M : Nat → Prop) (eL eO_ cL cO : Nat), j + k = nH w0 → nH w0 ≤ 10 → P60 w0 fr j s → RX h nx M o r eL eO_ cL cO s → cL < 60 → cO < 60 →
    ∃ (h' : AH) (M' : Nat → Prop) (eL' eO' cL' cO' c d : Nat), f_X2_ends_54 (m + k + 1) (dE zs (n + 5)) r v (nI fr) (nI j) h nx = aC c d (f_X2_ends_117 FU (dE zs (n + 5)) r v 0 h' (nx + c)) ∧ XW o r h nx M eL eO_ cL cO s h' (nx + c) M' eL' eO' cL' cO' (flN (hmF fr) j k s) (3 * k) (9 * k) d
  | 0, j, m, s, h, nx, M, eL, eO_, cL, cO, hj, hH, P, X, hcL, hcO => by
    have eH : nH s = nH w0 := P.2.2.2.1.nH
    obtain ⟨⟨aH, eH', aP, eP', rN, rA, hm, hs, nh, np, tl, O, T, TI, ho, hM'⟩, F, wk, rf, sc, la, oa, R, Q, L, K, s0, il, io, hOwn, hno⟩ := id X
    refine ⟨h, M, eL, eO_, cL, cO, 0, 0, ?_, XW.here X hcL hcO rfl (fun _ _ _ => rfl)⟩
    simp only [f_X2_ends_54, R.g26, Option.bind_some, O.g0, T.1.o, gdT, T.1.size]
    rw [if_pos (by rw [eH, show j = nH w0 by omega]; exact nI_leR _), aC00]
    rfl
  | k + 1, j, m, s, h, nx, M, eL, eO_, cL, cO, hj, hH, P, X, hcL, hcO => by
    have eH : nH s = nH w0 := P.2.2.2.1.nH
    have Z : Rng s := P.1
    have G : Gd s := ⟨P.1, P.2.1, P.2.2.1⟩
    have P1 := P60_1 (j := j) (by omega) hH P
    have hj10 : j < 10 := by omega
    have hjs : j < nH s := by omega
    obtain ⟨⟨aH, eH', aP, eP', rN, rA, hm, hs, nh, np, tl, O, T, TI, ho, hM'⟩, F, wk, rf, sc, la, oa, R, Q, L, K, s0, il, io, hOwn, hno⟩ := id X
    rw [show m + (k + 1) + 1 = (m + k + 1) + 1 by omega, f_X2_ends_54]
    simp only [R.g26, Option.bind_some, O.g0, T.1.o, gdT, T.1.size, R.o1]
    rw [if_neg (nI_ge hjs (by omega)), btV fr hfr j hj10]
    show ∃ (h' : AH) (M' : Nat → Prop) (eL' eO' cL' cO' c d : Nat), _ ∧ XW o r h nx M eL eO_ cL cO s h' (nx + c) M' eL' eO' cL' cO' (flN (hmF fr) (j + 1) k (hmF fr j s)) (3 * (k + 1)) (9 * (k + 1)) d
    by_cases hb : fr.testBit j = true
    · have hmf : hmF fr j s = upd (ofN j 3 0 0 s) (8 * j + 7) (hF (ofN j 3 0 0 s) j 7 + (if hF (ofN j 3 0 0 s) j 2 = -1 then 1 else 0)) := by unfold hmF; rw [if_pos hb]
      rw [hb, if_neg (show ¬ bI true = 0 by decide)]
      have hf := P.2.2.2.2.2.2 j (Nat.le_refl _) hj10 hb
      have hO3 := P.2.2.2.2.1
      obtain ⟨h1, M1, eL1, eO1, cL1, cO1, c1, d1, a1, a2⟩ := x_offersOne (zs := zs) (n := n) G X hjs hf (by omega) hcL hcO
      obtain ⟨g1, g2, g3, g4, g5, g6, g7, g8⟩ := ofN_ok j 3 0 0 s P.1 P.2.1 P.2.2.1 hjs hf (by omega)
      have X1 := a2.1
      have gL := g1.gL.2
      have hu7 : ∀ u : Int32, ∃ h2 : AH, sI h1 (r + 12) 0 (nI j) u = some h2 ∧ RX h2 (nx + c1) M1 o r eL1 eO1 cL1 cO1 (upd (ofN j 3 0 0 s) (8 * j + 7) u) ∧ ∀ q, q ≠ r + 12 → h2 q = h1 q := fun u => X1.put g1 (a := 11) (by decide) hj10 u (fun F wk rf Q => RelF_h11 Q g1 hj10 u) ⟨fun q k a1 a2 a3 => by unfold pF; exact upd_n (by omega), fun y k a1 a2 => by unfold hF; exact upd_n (by omega), fun i a1 a2 => upd_n (by omega)⟩ (by unfold nL wN; rw [upd_n (by omega)]) (by unfold nO wN; rw [upd_n (by omega)]) (fun i k hi hk => by unfold lF; exact upd_n (by omega)) (fun i k hi hk => upd_n (by omega))
      obtain ⟨⟨aH1, eH1, aP1, eP1, rN1, rA1, hm1, hs1, nh1, np1, tl1, O1, T1, TI1, ho1, hM1⟩, F1, wk1, rf1, sc1, la1, oa1, R1, Q1, L1, K1, s01, il1, io1, hOwn1, hno1⟩ := id X1
      have hj1 : j < nH (ofN j 3 0 0 s) := by rw [g4.nH]; exact hjs
      rw [a1, Option.bind_some]
      dsimp only
      simp only [R1.g11, Option.bind_some, R1.o1, gdT, c_whoIn R1 Q1 O1 T1 g1 g2 hj1]
      rw [R1.a11 hj10, Option.bind_some, (Q1.2.2.2.1 j hj1).1]
      obtain ⟨h2, b1, b2, b3⟩ := hu7 (hF (ofN j 3 0 0 s) j 7 + (if hF (ofN j 3 0 0 s) j 2 = -1 then 1 else 0))
      rw [← hmf] at b2
      have W2 : XW o r h1 (nx + c1) M1 eL1 eO1 cL1 cO1 (ofN j 3 0 0 s) h2 (nx + c1) M1 eL1 eO1 cL1 cO1 (hmF fr j s) 0 0 0 := XW.here b2 a2.2.2.2.2.2.2.2.1 a2.2.2.2.2.2.2.2.2.1 (by rw [hmf]; unfold nL wN; rw [upd_n (by omega)]) (fun q hq hn => b3 q (fun z => hn (by rw [z]; exact Or.inl ⟨by omega, by omega⟩)))
      obtain ⟨h3, M3, eL3, eO3, cL3, cO3, c3, d3, e1, e2⟩ := x_e54 (v := v) hfr k (j + 1) m (hmF fr j s) h2 (nx + c1) M1 eL1 eO1 cL1 cO1 (by omega) hH P1 b2 a2.2.2.2.2.2.2.2.1 a2.2.2.2.2.2.2.2.2.1
      have W := (a2.trans W2).trans e2
      refine ⟨h3, M3, eL3, eO3, cL3, cO3, c1 + c3, d1 + d3, ?_, ?_⟩
      · have who : hF (ofN j 3 0 0 s) j 2 = -1 ∨ ∃ q, q < 8 ∧ hF (ofN j 3 0 0 s) j 2 = nI q := by
          obtain ⟨z1, z2⟩ : inI (hF (ofN j 3 0 0 s) j 2) (-1) 7 := g1.1 j 2 hj10 (by decide)
          by_cases h0 : 0 ≤ (hF (ofN j 3 0 0 s) j 2).toInt
          · obtain ⟨y1, y2⟩ := inI_n (b := 7) ⟨h0, z2⟩ (by decide)
            exact Or.inr ⟨_, by omega, y1⟩
          · left
            refine Int32.toInt_inj.mp ?_
            rw [show (-1 : Int32).toInt = -1 by decide]
            omega
        have fin : ∀ (A : Option (Int32 × AH × Nat × Nat)), aC c1 d1 (aC c3 d3 A) = aC (c1 + c3) (d1 + d3) A := fun A => by
          cases A <;> simp [aC, Nat.add_assoc]
        rw [← Nat.add_assoc, ← fin, ← e1]
        rcases who with z | ⟨q, z1, z2⟩
        · rw [if_pos z] at b1
          rw [z, if_neg (by decide)]
          unfold f_X2_ends_104
          rw [show f_X1_one 1 = some 1 from rfl, Option.bind_some, b1, Option.bind_some, nI_1]
        · rw [z2, if_neg (show ¬ nI q = -1 from fun y => nI_pos (n := q) (by omega) (by rw [y]; decide))] at b1
          rw [z2, if_pos (nI_pos' (by omega))]
          unfold f_X2_ends_104
          rw [show f_X1_one 0 = some 0 from rfl, Option.bind_some, b1, Option.bind_some, nI_1]
      · rw [Nat.add_assoc] at W
        obtain ⟨w1, w2, w3, w4, w5, w6, w7, w8, w9, w10, w11, w12, w13⟩ := W
        exact ⟨w1, w2, w3, w4, w5, w6, w7, w8, w9, w10, by omega, by omega, w13⟩
    · have hmf : hmF fr j s = s := by unfold hmF; rw [if_neg hb]
      have hbf : fr.testBit j = false := by simpa using hb
      rw [hbf, if_pos (show bI false = 0 from rfl), nI_1]
      rw [hmf] at P1 ⊢
      obtain ⟨h3, M3, eL3, eO3, cL3, cO3, c3, d3, e1, e2⟩ := x_e54 (v := v) hfr k (j + 1) m s h nx M eL eO_ cL cO (by omega) hH P1 X hcL hcO
      refine ⟨h3, M3, eL3, eO3, cL3, cO3, c3, d3, e1, ?_⟩
      obtain ⟨w1, w2, w3, w4, w5, w6, w7, w8, w9, w10, w11, w12, w13⟩ := e2
      exact ⟨w1, w2, w3, w4, w5, w6, w7, w8, w9, w10, by omega, by omega, w13⟩
end PZR
