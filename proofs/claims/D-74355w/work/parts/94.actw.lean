/-! wish, unwish: the component's side -/
section PAW
variable {A A' A5 : Nat → Nat} {I I' : Nat → Int32} {M M' M1 M5 : Nat → Prop} {w w' W W1 W2 : Rw} {st st' : Int32} {h h0 h1 h2 h' h5 : AH} {nx nx' n0 n1 n2 : Nat} {E : bE} {v a b u : Int32} {p x y N k q d K r c eL eO_ cL cO eL' eO' cL' cO' o bc bs c1 d1 i : Nat} {f f1 : Option (Int32 × AH × Nat × Nat)} {zs : Nat → Nat} {n m : Nat} {P P' : Nat → Rw} {B B' B5 : Nat → Nat → Nat} {eP cP eB eP' cP' : Nat} {C C' : Nat → hE}
/-- rows that differ in the wishes of one house alone -/
def WS (p : Nat) (w W : Rw) : Prop := ∀ i, (i < 80 + 18 * p + 11 ∨ 80 + 18 * p + 18 ≤ i) → W i = w i
theorem WS.pf (H : WS p w W) (hp : p < 8) {q j : Nat} (hq : q < 8) (hj : j < 18) (h : q ≠ p ∨ j < 11) : pF W q j = pF w q j := by
  unfold pF
  exact H _ (by omega)
theorem WS.kv (H : WS p w W) (hp : p < 8) (Z : Rng w) : KV w W ∧ KL w W := by
  have bL := Z.gL.2
  have bO := Z.gO.2
  refine ⟨⟨by unfold nH wN; rw [H _ (by omega)], by unfold nP wN; rw [H _ (by omega)], fun q hq => ⟨H _ (by omega), H _ (by omega), H _ (by omega)⟩, fun y hy => ⟨H _ (by omega), H _ (by omega)⟩⟩, by unfold nL wN; rw [H _ (by omega)], by unfold nO wN; rw [H _ (by omega)], fun i k hi hk => H _ (by omega), fun i k hi hk => H _ (by omega)⟩
theorem RelF_ws {F F' : Nat → Nat → Int32} {wk rf : Int32} (Q : RelF F wk rf w) (Z : Rng w) (hp : p < nP w) (H : WS p w W) (hFF : ∀ a j, a ≠ 6 → a ≠ 7 → F' a j = F a j) (h6 : ∀ q, q < 8 → q ≠ p → F' 6 q = F 6 q) (h7 : ∀ q i, q < 8 → q ≠ p → i < 6 → F' 7 (6 * q + i) = F 7 (6 * q + i)) (h6p : F' 6 p = pF W p 11) (h7p : ∀ i, i < pN W p 11 → F' 7 (6 * p + i) = pF W p (12 + i)) : RelF F' wk rf W := by
  have b1 := Z.gH.2
  have b2 := Z.gP.2
  have bL := Z.gL.2
  have hp8 : p < 8 := by omega
  obtain ⟨q1, q2, q3, q4, q5, q6, q7⟩ := Q
  obtain ⟨⟨kH, kP, -, -⟩, kL, -, kl, -⟩ := H.kv hp8 Z
  have eh : ∀ y j, y < 10 → j < 8 → hF W y j = hF w y j := fun y j h1 h2 => by unfold hF; exact H _ (by omega)
  refine ⟨fun j hj => by rw [hFF 0 j (by decide) (by decide), H _ (by omega)]; exact q1 j hj, fun q hq => ?_, fun q i hq hi => ?_, fun y hy => ?_, fun y hy => ?_, by rw [H _ (by omega)]; exact q6, by rw [H _ (by omega)]; exact q7⟩
  · rw [kP] at hq
    obtain ⟨z0, z1, z2, z3, z4, z5, z6, z7, z8⟩ := q2 q hq
    refine ⟨?_, ?_, ?_, ?_, ?_, ?_, ?_, ?_, ?_⟩
    · rw [hFF 1 q (by decide) (by decide), H.pf hp8 (by omega) (by decide) (Or.inr (by decide))]; exact z0
    · rw [hFF 2 q (by decide) (by decide), H.pf hp8 (by omega) (by decide) (Or.inr (by decide))]; exact z1
    · rw [hFF 3 q (by decide) (by decide), H.pf hp8 (by omega) (by decide) (Or.inr (by decide))]; exact z2
    · rw [hFF 4 q (by decide) (by decide), H.pf hp8 (by omega) (by decide) (Or.inr (by decide))]; exact z3
    · rw [hFF 5 q (by decide) (by decide), H.pf hp8 (by omega) (by decide) (Or.inr (by decide))]; exact z4
    · by_cases hqp : q = p
      · subst hqp; exact h6p
      · rw [h6 q (by omega) hqp, H.pf hp8 (by omega) (by decide) (Or.inl hqp)]; exact z5
    · rw [hFF 10 q (by decide) (by decide), H.pf hp8 (by omega) (by decide) (Or.inr (by decide))]; exact z6
    · rw [hFF 13 q (by decide) (by decide), H.pf hp8 (by omega) (by decide) (Or.inr (by decide))]; exact z7
    · rw [hFF 14 q (by decide) (by decide), H.pf hp8 (by omega) (by decide) (Or.inr (by decide))]; exact z8
  · rw [kP] at hq
    by_cases hqp : q = p
    · subst hqp; exact h7p i hi
    · have e11 : pN W q 11 = pN w q 11 := by unfold pN; rw [H.pf hp8 (by omega) (by decide) (Or.inl hqp)]
      rw [e11] at hi
      have := (Z.p11 (p := q) (by omega)).2
      rw [h7 q i (by omega) hqp (by omega), H.pf hp8 (by omega) (by omega) (Or.inl hqp)]
      exact q3 q i hq hi
  · rw [kH] at hy
    rw [hFF 11 y (by decide) (by decide), hFF 12 y (by decide) (by decide), hFF 8 y (by decide) (by decide), eh y 7 (by omega) (by decide), eh y 6 (by omega) (by decide), eh y 3 (by omega) (by decide)]
    exact q4 y hy
  · rw [kH] at hy
    rw [hFF 9 y (by decide) (by decide), eh y 5 (by omega) (by decide), kL]
    rcases q5 y hy with z | ⟨i, z1, z2, z3⟩
    · exact Or.inl z
    · exact Or.inr ⟨i, z1, z2, by rw [kl i 3 z1 (by decide)]; exact z3⟩
theorem WS_wish (h11 : pN w p 11 < 6) : WS p w (wsW w p x) := fun i hi => by
  unfold wsW
  rw [upd_n (by omega), upd_n (by omega)]
theorem y_wish (S : Sys A I M w n P B eP cP eB C st h nx) (G : Gd w) (D : PZ zs M h nx) : CA A I M eB h nx (f_X1_wish (dE zs m) h nx (A 0) a b) w n P C (sp_wish w a b) := by
  have Z := G.1
  have SN1 := S.1
  unfold f_X1_wish sp_wish
  rw [SN1.i0, gdT, c_whyBoth SN1 Z, Option.bind_some]
  by_cases hv : (isHs w a && isHm w b) = true
  · rw [if_pos hv, if_pos (Int32.le_refl _), if_neg (by rw [hv]; nofun)]
    rw [Bool.and_eq_true] at hv
    obtain ⟨p, hp, rfl⟩ := (hs_t Z).mp hv.1
    obtain ⟨x, hx, rfl⟩ := (hm_t Z).mp hv.2
    have b1 := Z.gP.2
    have b2 := Z.gH.2
    have h11 := Z.p11 (p := p) (by omega)
    rw [nI_clamp (show p < 2 ^ 31 by omega), nI_clamp (show x < 2 ^ 31 by omega)]
    have ew : f_X2_isWish (dE zs m) h (A 1) (nI p) (nI x) = some (bI (wsh w p x).isSome) := by
      have S1 := S.1.1
      obtain ⟨⟨aH, eH, aP, eP, rN, rA, hm, hs, nh, np, tl, O, T, TI, ho, hM⟩, F, wk, rf, sc, la, oa, R, Q, L, K, s0, il, io, hOwn, hno⟩ := id S1
      exact c_isWish R Q Z hp
    have e6 : gA h (A 1) 1 6 = some (A 1 + 7) ∧ aI h (A 1 + 7) 0 (nI p) = some (nI (pN w p 11)) := by
      have S1 := S.1.1
      obtain ⟨⟨aH, eH, aP, eP, rN, rA, hm, hs, nh, np, tl, O, T, TI, ho, hM⟩, F, wk, rf, sc, la, oa, R, Q, L, K, s0, il, io, hOwn, hno⟩ := id S1
      exact ⟨R.g6, by rw [R.a6 (by omega), (Q.2.1 p hp).2.2.2.2.2.1, h11.1]⟩
    rw [SN1.g2, Option.bind_some, S.o1, gdT, ew, Option.bind_some]
    unfold f_X1_wish_51
    cases hw : (wsh w p x).isSome
    case true =>
      rw [if_neg (show ¬ bI true = 0 by decide), if_pos rfl]
      exact An.sa S (a := (-1, nI 4)) (An.cn SN1 (by decide))
    case false =>
      rw [if_pos (show bI false = 0 from rfl), if_neg (by nofun), Option.bind_some, e6.1, Option.bind_some, e6.2, Option.bind_some]
      by_cases h6 : pN w p 11 = 6
      · rw [if_pos h6, h6, if_pos rfl]
        exact An.sa S (a := (-1, nI 3)) (An.cn SN1 (by decide))
      · rw [if_neg h6, if_neg (fun z => h6 ((nI_eq (by omega) (by decide)).mp z))]
        refine SA.pre2 (c1 := 0) (d1 := 0) (bc := 1050) (bs := 9700) MS.rfl' ?_ (aC00 _).symm (by omega) (by omega)
        refine act_ok2 S G D (fun h3 h4 c d M4 B4 eP4 cP4 S4 => ?_)
        have X4 := S4.1.1
        have ow := S4.1.1.own
        obtain ⟨F, wk, rf, sc, la, oa, R, Q, mk⟩ := RX.re X4 Z
        have hn : 6 * p + pN w p 11 < 48 := by omega
        have w1 := R.st (a := 7) (by decide) (j := 6 * p + pN w p 11) (by show _ < 48; exact hn) (nI x)
        have R1 := R.setA (a := 7) (by decide) (upd (F 7) (6 * p + pN w p 11) (nI x))
        have w2 : sI (hu h4 (A 1 + (7 + 1)) (.inl (ak 7, al 7, .inl (upd (F 7) (6 * p + pN w p 11) (nI x))))) (A 1 + (6 + 1)) (ak 6) (nI p) (nI (pN w p 11 + 1)) = some (hu (hu h4 (A 1 + (7 + 1)) (.inl (ak 7, al 7, .inl (upd (F 7) (6 * p + pN w p 11) (nI x))))) (A 1 + (6 + 1)) (.inl (ak 6, al 6, .inl (upd (F 6) p (nI (pN w p 11 + 1)))))) := R1.st (a := 6) (by decide) (j := p) (by show p < 8; omega) (nI (pN w p 11 + 1))
        have R2 := R1.setA (a := 6) (by decide) (upd (F 6) p (nI (pN w p 11 + 1)))
        generalize hh5 : hu h4 (A 1 + (7 + 1)) (.inl (ak 7, al 7, .inl (upd (F 7) (6 * p + pN w p 11) (nI x)))) = h5 at w1 R1 w2 R2
        generalize hh6 : hu h5 (A 1 + (6 + 1)) (.inl (ak 6, al 6, .inl (upd (F 6) p (nI (pN w p 11 + 1))))) = h6 at w2 R2
        have hws : WS p w (wsW w p x) := WS_wish (by omega)
        obtain ⟨kv, kl⟩ := hws.kv (show p < 8 by omega) Z
        have eW11 : pF (wsW w p x) p 11 = nI (pN w p 11 + 1) := by unfold wsW pF; rw [upd_s]
        have eWN : pN (wsW w p x) p 11 = pN w p 11 + 1 := by
          show (pF (wsW w p x) p 11).toNatClampNeg = _
          rw [eW11, nI_clamp (by omega)]
        have fr : ∀ q, ¬ Own (A 1) (A 2) (A 3) q → h6 q = h4 q := fun q hq => by
          rw [← hh6, hu_n (fun e => hq (by rw [e]; exact Or.inl ⟨by omega, by omega⟩)), ← hh5, hu_n (fun e => hq (by rw [e]; exact Or.inl ⟨by omega, by omega⟩))]
        have X6 := mk h6 _ wk rf (wsW w p x) R2 (RelF_ws Q Z hp hws (fun a j a6 a7 => by rw [if_neg a6, if_neg a7]) (fun q hq hqp => upd_n hqp) (fun q i hq hqp hi => by
          show upd (F 7) (6 * p + pN w p 11) (nI x) (6 * q + i) = _
          exact upd_n (by omega)) (by rw [eW11]; exact upd_s) (fun i hi => by
          rw [eWN] at hi
          show upd (F 7) (6 * p + pN w p 11) (nI x) (6 * p + i) = _
          by_cases hin : i = pN w p 11
          · rw [hin, upd_s]
            unfold wsW pF
            rw [upd_n (by omega), upd_s]
          · rw [upd_n (by omega), Q.2.2.1 p i hp (by omega)]
            unfold wsW pF
            rw [upd_n (by omega), upd_n (by omega)])) kv kl (fun q hq hz => fr q (fun o => by
          rcases hz with z | z
          · exact z (ow.1 q o).1
          · exact ow.2.1 (z ▸ o)))
        obtain ⟨S6, m6⟩ := S4.on X6 fr
        have g4 : gA h5 (A 0) 0 2 = some (A 1) := by
          have : h5 (A 0) = h4 (A 0) := by rw [← hh5, hu_n (fun e => ow.2.1 (by rw [e]; exact Or.inl ⟨by omega, by omega⟩))]
          simp [gA, rd, this, S4.1.2, oE, oFs, vR]
        have a5 : aI h5 (A 1 + 7) 0 (nI p) = some (nI (pN w p 11)) := by
          rw [R1.a6 (by omega)]
          show some (F 6 p) = _
          rw [(Q.2.1 p hp).2.2.2.2.2.1, h11.1]
        have a6 : aI h6 (A 1 + 7) 0 (nI p) = some (nI (pN w p 11 + 1)) := by
          rw [R2.a6 (by omega)]
          exact congrArg some upd_s
        have r4 : gA h4 (A 1) 1 7 = some (A 1 + 8) ∧ gA h4 (A 1) 1 6 = some (A 1 + 7) ∧ aI h4 (A 1 + 7) 0 (nI p) = some (nI (pN w p 11)) := ⟨R.g7, R.g6, by rw [R.a6 (by omega), (Q.2.1 p hp).2.2.2.2.2.1, h11.1]⟩
        have w1' : sI h4 (A 1 + 8) 0 (nI (6 * p + pN w p 11)) (nI x) = some h5 := w1
        have w2' : sI h5 (A 1 + 7) 0 (nI p) (nI (pN w p 11 + 1)) = some h6 := w2
        refine ⟨h6, 0, 0, A, M4, B4, eP4, cP4, ?_, S6, m6, fun _ _ => rfl, by omega, by omega⟩
        dsimp only
        rw [S4.1.g2, Option.bind_some, r4.1, Option.bind_some, Option.bind_some, r4.2.1, Option.bind_some, r4.2.2, Option.bind_some, pk_mul, nI_add, w1', Option.bind_some, g4, Option.bind_some, R1.g6, Option.bind_some, a5, Option.bind_some, nI_1, w2', Option.bind_some, S6.1.g2, Option.bind_some, R2.g6, Option.bind_some, a6, Option.bind_some]
  · rw [if_neg hv, if_neg (show ¬ nI 2 ≤ 0 by decide), if_pos (Bool.not_eq_true _ ▸ hv)]
    exact An.sa S (a := (-1, nI 2)) (An.cn SN1 (by decide))
theorem us_at (hp : p < 8) : ∀ (k i : Nat) (s : Rw), i + k ≤ 5 → (∀ t, t < 6 → pF (flN (usF p) i k s) p (12 + t) = if i ≤ t ∧ t < i + k then pF s p (12 + t + 1) else pF s p (12 + t)) ∧ ∀ z, (z < 80 + 18 * p + 12 ∨ 80 + 18 * p + 18 ≤ z) → flN (usF p) i k s z = s z
  | 0, i, s, _ => ⟨fun t ht => by rw [if_neg (by omega)]; rfl, fun _ _ => rfl⟩
  | k + 1, i, s, hik => by
    obtain ⟨h1, h2⟩ := us_at hp k (i + 1) (usF p i s) (by omega)
    have e : flN (usF p) i (k + 1) s = flN (usF p) (i + 1) k (usF p i s) := rfl
    have eu : ∀ t, t < 6 → pF (usF p i s) p (12 + t) = if t = i then pF s p (12 + i + 1) else pF s p (12 + t) := fun t ht => by
      by_cases hti : t = i
      · subst hti; rw [if_pos rfl]; show upd s _ _ _ = _; exact upd_s
      · rw [if_neg hti]; show upd s _ _ _ = _; exact upd_n (by omega)
    rw [e]
    refine ⟨fun t ht => ?_, fun z hz => ?_⟩
    · rw [h1 t ht]
      by_cases hc : i + 1 ≤ t ∧ t < i + 1 + k
      · rw [if_pos hc, if_pos (by omega), show 12 + t + 1 = 12 + (t + 1) by omega, eu (t + 1) (by omega), if_neg (by omega)]
      · rw [if_neg hc, eu t ht]
        by_cases hti : t = i
        · subst hti; rw [if_pos rfl, if_pos (by omega)]
        · rw [if_neg hti, if_neg (by omega)]
    · rw [h2 z hz]
      show upd s _ _ z = _
      exact upd_n (by omega)
theorem unwish_loop {F : Nat → Nat → Int32} {wk rf : Int32} {sc : Int32 × Int32 × Int32 × Int32} {nl no j r : Nat} {la oa : Nat → Nat} (hp : p < 8) (hj : j ≤ 5) (hr : A 1 = r) (hA : A 0 ≠ r + 8) : ∀ (k i m : Nat) (h : AH) (F : Nat → Nat → Int32), i + k = j → RegH h o r eL eO_ F wk rf sc nl la no oa cL cO → F 6 p = nI j → h (A 0) = some (oE A I st) → ∃ h' F', f_X1_unwish_66 (m + k + 1) E (A 0) (nI p) (nI i) h nx = some (nI j, h', 0, 0) ∧ RegH h' o r eL eO_ F' wk rf sc nl la no oa cL cO ∧ (∀ a, a ≠ 7 → F' a = F a) ∧ (∀ t, i ≤ t → t < j → F' 7 (6 * p + t) = F 7 (6 * p + t + 1)) ∧ (∀ z, (z < 6 * p + i ∨ 6 * p + j ≤ z) → F' 7 z = F 7 z) ∧ ∀ q, q ≠ r + 8 → h' q = h q
  | 0, i, m, h, F, hi, R, h6, hO => by
    have g2 : gA h (A 0) 0 2 = some r := by simp [gA, rd, hO, oE, oFs, vR, hr]
    refine ⟨h, F, ?_, R, fun _ _ => rfl, fun t h1 h2 => by omega, fun _ _ => rfl, fun _ _ => rfl⟩
    rw [f_X1_unwish_66, g2, Option.bind_some, R.g6, Option.bind_some, R.a6 hp, Option.bind_some, h6, if_pos (by rw [show i = j by omega]; exact nI_leR _), Option.bind_some, R.g6, Option.bind_some, R.a6 hp, Option.bind_some, h6]
  | k + 1, i, m, h, F, hi, R, h6, hO => by
    have g2 : gA h (A 0) 0 2 = some r := by simp [gA, rd, hO, oE, oFs, vR, hr]
    have w1 := R.st (a := 7) (by decide) (j := 6 * p + i) (by show _ < 48; omega) (F 7 (6 * p + i + 1))
    have R1 := R.setA (a := 7) (by decide) (upd (F 7) (6 * p + i) (F 7 (6 * p + i + 1)))
    obtain ⟨h', F', e2, R2, f1, f2, f3, k2⟩ := unwish_loop (F := F) hp hj hr hA k (i + 1) m _ _ (by omega) R1 h6 (by rw [hu_n hA]; exact hO)
    have w1' : sI h (r + 8) 0 (nI (6 * p + i)) (F 7 (6 * p + i + 1)) = some _ := w1
    refine ⟨h', F', ?_, R2, fun a ha => ?_, fun t h1 h2 => ?_, fun z hz => ?_, fun q hq => (k2 q hq).trans (hu_n hq)⟩
    · rw [show m + (k + 1) + 1 = (m + k + 1) + 1 by omega, f_X1_unwish_66, g2, Option.bind_some, R.g6, Option.bind_some, R.a6 hp, Option.bind_some, h6, if_neg (nI_ge (by omega) (by omega)), Option.bind_some, R.g7, Option.bind_some, Option.bind_some, R.g7, Option.bind_some, pk_mul, nI_add, nI_1, R.a7 (by omega), Option.bind_some, w1', Option.bind_some, nI_1]
      exact e2
    · rw [f1 a ha]; exact if_neg ha
    · by_cases hti : t = i
      · subst hti
        rw [f3 _ (Or.inl (by omega))]
        exact upd_s
      · rw [f2 t (by omega) h2]
        exact upd_n (by omega)
    · rw [f3 z (by omega)]
      exact upd_n (by omega)
theorem y_unwish (S : Sys A I M w n P B eP cP eB C st h nx) (G : Gd w) (D : PZ zs M h nx) : CA A I M eB h nx (f_X1_unwish (dE zs m) h nx (A 0) a b) w n P C (sp_unwish w a b) := by
  have Z := G.1
  have SN1 := S.1
  unfold f_X1_unwish sp_unwish
  rw [SN1.i0, gdT, c_whyBoth SN1 Z, Option.bind_some]
  by_cases hv : (isHs w a && isHm w b) = true
  · rw [if_pos hv, if_pos (show (0 : Int32) = 0 from rfl), if_neg (by rw [hv]; nofun)]
    rw [Bool.and_eq_true] at hv
    obtain ⟨p, hp, rfl⟩ := (hs_t Z).mp hv.1
    obtain ⟨x, hx, rfl⟩ := (hm_t Z).mp hv.2
    have b1 := Z.gP.2
    have b2 := Z.gH.2
    have h11 := Z.p11 (p := p) (by omega)
    rw [nI_clamp (show p < 2 ^ 31 by omega), nI_clamp (show x < 2 ^ 31 by omega)]
    have ew : f_X2_isWish (dE zs m) h (A 1) (nI p) (nI x) = some (bI (wsh w p x).isSome) := by
      have S1 := S.1.1
      obtain ⟨⟨aH, eH, aP, eP, rN, rA, hm, hs, nh, np, tl, O, T, TI, ho, hM⟩, F, wk, rf, sc, la, oa, R, Q, L, K, s0, il, io, hOwn, hno⟩ := id S1
      exact c_isWish R Q Z hp
    rw [SN1.g2, Option.bind_some, S.o1, gdT, ew, Option.bind_some]
    unfold f_X1_unwish_29
    cases hw : wsh w p x with
    | none =>
      rw [if_pos (show bI (none : Option Nat).isSome = 0 from rfl)]
      exact An.sa S (a := (-1, nI 5)) (An.cn SN1 (by decide))
    | some kk =>
      have hkk := (fdN_some hw).2.1
      have hd : dea w p x = kk := by unfold dea; rw [hw]
      rw [if_neg (show ¬ bI (some kk).isSome = 0 by show ¬ (1 : Int32) = 0; decide)]
      obtain ⟨j, hj⟩ : ∃ j, pN w p 11 = j + 1 := ⟨pN w p 11 - 1, by omega⟩
      refine SA.pre2 (c1 := 0) (d1 := 0) (bc := 1050) (bs := 9700) MS.rfl' ?_ (aC00 _).symm (by omega) (by omega)
      refine act_ok2 S G D (fun h3 h4 c d M4 B4 eP4 cP4 S4 => ?_)
      have X4 := S4.1.1
      have ow := S4.1.1.own
      have ed := c_dearness (E := dE zs m) S4.1 G hp hx
      rw [hd] at ed
      obtain ⟨F, wk, rf, sc, la, oa, R, Q, mk⟩ := RX.re X4 Z
      have w2 := R.st (a := 6) (by decide) (j := p) (by show p < 8; omega) (nI j)
      have R2 := R.setA (a := 6) (by decide) (upd (F 6) p (nI j))
      have hA8 : A 0 ≠ A 1 + 8 := fun e => ow.2.1 (by rw [e]; exact Or.inl ⟨by omega, by omega⟩)
      have hA7 : A 0 ≠ A 1 + (6 + 1) := fun e => ow.2.1 (by rw [e]; exact Or.inl ⟨by omega, by omega⟩)
      obtain ⟨h6, F6, e6, R6, f1, f2, f3, k6⟩ := unwish_loop (F := F) (E := dE zs m) (nx := nx + c) (j := j) (show p < 8 by omega) (by omega) rfl hA8 (j - kk) kk (FU - (j - kk) - 1) _ _ (by omega) R2 (by show upd (F 6) p (nI j) p = _; exact upd_s) (by rw [hu_n hA7]; exact S4.1.2)
      rw [show FU - (j - kk) - 1 + (j - kk) + 1 = FU by unfold FU; omega] at e6
      obtain ⟨u1, u2⟩ := us_at (p := p) (by omega) (pN w p 11 - 1 - kk) kk w (by omega)
      have hws : WS p w (usW w p kk) := fun i hi => by
        unfold usW
        rw [upd_n (by omega)]
        exact u2 i (by omega)
      obtain ⟨kv, kl⟩ := hws.kv (show p < 8 by omega) Z
      have eW11 : pF (usW w p kk) p 11 = nI j := by unfold usW pF; rw [upd_s, hj, Nat.add_sub_cancel]
      have eWN : pN (usW w p kk) p 11 = j := by
        show (pF (usW w p kk) p 11).toNatClampNeg = _
        rw [eW11, nI_clamp (by omega)]
      have fr : ∀ q, ¬ Own (A 1) (A 2) (A 3) q → h6 q = h4 q := fun q hq => by
        rw [k6 q (fun e => hq (by rw [e]; exact Or.inl ⟨by omega, by omega⟩)), hu_n (fun e => hq (by rw [e]; exact Or.inl ⟨by omega, by omega⟩))]
      have X6 := mk h6 _ wk rf (usW w p kk) R6 (RelF_ws Q Z hp hws (fun a j a6 a7 => by rw [f1 a a7, if_neg a6]) (fun q hq hqp => by
        rw [f1 6 (by decide)]
        exact upd_n hqp) (fun q i hq hqp hi => by
        rw [f3 _ (by omega)]
        rfl) (by
        rw [eW11, f1 6 (by decide)]
        exact upd_s) (fun i hi => by
        rw [eWN] at hi
        have ep : pF (usW w p kk) p (12 + i) = pF (flN (usF p) kk (pN w p 11 - 1 - kk) w) p (12 + i) := by
          unfold usW pF
          exact upd_n (by omega)
        rw [ep, u1 i (by omega)]
        by_cases hik : kk ≤ i
        · rw [if_pos (by omega), f2 i hik hi]
          have := Q.2.2.1 p (i + 1) hp (by omega)
          exact this
        · rw [if_neg (by omega), f3 _ (Or.inl (by omega))]
          exact Q.2.2.1 p i hp (by omega))) kv kl (fun q hq hz => fr q (fun o => by
        rcases hz with z | z
        · exact z (ow.1 q o).1
        · exact ow.2.1 (z ▸ o)))
      obtain ⟨S6, m6⟩ := S4.on X6 fr
      have a4 : aI h4 (A 1 + 7) 0 (nI p) = some (nI (j + 1)) := by rw [R.a6 (by omega), (Q.2.1 p hp).2.2.2.2.2.1, h11.1, hj]
      have w2' : sI h4 (A 1 + 7) 0 (nI p) (nI j) = some _ := w2
      rw [show pN w p 11 - 1 = j by omega]
      refine ⟨h6, 0, 0, A, M4, B4, eP4, cP4, ?_, S6, m6, fun _ _ => rfl, by omega, by omega⟩
      dsimp only
      rw [S4.1.i0, gdT, ed, Option.bind_some, S4.1.g2, Option.bind_some, R.g6, Option.bind_some, a4, Option.bind_some, nI_pred, w2', Option.bind_some]
      exact e6
  · rw [if_neg hv, if_neg (show ¬ nI 2 = 0 by decide), if_pos (Bool.not_eq_true _ ▸ hv)]
    exact An.sa S (a := (-1, nI 2)) (An.cn SN1 (by decide))
end PAW
