/-! shut, need: the component's side -/
/-- who bids, bids for no home that is shut -/
def Iv3 (w : Rw) : Prop := ∀ p h, p < nP w → h < nH w → iBd w p h = true → hF w h 6 = 0
section PAF
variable {A A' A5 : Nat → Nat} {I I' : Nat → Int32} {M M' M1 M5 : Nat → Prop} {w w' W : Rw} {st st' : Int32} {h h0 h1 h2 h' h5 : AH} {nx nx' n0 n1 n2 : Nat} {E : bE} {v a b u : Int32} {p x y N k q d K r c eL eO_ cL cO eL' eO' cL' cO' o bc bs c1 d1 : Nat} {f f1 : Option (Int32 × AH × Nat × Nat)} {zs : Nat → Nat} {n m : Nat} {P P' : Nat → Rw} {B B' B5 : Nat → Nat → Nat} {eP cP eB eP' cP' : Nat} {C C' : Nat → hE}
theorem clr_no {n k : Nat} (hn : n < 1024) (hk : n.testBit k = false) : clr n k = n := by
  refine ext_tb (Nat.lt_of_le_of_lt (clr_le n k) hn) hn (fun j hj => ?_)
  rw [clr_tb hj]
  by_cases h : j = k
  · subst h; rw [hk]; rfl
  · rw [decide_eq_false h]; simp
theorem shW_0 (G : Gd w) (V : Iv3 w) (hx : x < nH w) (h6 : hF w x 6 ≠ 0) : shW w x b = upd w (8 * x + 6) b := by
  have b1 := G.1.gP.2
  have b2 := G.1.gH.2
  have key : ∀ k, k ≤ nP w → flN (drF x) 0 k (upd w (8 * x + 6) b) = upd w (8 * x + 6) b := by
    intro k
    induction k with
    | zero => intro _; rfl
    | succ k ih =>
      intro hk
      rw [flN_1, ih (by omega), Nat.zero_add]
      have h10 := G.1.p10 (p := k) (by omega)
      have e10 : pF (upd w (8 * x + 6) b) k 10 = pF w k 10 := by unfold pF; exact upd_n (by omega)
      have eN : pN (upd w (8 * x + 6) b) k 10 = pN w k 10 := by unfold pN; rw [e10]
      have hb : (pN w k 10).testBit x = false := by
        have e : iBd w k x = (pN w k 10).testBit x := by
          unfold iBd
          rw [h10.1, btN _ (by omega) x (by omega)]
        rw [← e]
        cases hi : iBd w k x with
        | false => rfl
        | true => exact absurd (V k x (by omega) hx hi) h6
      unfold drF
      rw [eN, clr_no (by omega) hb, ← eN]
      exact bw_self (by rw [eN, e10]; exact h10.1)
  exact key _ (Nat.le_refl _)
theorem Sys.free (S : Sys A I M w n P B eP cP eB C 0 h nx) (G : Gd w) : SAb 1000 9000 A I M eB h nx (f_X1_shut_93 (dE zs (m + 1)) (A 0) h nx) (nI (cnN (isFr w) (nH w))) 0 w n P C := by
  obtain ⟨h6, e6, X6, L6⟩ := y_freeHomes (zs := zs) (n := m) S.1.1 G
  obtain ⟨S6, m6⟩ := S.sn (S.1.lt X6 L6) L6.qs
  refine ⟨h6, 1, 1, A, M, B, eP, cP, ?_, S6, m6, fun _ _ => rfl, by omega, by omega⟩
  unfold f_X1_shut_93
  rw [S.1.g2, Option.bind_some, S.1.i0, gdT, e6, Option.bind_some]
  rfl
theorem SAb.step (m1 : MS M h nx M h1 nx) (Q : SAb bc bs A I M eB h1 nx f v st' w' n P' C) : SAb bc bs A I M eB h nx f v st' w' n P' C := by
  obtain ⟨h2, c, d, A2, M2, B2, eP2, cP2, e, S, m2, a2⟩ := Q
  exact ⟨h2, c, d, A2, M2, B2, eP2, cP2, e, S, m1.trans m2, a2⟩
theorem SAb.le {bc' bs' : Nat} (Q : SAb bc bs A I M eB h nx f v st' w' n P' C) (h1 : bc ≤ bc') (h2 : bs ≤ bs') : SAb bc' bs' A I M eB h nx f v st' w' n P' C := by
  obtain ⟨h2', c, d, A2, M2, B2, eP2, cP2, e, S, m2, a2, b1, b2⟩ := Q
  exact ⟨h2', c, d, A2, M2, B2, eP2, cP2, e, S, m2, a2, by omega, by omega⟩
theorem y_shut (S : Sys A I M w n P B eP cP eB C st h nx) (G : Gd w) (V : Iv3 w) (D : PZ zs M h nx) (hb : b = 0 ∨ b = 1) : CA A I M eB h nx (f_X1_shut (dE zs (m + 1)) h nx (A 0) a b) w n P C (sp_shut w a b) := by
  have Z := G.1
  have SN1 := S.1
  unfold f_X1_shut sp_shut
  rw [SN1.i0, gdT, c_isHome SN1 Z, Option.bind_some]
  unfold f_X1_shut_31
  cases hv : isHm w a
  · rw [if_pos (show bI false = 0 from rfl), if_pos rfl]
    exact An.sa S (a := (-1, nI 2)) (An.cn SN1 (by decide))
  rw [if_neg (show ¬ bI true = 0 by decide), if_neg (by nofun)]
  obtain ⟨x, hx, rfl⟩ := (hm_t Z).mp hv
  have b1 := Z.gP.2
  have b2 := Z.gH.2
  have e12 : gA h (A 1) 1 12 = some (A 1 + 13) ∧ aI h (A 1 + 13) 3 (nI x) = some (hF w x 6) := by
    have S1 := S.1.1
    obtain ⟨⟨aH, eH, aP, eP, rN, rA, hm, hs, nh, np, tl, O, T, TI, ho, hM⟩, F, wk, rf, sc, la, oa, R, Q, L, K, s0, il, io, hOwn, hno⟩ := id S1
    exact ⟨R.g12, by rw [R.a12 (by omega), (Q.2.2.2.1 x hx).2.1]⟩
  rw [nI_clamp (show x < 2 ^ 31 by omega), SN1.g2, Option.bind_some, e12.1, Option.bind_some, e12.2, Option.bind_some]
  by_cases hw : hF w x 6 = b
  · rw [if_pos hw, if_pos hw]
    exact An.sa S (a := (-1, nI 4)) (An.cn SN1 (by decide))
  rw [if_neg hw, if_neg hw]
  have hnar : vp_nar .boolean b = b := by rcases hb with rfl | rfl <;> rfl
  refine SA.pre2 (c1 := 0) (d1 := 0) (bc := 1050) (bs := 9700) MS.rfl' ?_ (aC00 _).symm (by omega) (by omega)
  refine act_ok2 S G D (fun h3 h4 c d M4 B4 eP4 cP4 S4 => ?_)
  have g4 : gA h4 (A 1) 1 12 = some (A 1 + 13) := by
    have S1 := S4.1.1
    obtain ⟨⟨aH, eH, aP, eP, rN, rA, hm, hs, nh, np, tl, O, T, TI, ho, hM⟩, F, wk, rf, sc, la, oa, R, Q, L, K, s0, il, io, hOwn, hno⟩ := id S1
    exact R.g12
  obtain ⟨k1, k2⟩ := KV_u (w := w) (i := 8 * x + 6) (v := b) (Or.inr (Or.inr ⟨x, 6, by omega, by decide, by decide, rfl⟩))
  obtain ⟨h5, e5, X5, k5⟩ := S4.1.1.put2 Z (a := 12) (j := x) (W := upd w (8 * x + 6) b) (by decide) (by show x < 10; omega) b (fun F wk rf Q => RelF_h12 Q Z (by omega) b) k1 k2
  obtain ⟨S5, m5⟩ := S4.on X5 (fun q hq => k5 q (fun e => hq (Or.inl ⟨by omega, by omega⟩)))
  obtain ⟨G5, p5, h5'⟩ := Gd_sh0 G (show x < 10 by omega) hb
  have e5' : sI h4 (A 1 + 13) 3 (nI x) (vp_nar .boolean b) = some h5 := by rw [hnar]; exact e5
  dsimp only
  simp only [Nat.add_zero]
  rw [S4.1.g2, Option.bind_some, g4, Option.bind_some, e5', Option.bind_some]
  refine SAb.step m5 ?_
  rcases hb with rfl | rfl
  · have eW := shW_0 (b := 0) G V hx hw
    rw [eW, ← h5']
    have e55 : f_X1_shut_55 FU (dE zs (m + 1)) (A 0) (nI x) 0 0 h5 (nx + c) = f_X1_shut_93 (dE zs (m + 1)) (A 0) h5 (nx + c) := rfl
    rw [e55]
    exact S5.free G5
  · obtain ⟨h6, e6, S6, m6⟩ := shut_loop (E := dE zs (m + 1)) (x := x) (by omega) (nP w) 0 (FU - nP w - 1) _ h5 (by rw [p5]; omega) G5 S5
    rw [show FU - nP w - 1 + nP w + 1 = FU by unfold FU; omega] at e6
    rw [show (0 : Int32) = nI 0 from rfl, e6]
    obtain ⟨g1, g2, g3⟩ := shW_ok G (show x < 10 by omega) (Or.inr rfl) (nP w) (Nat.le_refl _)
    refine SAb.step m6 ?_
    have := S6.free (zs := zs) (m := m) g1
    rw [g3] at this
    exact this
/-- need -/
theorem need_loop (hp : p < 8) : ∀ (k i m' : Nat) (s : Rw) (h : AH), i + k = nH s → p < nP s → Gd s → Sys A I M s n P B eP cP eB C st h nx → ∃ h', f_X1_need_82 (m' + k + 1) E (A 0) (nI p) v (nI i) h nx = some (v, h', 0, 0) ∧ Sys A I M (flN (ndF p) i k s) n P B eP cP eB C st h' nx ∧ MS M h nx M h' nx
  | 0, i, m', s, h, hi, hps, G, S => by
    have b2 := G.1.gH.2
    have S1 := S.1
    refine ⟨h, ?_, S, MS.rfl'⟩
    have e1 : gA h (A 0) 0 0 = some (A 6) := S1.g0
    have eT : isO h (A 6) 11 = true ∧ f_J2_size E h (A 6) = some (nI (nH s)) := by
      have S2 := S1.1
      obtain ⟨⟨aH, eH, aP, eP, rN, rA, hm, hs, nh, np, tl, O, T, TI, ho, hM⟩, F, wk, rf, sc, la, oa, R, Q, L, K, s0, il, io, hOwn, hno⟩ := id S2
      have : aH = A 6 := Option.some.inj (O.g0.symm.trans e1)
      subst this
      exact ⟨T.1.o, T.1.size⟩
    rw [f_X1_need_82, e1, Option.bind_some, eT.1, gdT, eT.2, Option.bind_some, if_pos (by rw [show i = nH s by omega]; exact nI_leR _)]
  | k + 1, i, m', s, h, hi, hps, G, S => by
    have b2 := G.1.gH.2
    have S1 := S.1
    have e1 : gA h (A 0) 0 0 = some (A 6) := S1.g0
    have eT : isO h (A 6) 11 = true ∧ f_J2_size E h (A 6) = some (nI (nH s)) := by
      have S2 := S1.1
      obtain ⟨⟨aH, eH, aP, eP, rN, rA, hm, hs, nh, np, tl, O, T, TI, ho, hM⟩, F, wk, rf, sc, la, oa, R, Q, L, K, s0, il, io, hOwn, hno⟩ := id S2
      have : aH = A 6 := Option.some.inj (O.g0.symm.trans e1)
      subst this
      exact ⟨T.1.o, T.1.size⟩
    have ef : f_X2_isFitting E h (A 1) (nI p) (nI i) = some (bI (dFit s p i)) := by
      have S2 := S1.1
      obtain ⟨⟨aH, eH, aP, eP, rN, rA, hm, hs, nh, np, tl, O, T, TI, ho, hM⟩, F, wk, rf, sc, la, oa, R, Q, L, K, s0, il, io, hOwn, hno⟩ := id S2
      exact c_isFitting R Q O T G.1 hps (by omega)
    rw [show m' + (k + 1) + 1 = (m' + k + 1) + 1 by omega, f_X1_need_82, e1, Option.bind_some, eT.1, gdT, eT.2, Option.bind_some, if_neg (nI_ge (by omega) (by omega)), S1.g2, Option.bind_some, S.o1, gdT, ef, Option.bind_some, nI_1]
    cases hf : dFit s p i
    · rw [if_pos (show bI false = 0 from rfl)]
      obtain ⟨h2, e2, S2, m2⟩ := S.drop G hps (show i < 10 by omega)
      obtain ⟨d1, d2⟩ := dr_n (w := s) (x := i) (p := p) hp
      obtain ⟨h3, e3, S3, m3⟩ := need_loop hp k (i + 1) m' (drF i p s) h2 (by rw [d2]; omega) (by rw [d1]; exact hps) (Gd_dr G hps) S2
      have e2' := e2
      rw [S1.g2] at e2'
      refine ⟨h3, ?_, ?_, m2.trans m3⟩
      · rw [bind_dn e2', e3]
      · have : flN (ndF p) i (k + 1) s = flN (ndF p) (i + 1) k (ndF p i s) := rfl
        rw [this, ndF_f hf]
        exact S3
    · rw [if_neg (show ¬ bI true = 0 by decide)]
      obtain ⟨h3, e3, S3, m3⟩ := need_loop hp k (i + 1) m' s h (by omega) hps G S
      refine ⟨h3, e3, ?_, m3⟩
      have : flN (ndF p) i (k + 1) s = flN (ndF p) (i + 1) k (ndF p i s) := rfl
      rw [this, ndF_t hf]
      exact S3
theorem y_need (S : Sys A I M w n P B eP cP eB C st h nx) (G : Gd w) (D : PZ zs M h nx) : CA A I M eB h nx (f_X1_need (dE zs m) h nx (A 0) a b) w n P C (sp_need w a b) := by
  have Z := G.1
  have SN1 := S.1
  unfold f_X1_need sp_need
  rw [lg_r b 1 (nI 4) (by decide) (by decide), Option.bind_some]
  cases hv0 : ir b 1 (nI 4)
  · rw [if_pos (show bI false = 0 from rfl), if_pos rfl]
    unfold f_X1_need_47
    exact An.sa S (a := (-1, 1)) (An.cn SN1 (by decide))
  rw [if_neg (show ¬ bI true = 0 by decide), if_neg (by nofun), SN1.i0, gdT, c_isHouse SN1 Z, Option.bind_some]
  unfold f_X1_need_47
  cases hv : isHs w a
  · rw [if_pos (show bI false = 0 from rfl), if_pos rfl]
    exact An.sa S (a := (-1, nI 2)) (An.cn SN1 (by decide))
  rw [if_neg (show ¬ bI true = 0 by decide), if_neg (by nofun)]
  obtain ⟨p, hp, rfl⟩ := (hs_t Z).mp hv
  have b1 := Z.gP.2
  have b2 := Z.gH.2
  have rr : ∀ (A : Nat → Nat) (M : Nat → Prop) (n : Nat) (P : Nat → Rw) (B : Nat → Nat → Nat) (eP cP : Nat) (st : Int32) (h : AH) (nx : Nat), Sys A I M w n P B eP cP eB C st h nx → gA h (A 1) 1 10 = some (A 1 + 11) ∧ aI h (A 1 + 11) 0 (nI p) = some (pF w p 1) := fun A M n P B eP cP st h nx S => by
    have S1 := S.1.1
    obtain ⟨⟨aH, eH, aP, eP, rN, rA, hm, hs, nh, np, tl, O, T, TI, ho, hM⟩, F, wk, rf, sc, la, oa, R, Q, L, K, s0, il, io, hOwn, hno⟩ := id S1
    exact ⟨R.g10, by rw [R.a10 (by omega), (Q.2.1 p hp).2.2.2.2.2.2.1]⟩
  obtain ⟨g0, r0⟩ := rr _ _ _ _ _ _ _ _ _ _ S
  rw [nI_clamp (show p < 2 ^ 31 by omega), SN1.g2, Option.bind_some, g0, Option.bind_some, r0, Option.bind_some]
  by_cases hw : pF w p 1 = b
  · rw [if_pos hw, if_pos hw]
    exact An.sa S (a := (-1, nI 4)) (An.cn SN1 (by decide))
  rw [if_neg hw, if_neg hw]
  refine SA.pre2 (c1 := 0) (d1 := 0) (bc := 1050) (bs := 9700) MS.rfl' ?_ (aC00 _).symm (by omega) (by omega)
  refine act_ok2 S G D (fun h3 h4 c d M4 B4 eP4 cP4 S4 => ?_)
  obtain ⟨g4, r4⟩ := rr _ _ _ _ _ _ _ _ _ _ S4
  obtain ⟨k1, k2⟩ := KV_u (w := w) (i := 80 + 18 * p + 1) (v := b) (Or.inr (Or.inl ⟨p, 1, by omega, by decide, by decide, by decide, by decide, rfl⟩))
  obtain ⟨h5, e5, X5, k5⟩ := S4.1.1.put2 Z (a := 10) (j := p) (W := upd w (80 + 18 * p + 1) b) (by decide) (by show p < 8; omega) b (fun F wk rf Q => RelF_p10 Q Z (by omega) b) k1 k2
  obtain ⟨S5, m5⟩ := S4.on X5 (fun q hq => k5 q (fun e => hq (Or.inl ⟨by omega, by omega⟩)))
  obtain ⟨G5, p5, h5'⟩ := Gd_nd0 G (show p < 8 by omega) hv0
  have e5' : sI h4 (A 1 + 11) 0 (nI p) b = some h5 := e5
  obtain ⟨h6, e6, S6, m6⟩ := need_loop (E := dE zs m) (v := pF w p 1) (p := p) (by omega) (nH w) 0 (FU - nH w - 1) _ h5 (by rw [h5']; omega) (by rw [p5]; exact hp) G5 S5
  rw [show FU - nH w - 1 + nH w + 1 = FU by unfold FU; omega] at e6
  refine ⟨h6, 0, 0, A, M4, B4, eP4, cP4, ?_, S6, m5.trans m6, fun _ _ => rfl, by omega, by omega⟩
  dsimp only
  simp only [Nat.add_zero]
  rw [S4.1.g2, Option.bind_some, g4, Option.bind_some, r4, Option.bind_some, Option.bind_some, g4, Option.bind_some, e5', Option.bind_some]
  exact e6
end PAF
