/-! acts, one by one: the component's side -/
section PAD
variable {A A' A5 : Nat → Nat} {I I' : Nat → Int32} {M M' M1 M5 : Nat → Prop} {w w' W : Rw} {st st' : Int32} {h h0 h1 h2 h' h5 : AH} {nx nx' n0 n1 n2 : Nat} {E : bE} {v a b u : Int32} {p x y N k q d K r c eL eO_ cL cO eL' eO' cL' cO' o bc bs c1 d1 : Nat} {f f1 : Option (Int32 × AH × Nat × Nat)} {zs : Nat → Nat} {n m : Nat} {P P' : Nat → Rw} {B B' B5 : Nat → Nat → Nat} {eP cP eB eP' cP' : Nat} {C C' : Nat → hE}
theorem Sys.gt (S5 : Sys A5 I M w n P B eP cP eB C st h nx) (hA5 : ∀ k, k < 2 ∨ 6 ≤ k → A5 k = A k) : gA h (A 0) 0 2 = some (A 1) ∧ isO h (A 1) 1 = true ∧ isO h (A 0) 0 = true := by
  have e0 := hA5 0 (Or.inl (by decide))
  have e1 := hA5 1 (Or.inl (by decide))
  refine ⟨?_, ?_, ?_⟩
  · rw [← e0, ← e1]; exact S5.1.g2
  · rw [← e1]; exact S5.o1
  · rw [← e0]; exact S5.1.i0
theorem SAb.mk (S5 : Sys A5 I M5 w' n P B5 eP cP eB C 0 h5 (nx + c)) (m5 : MS M h nx M5 h5 (nx + c)) (hA5 : ∀ k, k < 2 ∨ 6 ≤ k → A5 k = A k) (e : f = some (v, h5, c, d)) (hc : c ≤ 15000) (hd : d ≤ 90000) : SAb 15000 90000 A I M eB h nx f v 0 w' n P C :=
  ⟨h5, c, d, A5, M5, B5, eP, cP, e, S5, m5, fun k hk => hA5 k (by omega), hc, hd⟩
/-- its bids are written -/
theorem Sys.bids (S : Sys A I M w n P B eP cP eB C st h nx) (Z : Rng w) (hp : p < 8) (k : Nat) : ∃ (h5 : AH) (A5 : Nat → Nat) (B5 : Nat → Nat → Nat), sI h (A 1 + 6) 0 (nI p) (nI k) = some h5 ∧ Sys A5 I M (bw w p k) n P B5 eP cP eB C st h5 nx ∧ MS M h nx M h5 nx ∧ ∀ k, k < 2 ∨ 6 ≤ k → A5 k = A k := by
  obtain ⟨h5, e5, X5, k5⟩ := S.1.1.bids Z hp k
  obtain ⟨A5, B5, S5, m5, a5⟩ := S.put X5 (fun q hq => k5 q (fun e => hq (Or.inl ⟨by omega, by omega⟩)))
  exact ⟨h5, A5, B5, e5, S5, m5, a5⟩
theorem Sys.r5 (S : Sys A I M w n P B eP cP eB C st h nx) (Z : Rng w) (hp : p < nP w) : gA h (A 1) 1 5 = some (A 1 + 6) ∧ aI h (A 1 + 6) 0 (nI p) = some (nI (pN w p 10)) := by
  have b1 := Z.gP.2
  have S1 := S.1.1
  obtain ⟨⟨aH, eH, aP, eP, rN, rA, hm, hs, nh, np, tl, O, T, TI, ho, hM⟩, F, wk, rf, sc, la, oa, R, Q, L, K, s0, il, io, hOwn, hno⟩ := id S1
  exact ⟨R.g5, by rw [R.a5 (by omega), (Q.2.1 p hp).2.2.2.2.1, (Z.p10 (p := p) (by omega)).1]⟩
theorem y_bidMany (S : Sys A I M w n P B eP cP eB C st h nx) (Z : Rng w) (hp : p < nP w) : f_X2_bidMany E h (A 1) (nI p) = some (nI (pc (pN w p 10))) := by
  have S1 := S.1.1
  obtain ⟨⟨aH, eH, aP, eP, rN, rA, hm, hs, nh, np, tl, O, T, TI, ho, hM⟩, F, wk, rf, sc, la, oa, R, Q, L, K, s0, il, io, hOwn, hno⟩ := id S1
  exact c_bidMany R Q Z hp
theorem pN_bw (hb : k < 1024) : pN (bw w p k) p 10 = k := by
  show (pF (bw w p k) p 10).toNatClampNeg = k
  rw [bw_s, nI_clamp (by omega)]
theorem y_unbid (S : Sys A I M w n P B eP cP eB C st h nx) (G : Gd w) (D : PZ zs M h nx) : CA A I M eB h nx (f_X1_unbid (dE zs (m + 1)) h nx (A 0) a b) w n P C (sp_unbid w a b) := by
  have Z := G.1
  have SN1 := S.1
  unfold f_X1_unbid sp_unbid
  rw [SN1.i0, gdT, c_whyBoth SN1 Z, Option.bind_some]
  by_cases hv : (isHs w a && isHm w b) = true
  · rw [if_pos hv, if_pos (show (0 : Int32) = 0 from rfl), if_neg (by rw [hv]; nofun)]
    rw [Bool.and_eq_true] at hv
    obtain ⟨p, hp, rfl⟩ := (hs_t Z).mp hv.1
    obtain ⟨x, hx, rfl⟩ := (hm_t Z).mp hv.2
    have b1 := Z.gP.2
    have b2 := Z.gH.2
    have h10 := Z.p10 (p := p) (by omega)
    have hb : clr (pN w p 10) x < 1024 := by have := clr_le (pN w p 10) x; omega
    rw [nI_clamp (show p < 2 ^ 31 by omega), nI_clamp (show x < 2 ^ 31 by omega)]
    have ef : f_X2_bidsFor (dE zs (m + 1)) h (A 1) (nI p) (nI x) = some (bI (iBd w p x)) := by
      have S1 := S.1.1
      obtain ⟨⟨aH, eH, aP, eP, rN, rA, hm, hs, nh, np, tl, O, T, TI, ho, hM⟩, F, wk, rf, sc, la, oa, R, Q, L, K, s0, il, io, hOwn, hno⟩ := id S1
      exact c_bidsFor R Q Z hp
    rw [SN1.g2, Option.bind_some, S.o1, gdT, ef, Option.bind_some]
    unfold f_X1_unbid_29
    cases hw : iBd w p x
    · rw [if_pos (show bI false = 0 from rfl), if_pos rfl]
      exact An.sa S (a := (-1, nI 5)) (An.cn SN1 (by decide))
    · rw [if_neg (show ¬ bI true = 0 by decide), if_neg (by nofun)]
      refine act_ok S G D (fun h3 h4 c d M4 B4 eP4 cP4 S4 => ?_)
      obtain ⟨g5, r5⟩ := S4.r5 Z hp
      obtain ⟨h5, A5, B5, e5, S5, m5, hA5⟩ := S4.bids Z (p := p) (by omega) (clr (pN w p 10) x)
      obtain ⟨t1, t2, t3⟩ := S5.gt hA5
      have bm := y_bidMany (E := dE zs (m + 1)) S5 (Rng_bw Z (show p < 8 by omega) hb) (show p < nP (bw w p (clr (pN w p 10) x)) by rw [bw_nP (by omega)]; exact hp)
      rw [hA5 1 (Or.inl (by decide)), pN_bw hb] at bm
      refine SAb.mk (c := 0) (d := 0) S5 m5 hA5 ?_ (by omega) (by omega)
      dsimp only
      rw [S4.1.g2, Option.bind_some, g5, Option.bind_some, r5, Option.bind_some, cl_n _ (by omega) x (by omega), e5, Option.bind_some, t1, Option.bind_some, t2, gdT, bm, Option.bind_some]
  · rw [if_neg hv, if_neg (show ¬ nI 2 = 0 by decide), if_pos (Bool.not_eq_true _ ▸ hv)]
    exact An.sa S (a := (-1, nI 2)) (An.cn SN1 (by decide))
theorem y_week (S : Sys A I M w n P B eP cP eB C st h nx) (G : Gd w) (D : PZ zs M h nx) (hw3 : wN w 232 < 999) : CA A I M eB h nx (f_X1_week (dE zs (m + 5)) h nx (A 0)) w n P C (sp_week w) := by
  have Z := G.1
  have SN1 := S.1
  have e17 : gI h (A 1) 1 17 = some (w 232) := by
    have S1 := S.1.1
    obtain ⟨⟨aH, eH, aP, eP, rN, rA, hm, hs, nh, np, tl, O, T, TI, ho, hM⟩, F, wk, rf, sc, la, oa, R, Q, L, K, s0, il, io, hOwn, hno⟩ := id S1
    rw [R.g17, Q.2.2.2.2.2.1]
  have hne : ¬ w 232 = nI 999 := fun z => by
    have := Z.gW.1
    rw [z] at this
    have := (nI_eq (by decide) (by omega)).mp this
    omega
  unfold f_X1_week sp_week
  rw [SN1.g2, Option.bind_some, e17, Option.bind_some, if_neg hne, if_neg hne]
  unfold f_X1_week_19
  refine act_ok S G D (fun h3 h4 c d M4 B4 eP4 cP4 S4 => ?_)
  obtain ⟨h5, M5, eL5, eO5, cL5, cO5, c5, d5, e5, V⟩ := x_ends (zs := zs) (n := m) G S4.1.1 S4.caps.1 S4.caps.2
  obtain ⟨A5, B5, S5, m5, hA5⟩ := S4.xw V
  obtain ⟨-, v2, v3, v4, v5, v6, v7, v8, v9, v10, v11, v12, v13⟩ := V
  have Gw := (wk_ok G hw3).1
  have hl8 := Gw.1.gL.2
  refine SAb.mk (c := c5) (d := d5) S5 m5 hA5 ?_ (by omega) (by omega)
  dsimp only
  simp only [Nat.add_zero]
  rw [S4.1.g2, Option.bind_some, S4.o1, gdT, e5, Option.bind_some, Gw.1.gL.1, Z.gL.1]
  rfl
theorem y_rules (S : Sys A I M w n P B eP cP eB C st h nx) (G : Gd w) (D : PZ zs M h nx) (D2 : ZS zs M h nx) : CA A I M eB h nx (f_X1_rules (dE zs m) h nx (A 0) a b) w n P C (sp_rules w a b) := by
  have Z := G.1
  have SN1 := S.1
  obtain ⟨⟨f0, z0, z0'⟩, ⟨f1, z1, z1'⟩, -⟩ := D2
  unfold f_X1_rules sp_rules
  rw [lg_r a 0 (nI 5) (by decide) (by decide), Option.bind_some]
  unfold f_X1_rules_55
  cases hv : ir a 0 (nI 5)
  · rw [if_pos (show bI false = 0 from rfl), if_pos rfl]
    exact An.sa S (a := (-1, 1)) (An.cn SN1 (by decide))
  rw [if_neg (show ¬ bI true = 0 by decide), if_neg (by nofun)]
  obtain ⟨r, hr, rfl⟩ := (rg_c (by decide)).mp hv
  rw [nI_clamp (show r < 2 ^ 31 by omega), dE_1, aI_at (i := r) z0 (by omega) (by decide), Option.bind_some, aI_at (i := r) z1 (by omega) (by decide), Option.bind_some, z0' r (by omega), z1' r (by omega), lg_r b (loR r) (hiR r) rfl rfl, Option.bind_some]
  cases hv2 : ir b (loR r) (hiR r)
  · rw [if_pos (show bI false = 0 from rfl), if_pos rfl]
    exact An.sa S (a := (-1, 1)) (An.cn SN1 (by decide))
  rw [if_neg (show ¬ bI true = 0 by decide), if_neg (by nofun)]
  have rr : ∀ (A : Nat → Nat) (M : Nat → Prop) (n : Nat) (P : Nat → Rw) (B : Nat → Nat → Nat) (eP cP : Nat) (st : Int32) (h : AH) (nx : Nat), Sys A I M w n P B eP cP eB C st h nx → gA h (A 1) 1 0 = some (A 1 + 1) ∧ aI h (A 1 + 1) 0 (nI r) = some (w (224 + r)) := fun A M n P B eP cP st h nx S => by
    have S1 := S.1.1
    obtain ⟨⟨aH, eH, aP, eP, rN, rA, hm, hs, nh, np, tl, O, T, TI, ho, hM⟩, F, wk, rf, sc, la, oa, R, Q, L, K, s0, il, io, hOwn, hno⟩ := id S1
    exact ⟨R.g0, by rw [R.a0 (by omega), Q.1 r (by omega)]⟩
  obtain ⟨g0, r0⟩ := rr _ _ _ _ _ _ _ _ _ _ S
  rw [SN1.g2, Option.bind_some, g0, Option.bind_some, r0, Option.bind_some]
  by_cases hw : w (224 + r) = b
  · rw [if_pos hw, if_pos hw]
    exact An.sa S (a := (-1, nI 4)) (An.cn SN1 (by decide))
  rw [if_neg hw, if_neg hw]
  refine act_ok S G D (fun h3 h4 c d M4 B4 eP4 cP4 S4 => ?_)
  obtain ⟨g4, r4⟩ := rr _ _ _ _ _ _ _ _ _ _ S4
  obtain ⟨h5, e5, X5, k5⟩ := S4.1.1.rule Z (show r < 6 by omega) b
  obtain ⟨A5, B5, S5, m5, hA5⟩ := S4.put X5 (fun q hq => k5 q (fun e => hq (Or.inl ⟨by omega, by omega⟩)))
  refine SAb.mk (c := 0) (d := 0) S5 m5 hA5 ?_ (by omega) (by omega)
  dsimp only
  rw [S4.1.g2, Option.bind_some, g4, Option.bind_some, r4, Option.bind_some, Option.bind_some, g4, Option.bind_some, e5, Option.bind_some]
theorem y_leave (S : Sys A I M w n P B eP cP eB C st h nx) (G : Gd w) (D : PZ zs M h nx) (hq : ∀ p, p < nP w → isIn_ w p = true → Gd (qtd w p) ∧ nP (qtd w p) = nP w) : CA A I M eB h nx (f_X1_leave (dE zs (m + 1)) h nx (A 0) a) w n P C (sp_leave w a) := by
  have Z := G.1
  have SN1 := S.1
  unfold f_X1_leave sp_leave
  rw [SN1.i0, gdT, c_isHouse SN1 Z, Option.bind_some]
  unfold f_X1_leave_30
  cases hv : isHs w a
  · rw [if_pos (show bI false = 0 from rfl), if_pos rfl]
    exact An.sa S (a := (-1, nI 2)) (An.cn SN1 (by decide))
  rw [if_neg (show ¬ bI true = 0 by decide), if_neg (by nofun)]
  obtain ⟨p, hp, rfl⟩ := (hs_t Z).mp hv
  have b1 := Z.gP.2
  have e13 : gA h (A 1) 1 13 = some (A 1 + 14) ∧ aI h (A 1 + 14) 3 (nI p) = some (pF w p 8) := by
    have S1 := S.1.1
    obtain ⟨⟨aH, eH, aP, eP, rN, rA, hm, hs, nh, np, tl, O, T, TI, ho, hM⟩, F, wk, rf, sc, la, oa, R, Q, L, K, s0, il, io, hOwn, hno⟩ := id S1
    exact ⟨R.g13, by rw [R.a13 (by omega), (Q.2.1 p hp).2.2.2.2.2.2.2.1]⟩
  rw [nI_clamp (show p < 2 ^ 31 by omega), SN1.g2, Option.bind_some, e13.1, Option.bind_some, e13.2, Option.bind_some]
  by_cases h8 : pF w p 8 = 0
  · have hin : isIn_ w p = true := decide_eq_true h8
    rw [if_pos h8, if_neg (by rw [hin]; nofun)]
    obtain ⟨Gq, nq⟩ := hq p hp hin
    refine act_ok S G D (fun h3 h4 c d M4 B4 eP4 cP4 S4 => ?_)
    obtain ⟨h5, e5, X5, k5⟩ := x_quits (E := dE zs (m + 1)) S4.1.1 Z hp
    obtain ⟨A5, B5, S5, m5, hA5⟩ := S4.put X5 k5
    obtain ⟨t1, t2, t3⟩ := S5.gt hA5
    obtain ⟨h6, e6, X6, L6⟩ := y_inQueue (zs := zs) (n := m) S5.1.1 Gq
    have SN6 := S5.1.lt X6 L6
    obtain ⟨S6, m6⟩ := S5.sn SN6 L6.qs
    rw [hA5 0 (Or.inl (by decide)), hA5 1 (Or.inl (by decide))] at e6
    refine SAb.mk (c := 1) (d := 1) S6 (m5.trans m6) hA5 ?_ (by omega) (by omega)
    dsimp only
    simp only [Nat.add_zero]
    rw [S4.1.g2, Option.bind_some, S4.o1, gdT, e5, Option.bind_some]
    dsimp only
    rw [t1, Option.bind_some, t3, gdT]
    simp only [Nat.add_zero]
    rw [e6, Option.bind_some, ← nq]
    rfl
  · have hin : isIn_ w p = false := decide_eq_false h8
    rw [if_neg h8, if_pos hin]
    exact An.sa S (a := (-1, nI 4)) (An.cn SN1 (by decide))
end PAD
