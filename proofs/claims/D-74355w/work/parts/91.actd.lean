/-! more acts: the component's side -/
section PAE
variable {A A' A5 : Nat → Nat} {I I' : Nat → Int32} {M M' M1 M5 : Nat → Prop} {w w' W : Rw} {st st' : Int32} {h h0 h1 h2 h' h5 : AH} {nx nx' n0 n1 n2 : Nat} {E : bE} {v a b u : Int32} {p x y N k q d K r c eL eO_ cL cO eL' eO' cL' cO' o bc bs c1 d1 : Nat} {f f1 : Option (Int32 × AH × Nat × Nat)} {zs : Nat → Nat} {n m : Nat} {P P' : Nat → Rw} {B B' B5 : Nat → Nat → Nat} {eP cP eB eP' cP' : Nat} {C C' : Nat → hE}
theorem Sys.asd (S : Sys A I M w n P B eP cP eB C st h nx) (X : RX h' nx' M' (A 0) (A 8) eL' eO' cL' cO' W) (hn : nx ≤ nx') (Ex : Ext M M' nx) (y1 : eL' = B 1 1 ∨ nx ≤ eL') (y2 : eO' = B 1 2 ∨ nx ≤ eO') (y3 : cL' < 60) (y4 : cO' < 60) (hk : ∀ q, q < nx → ¬ Own (A 8) (B 1 1) (B 1 2) q → h' q = h q) : ∃ (B' : Nat → Nat → Nat), Sys A I M' w n P B' eP cP eB C st h' nx' ∧ MS M h nx M' h' nx' ∧ B' 1 1 = eL' ∧ B' 1 2 = eO' ∧ B' 1 3 = cL' ∧ B' 1 4 = cO' := by
  obtain ⟨o0, o1⟩ := S.own0
  have ow := S.1.1.own
  have hap := S.ap
  obtain ⟨s1, s2, s3, s4, s5, s6, s7, s8⟩ := id S
  obtain ⟨F, wk, rf, sc, nl, la, no, oa, R, s0, hOwn, hno⟩ := id s4
  have SN' : SN A I M' w st h' nx' := by
    have h0 : h' (A 0) = h (A 0) := hk _ s1.1.ne.2.1 (fun z => hno ((o1 _).mpr z))
    refine ⟨RX.keep s1.1 hn Ex X.bd (fun q hq hz => hk q hq (fun o => ?_)), by rw [h0]; exact s1.2⟩
    rcases hz with z | z | z
    · exact z (hOwn q ((o1 q).mpr o)).1
    · exact hno (z ▸ (o1 q).mpr o)
    · exact hap q z o
  let B' : Nat → Nat → Nat := fun i => if i = 1 then fun k => if k = 1 then eL' else if k = 2 then eO' else if k = 3 then cL' else if k = 4 then cO' else B 1 k else B i
  obtain ⟨z1, z2⟩ := S.step (A' := A) (B' := B') SN' rfl (fun _ _ => rfl) (fun k hk => s2 k hk) (by
    have := X.rs
    rw [s3] at this
    exact this) (fun i hi => if_neg (by omega)) (fun z hz => by
    rcases (show z = 0 ∨ z = 1 by omega) with rfl | rfl
    · exact ⟨rfl, Or.inl rfl, Or.inl rfl, s6 0 (by omega)⟩
    · exact ⟨rfl, y1, y2, y3, y4⟩) (fun q hq z => absurd (ow.1 q ((o0 q).mp z)).2 (by omega)) Ex hn (fun q hq h0 h1 h2 => hk q hq (fun z => h2 ((o1 q).mpr z)))
  exact ⟨B', z1, z2, rfl, rfl, rfl, rfl⟩
theorem PZ.ms2 (D : PZ zs M h nx) (m1 : MS M h nx M' h' nx') : PZ zs M' h' nx' := by
  obtain ⟨⟨fz, z1, z2⟩, z3, z4⟩ := D
  exact ⟨⟨fz, by rw [m1.2.2 _ z3 z4]; exact z1, z2⟩, by have := m1.1; omega, fun z => by
    rcases m1.2.1.2 _ z with y | y
    · exact z4 y
    · omega⟩
theorem SA.pre2 (m1 : MS M h nx M1 h1 (nx + c1)) (Q : SAb bc bs A I M1 eB h1 (nx + c1) f1 v st' w' n P' C) (hf : f = aC c1 d1 f1) (hc : c1 + bc ≤ 15998) (hd : d1 + bs ≤ 94215) : SA A I M eB h nx f v st' w' n P' C := Q.sa m1 (fun _ _ => rfl) hf hc hd
/-- answers of acts, with their own room -/
theorem SA.sab (Q : SA A I M eB h nx f v st' w' n P' C) : SAb 15998 94215 A I M eB h nx f v st' w' n P' C := Q
theorem act_ok2 (S : Sys A I M w n P B eP cP eB C st h nx) (G : Gd w) (D : PZ zs M h nx) {KK : Int32 × AH × Nat × Nat → Unit × AH × Nat × Nat → Option (Int32 × AH × Nat × Nat)} (hk : ∀ h1 h2 c d M2 B2 eP2 cP2, Sys A I M2 w (psN n) (psP n P w) B2 eP2 cP2 eB C 0 h2 (nx + c) → SAb 1000 9000 A I M2 eB h2 (nx + c) (KK (1, h1, 0, 0) ((), h2, c, d)) v 0 w' (psN n) (psP n P w) C) : SAb 1050 9700 A I M eB h nx (gd (isO h (A 0) 0) ((f_X1_can (dE zs m) h nx (A 0) 0).bind fun v2 => aC v2.2.2.1 v2.2.2.2 (if v2.1 = 0 then some (-1, v2.2.1, 0, 0) else gd (isO v2.2.1 (A 0) 0) ((f_X1_remembers (dE zs m) v2.2.1 (nx + v2.2.2.1) (A 0)).bind fun v6 => aC v6.2.2.1 v6.2.2.2 (KK v2 v6))))) v 0 w' (psN n) (psP n P w) C := by
  obtain ⟨h1, e1, S1, q1⟩ := S.1.can (dE zs m) 0
  obtain ⟨Y1, m1⟩ := S.sn S1 q1
  obtain ⟨h2, c, d, M2, B2, eP2, cP2, e2, S2, m2, b1, b2⟩ := y_remembers (m := m) Y1 G (D.ms m1)
  obtain ⟨h3, c3, d3, A3, M3, B3, eP3, cP3, e3, S3, m3, a3, c4, d4⟩ := hk h1 h2 c d M2 B2 eP2 cP2 S2
  have e1' : f_X1_can (dE zs m) h nx (A 0) 0 = some (1, h1, 0, 0) := e1
  rw [S.1.i0, gdT, e1', Option.bind_some]
  dsimp only
  rw [aC00, if_neg (show ¬ (1 : Int32) = 0 by decide), S1.i0, gdT, Nat.add_zero, e2, Option.bind_some]
  dsimp only
  rw [e3, aC_some]
  exact ⟨h3, c + c3, d + d3, A3, M3, B3, eP3, cP3, rfl, by rw [← Nat.add_assoc]; exact S3, by rw [← Nat.add_assoc]; exact m1.trans (m2.trans m3), a3, by omega, by omega⟩
theorem y_auto (S : Sys A I M w n P B eP cP eB C st h nx) (G : Gd w) (D : PZ zs M h nx) : CA A I M eB h nx (f_X1_auto (dE zs (m + 1)) h nx (A 0)) w n P C (sp_auto w) := by
  have Z := G.1
  have SN1 := S.1
  have hap := S.ap
  obtain ⟨Y, y3, y4⟩ := S.rs
  obtain ⟨h1, M1, eL1, eO1, cL1, cO1, c1, d1, e1, X1, E1, t1, t2, t3, t4, t5, t6, k1⟩ := x_become (E := dE zs (m + 1)) SN1.1 Y G hap y3 y4
  obtain ⟨B1, S1, m1, u1, u2, u3, u4⟩ := S.asd X1 (by omega) E1 t1 t2 t3 t4 k1
  obtain ⟨h2, e2, X2, k2⟩ := x_bidsAll (zs := zs) (n := m) X1 G
  obtain ⟨B2, S2, m2, -⟩ := S1.asd X2 (Nat.le_refl _) Ext.rfl' (Or.inl u1.symm) (Or.inl u2.symm) t3 t4 (fun q hq hn => k2 q (fun e => hn (e ▸ Or.inl ⟨by omega, by omega⟩)) (fun e => hn (e ▸ Or.inl ⟨by omega, by omega⟩)))
  have o8 : isO h (A 8) 1 = true := by
    obtain ⟨F, wk, rf, sc, nl, la, no, oa, R, -⟩ := Y
    exact R.o1
  have o81 : isO h1 (A 8) 1 = true := by
    obtain ⟨F, wk, rf, sc, nl, la, no, oa, R, -⟩ := X1.rs
    exact R.o1
  have b1 := Z.gP.2
  have m6 := (m_allBid G.1 G.2.1 G.2.2).2.2.2.2.2
  have hle : tot (bdA w) < 2 ^ 31 := by
    have h8 : ∀ (B : Nat → Nat) k, (∀ j, j < k → B j ≤ 10) → smN B k ≤ 10 * k := fun B k => by
      induction k with
      | zero => intro _; exact Nat.le_refl _
      | succ k ih => intro hb; rw [smN_1]; have := ih (fun j hj => hb j (by omega)); have := hb k (by omega); omega
    have hP : nP (bdA w) = nP w := m6.kt.eP
    have := h8 (fun q => pc (pN (bdA w) q 10)) (nP (bdA w)) (fun j hj => pc_le _)
    unfold tot
    omega
  unfold f_X1_auto sp_auto
  rw [SN1.g3, Option.bind_some, SN1.g2, Option.bind_some, o8, gdT, e1, Option.bind_some]
  dsimp only
  rw [S1.1.g3, Option.bind_some, o81, gdT, e2, Option.bind_some]
  dsimp only
  rw [aC00, Nat.add_zero]
  unfold f_X1_auto_27
  simp only [Nat.add_zero]
  by_cases h0 : tot (bdA w) - tot w = 0
  · rw [if_pos h0, h0, if_pos (show nI 0 = 0 from rfl)]
    exact SA.pre2 (c1 := c1) (d1 := d1) (bc := 50) (bs := 700) (m1.trans m2) (by
      obtain ⟨h3, e3, S3, q3⟩ := S2.1.can (dE zs (m + 1)) (nI 4)
      obtain ⟨Y3, m3⟩ := S2.sn S3 q3
      refine ⟨h3, 0, 0, A, M1, B2, eP, cP, ?_, Y3, m3, fun _ _ => rfl, by omega, by omega⟩
      rw [S2.1.i0, gdT, e3, Option.bind_some]
      rfl) rfl (by omega) (by omega)
  · rw [if_neg h0, if_neg (nI_ne0 (by omega) (by omega))]
    refine SA.pre2 (c1 := c1) (d1 := d1) (bc := 1050) (bs := 9700) (m1.trans m2) ?_ rfl (by omega) (by omega)
    refine act_ok2 S2 G (D.ms2 (m1.trans m2)) (fun h3 h4 c d M4 B4 eP4 cP4 S4 => ?_)
    obtain ⟨h5, e5, X5, k5⟩ := x_bidsAll (zs := zs) (n := m) S4.1.1 G
    obtain ⟨A5, B5, S5, m5, hA5⟩ := S4.put X5 (fun q hn => k5 q (fun e => hn (e ▸ Or.inl ⟨by omega, by omega⟩)) (fun e => hn (e ▸ Or.inl ⟨by omega, by omega⟩)))
    refine ⟨h5, 0, 0, A5, M4, B5, eP4, cP4, ?_, S5, m5, fun k hk => hA5 k (by omega), by omega, by omega⟩
    dsimp only
    simp only [Nat.add_zero]
    rw [S4.1.g2, Option.bind_some, S4.o1, gdT, e5, Option.bind_some]
    rfl
/-- written on the same cells -/
theorem Sys.on (S : Sys A I M w n P B eP cP eB C st h nx) (X : RX h' nx M (A 0) (A 1) (A 2) (A 3) (A 4) (A 5) w') (hk : ∀ q, ¬ Own (A 1) (A 2) (A 3) q → h' q = h q) : Sys A I M w' n P B eP cP eB C st h' nx ∧ MS M h nx M h' nx := by
  obtain ⟨o0, o1⟩ := S.own0
  have ow := S.1.1.own
  obtain ⟨s1, s2, s3, s4, s5, s6, s7, s8⟩ := id S
  obtain ⟨F, wk, rf, sc, nl, la, no, oa, R, s0, hOwn, hno⟩ := id s4
  exact S.step ⟨X, by rw [hk _ ow.2.1]; exact s1.2⟩ rfl (fun _ _ => rfl) s2 (s4.keep (Nat.le_refl _) Ext.rfl' (fun q hq ho => hk q (fun z => absurd (s7 0 1 q (by omega) (by omega) ((o0 q).mpr z) ho) (by decide)))) (fun _ _ => rfl) (fun z hz => ⟨rfl, Or.inl rfl, Or.inl rfl, s6 z (by omega)⟩) (fun q hq z => absurd (ow.1 q ((o0 q).mp z)).2 (by omega)) Ext.rfl' (Nat.le_refl _) (fun q hq h0 h1 h2 => hk q (fun z => h1 ((o0 q).mpr z)))
theorem Sys.drop (S : Sys A I M w n P B eP cP eB C st h nx) (G : Gd w) (hp : p < nP w) (hx : x < 10) : ∃ (h5 : AH), ((gA h (A 0) 0 2).bind fun v6 => (gA h v6 1 5).bind fun v7 => (aI h v7 0 (nI p)).bind fun v8 => sI h v7 0 (nI p) (v8 &&& ((1 <<< (nI x &&& 31)) ^^^ (-1)))) = some h5 ∧ Sys A I M (drF x p w) n P B eP cP eB C st h5 nx ∧ MS M h nx M h5 nx := by
  have b1 := G.1.gP.2
  obtain ⟨g5, r5⟩ := S.r5 G.1 hp
  have h10 := G.1.p10 (p := p) (by omega)
  obtain ⟨h5, e5, X5, k5⟩ := S.1.1.bids G.1 (p := p) (by omega) (clr (pN w p 10) x)
  obtain ⟨S5, m5⟩ := S.on X5 (fun q hq => k5 q (fun e => hq (Or.inl ⟨by omega, by omega⟩)))
  refine ⟨h5, ?_, S5, m5⟩
  rw [S.1.g2, Option.bind_some, g5, Option.bind_some, r5, Option.bind_some, cl_n _ (by omega) x hx]
  exact e5
theorem bind_dn {α β γ δ : Type} {a : Option α} {b : α → Option β} {c : α → β → Option γ} {d : α → β → γ → Option δ} {K : δ → Option (Int32 × AH × Nat × Nat)} {z : δ} (h : (a.bind fun x => (b x).bind fun y => (c x y).bind fun t => d x y t) = some z) : (a.bind fun x => (b x).bind fun y => (c x y).bind fun t => (d x y t).bind K) = K z := by
  cases a with
  | none => cases h
  | some x =>
    rw [Option.bind_some] at h ⊢
    cases hb : b x with
    | none => rw [hb] at h; cases h
    | some y =>
      rw [hb, Option.bind_some] at h
      rw [Option.bind_some]
      cases hc : c x y with
      | none => rw [hc] at h; cases h
      | some t =>
        rw [hc, Option.bind_some] at h
        rw [Option.bind_some, h, Option.bind_some]
theorem shut_loop (hx : x < 10) : ∀ (k i m : Nat) (s : Rw) (h : AH), i + k = nP s → Gd s → Sys A I M s n P B eP cP eB C st h nx → ∃ h', f_X1_shut_55 (m + k + 1) E (A 0) (nI x) 1 (nI i) h nx = f_X1_shut_93 E (A 0) h' nx ∧ Sys A I M (flN (drF x) i k s) n P B eP cP eB C st h' nx ∧ MS M h nx M h' nx
  | 0, i, m, s, h, hi, G, S => by
    have b1 := G.1.gP.2
    have S1 := S.1
    refine ⟨h, ?_, S, MS.rfl'⟩
    have e1 : gA h (A 0) 0 1 = some (A 7) := by simp [gA, rd, S1.2, oE, oFs, vR]
    have eT : isO h (A 7) 11 = true ∧ f_J2_size E h (A 7) = some (nI (nP s)) := by
      have S2 := S1.1
      obtain ⟨⟨aH, eH, aP, eP, rN, rA, hm, hs, nh, np, tl, O, T, TI, ho, hM⟩, F, wk, rf, sc, la, oa, R, Q, L, K, s0, il, io, hOwn, hno⟩ := id S2
      have : aP = A 7 := Option.some.inj (O.g1.symm.trans e1)
      subst this
      exact ⟨T.2.1.o, T.2.1.size⟩
    rw [f_X1_shut_55, if_neg (by decide), e1, Option.bind_some, eT.1, gdT, eT.2, Option.bind_some, if_pos (by rw [show i = nP s by omega]; exact nI_leR _)]
  | k + 1, i, m, s, h, hi, G, S => by
    have b1 := G.1.gP.2
    have S1 := S.1
    have e1 : gA h (A 0) 0 1 = some (A 7) := by simp [gA, rd, S1.2, oE, oFs, vR]
    have eT : isO h (A 7) 11 = true ∧ f_J2_size E h (A 7) = some (nI (nP s)) := by
      have S2 := S1.1
      obtain ⟨⟨aH, eH, aP, eP, rN, rA, hm, hs, nh, np, tl, O, T, TI, ho, hM⟩, F, wk, rf, sc, la, oa, R, Q, L, K, s0, il, io, hOwn, hno⟩ := id S2
      have : aP = A 7 := Option.some.inj (O.g1.symm.trans e1)
      subst this
      exact ⟨T.2.1.o, T.2.1.size⟩
    obtain ⟨h2, e2, S2, m2⟩ := S.drop G (p := i) (by omega) hx
    obtain ⟨d1, d2⟩ := dr_n (w := s) (x := x) (p := i) (by omega)
    obtain ⟨h3, e3, S3, m3⟩ := shut_loop hx k (i + 1) m (drF x i s) h2 (by rw [d1]; omega) (Gd_dr G (by omega)) S2
    refine ⟨h3, ?_, S3, m2.trans m3⟩
    rw [show m + (k + 1) + 1 = (m + k + 1) + 1 by omega, f_X1_shut_55, if_neg (by decide), e1, Option.bind_some, eT.1, gdT, eT.2, Option.bind_some, if_neg (nI_ge (by omega) (by omega)), nI_1]
    rw [bind_dn e2, e3]
end PAE
