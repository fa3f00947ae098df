/-! reading: a house's line -/
section PRH
variable {A : Nat → Nat} {I : Nat → Int32} {st : Int32} {ta tb : Nat → Int32} {h h' h0 : AH} {E : bE} {nx nx' si t b m n lo lo' l1 k eH eP q a j x s s' w q0 : Nat} {rn rn' : Nat → Int64} {hv pv hv' pv' F F0 : Nat → Nat → Int32} {fa pl lw hg r0 r1 fr fr' kd nu : Int32} {T : T5} {rd rd0 : Rw} {v wd : Int64} {tv tf : Nat → Int32} {o : Option Nat} {u : Nat → Nat}
/-- one house more -/
theorem RdB.addP (B : RdB A b h0 rn m n hv pv F eH eP lo h) (hn : n < 8) (hl : lo ≤ nx) (qx : h x = some (hsE s q0)) (N : NmH h s s' v) (qt : h q0 = some (.inl (0, 4, .inl tf))) (x1 : lo ≤ x) (x2 : x < nx) (s1 : lo ≤ s) (s2 : s < nx) (s3 : lo ≤ s') (s4 : s' < nx) (t1 : lo ≤ q0) (t2 : q0 < nx) (hr : ∀ i, i < m → rn' i = rn i ∧ hv' i 0 = hv i 0 ∧ hv' i 1 = hv i 1) (hp : ∀ p, p < n → rn' (10 + p) = rn (10 + p) ∧ ∀ k, k < 4 → pv' p k = pv p k) (hpn : rn' (10 + n) = v ∧ ∀ k, k < 4 → tf k = pv' n k) : ∃ h' eP' c d, f_J2_add E h nx (b + 3) x = some (1, h', c, d) ∧ RdB A b h0 rn' m (n + 1) hv' pv' F eH eP' (nx + c) h' ∧ h' b = h b ∧ c ≤ 1 ∧ d ≤ 240 := by
  obtain ⟨cH, cP, hma, sh, bh, hs, sp, bp, tl, la, oa, b1, b2, b3, b4, b5, b6, b7, b8, b9⟩ := (B.row hr hp)
  obtain ⟨h', e', cap', c, d, e1, L, k1, ec, c1, c2, c3, c4⟩ := L_add (E := E) (x := x) (nx := nx) b4 (by omega) b5.2 (by rw [qx]; rfl) (by omega) (by omega) x2 (by omega) (by omega) (fun j hj => by
    obtain ⟨z1, -, -, z3, -⟩ := b8 j hj
    exact ⟨by rw [z1]; rfl, by have := z3.2.1; omega⟩)
  have ki : ∀ q, Im b eH eP lo q → h' q = h q := fun q hq => k1 q (by have := hq.1; omega) hq.2.2.2 (by have := hq.2.1; omega)
  have kn : ∀ q, lo ≤ q → q < nx → h' q = h q := fun q hq hq2 => k1 q (by omega) (by omega) hq2
  have up : ∀ q, Im b eH eP lo q → Im b eH e' (nx + c) q := fun q hq => ⟨hq.1, by have := hq.2.1; omega, hq.2.2.1, by
    have := hq.2.1
    rcases ec with ⟨z, -⟩ | ⟨z, -⟩
    · rw [z]; exact hq.2.2.2
    · omega⟩
  have un : ∀ q, lo ≤ q → q < nx → Im b eH e' (nx + c) q := fun q hq hq2 => ⟨by omega, by omega, by omega, by
    rcases ec with ⟨z, -⟩ | ⟨z, -⟩ <;> omega⟩
  refine ⟨h', e', c, d, e1, ⟨cH, cap', hma, sh, bh, fun i => if i = n then x else hs i, fun i => if i = n then s else sp i, fun i => if i = n then s' else bp i, fun i => if i = n then q0 else tl i, la, oa, fun q hq => (k1 q (by omega) (by omega) (by omega)).trans (b1 q hq), by omega, b3.kept (k1 _ (by omega) (by omega) (by omega)) (k1 _ (by omega) b6.2.2.1 (by omega)), L, ⟨b5.1, c4⟩, ?_, fun i hi => ?_, fun p hp => ?_, ?_⟩, k1 b (by omega) (by omega) (by omega), ?_, by omega⟩
  · rcases ec with ⟨z, z2⟩ | ⟨z, z2⟩ <;> omega
  · obtain ⟨z1, z2, z3, z4, z5⟩ := b7 i (by omega)
    exact ⟨(ki _ z3).trans z1, z2.kept (ki _ z4) (ki _ z5), up _ z3, up _ z4, up _ z5⟩
  · by_cases hin : p = n
    · subst hin
      simp only [if_true]
      rw [hpn.1]
      exact ⟨(kn _ x1 x2).trans qx, N.kept (kn _ s1 s2) (kn _ s3 s4), ⟨tf, (kn _ t1 t2).trans qt, hpn.2⟩, un _ x1 x2, un _ s1 s2, un _ s3 s4, un _ t1 t2⟩
    · simp only [if_neg hin]
      obtain ⟨z1, z2, ⟨t, z3, z3'⟩, z4, z5, z6, z7⟩ := b8 p (by omega)
      exact ⟨(ki _ z4).trans z1, z2.kept (ki _ z5) (ki _ z6), ⟨t, (ki _ z7).trans z3, z3'⟩, up _ z4, up _ z5, up _ z6, up _ z7⟩
  · exact b9.kept (fun q hq => by
      rcases hq with z | z | z
      · exact k1 q (by omega) (by omega) (by omega)
      · exact k1 q (by omega) (by omega) (by omega)
      · exact k1 q (by omega) (by omega) (by omega))
  · rcases ec with ⟨-, z⟩ | ⟨-, z⟩ <;> omega
theorem x_house (q : h x = some (.inr (.inl (6, df_X7)))) : f_X7_init E h nx x w q0 = some ((), hu h x (hsE w q0), 0, 0) := by
  unfold f_X7_init
  rw [wr_at q (by show 0 < 2; decide), Option.bind_some, wrS (by show 1 < 2; decide), Option.bind_some]
  rfl
theorem RdS.put2 (S : RdS A b h0 si ta rn m n hv pv F eH eP lo l1 t T h nx) (ha : a < 15) (hj : j < al a) (z : Int32) : sI h (b + 5 + (a + 1)) (ak a) (nI j) z = some (hu h (b + 5 + (a + 1)) (.inl (ak a, al a, .inl (upd (F a) j z)))) ∧ RdS A b h0 si ta rn m n hv pv (uF F a j z) eH eP lo l1 t T (hu h (b + 5 + (a + 1)) (.inl (ak a, al a, .inl (upd (F a) j z)))) nx := by
  obtain ⟨B, s1, s2, s3, s4, s5⟩ := S
  have h46 := B.l46
  obtain ⟨p1, p2⟩ := B.put ha hj z
  exact ⟨p1, p2, s1, s2, s3.keep (hu_n (by omega)) (fun q h1 h2 => hu_n (by omega)), s4, s5⟩
theorem RdS.row (S : RdS A b h0 si ta rn m n hv pv F eH eP lo l1 t T h nx) (h1 : ∀ i, i < m → rn' i = rn i ∧ hv' i 0 = hv i 0 ∧ hv' i 1 = hv i 1) (h2 : ∀ p, p < n → rn' (10 + p) = rn (10 + p) ∧ ∀ k, k < 4 → pv' p k = pv p k) : RdS A b h0 si ta rn' m n hv' pv' F eH eP lo l1 t T h nx := ⟨S.1.row h1 h2, S.2⟩
theorem RdS.cell (S : RdS A b h0 si ta rn m n hv pv F eH eP lo l1 t T h nx) : gA h b 3 7 = some (b + 3) ∧ gA h b 3 8 = some (b + 5) ∧ ∃ fr to so nu wd, h b = some (rdE (nI si) fr to so nu wd (b + 1) (b + 3) (b + 5) (A 0)) ∧ (tKd si ta t = nI 2 → ∃ s, NmH h wd s (tWd si ta t) ∧ wd < nx ∧ s < nx) := by
  obtain ⟨B, s1, s2, ⟨wd', nu', q, -, t3⟩, s4, s5⟩ := S
  refine ⟨(rd0 q).2.2.2.2.2.2.2.1, (rd0 q).2.2.2.2.2.2.2.2.1, _, _, _, _, _, q, fun hk => ?_⟩
  obtain ⟨s, z1, z2, z3, z4, z5⟩ := t3 hk
  exact ⟨s, z1, by omega, by omega⟩
/-- is a home wished for, by the register's cells -/
theorem c_wish {r e1 e2 c1 c2 : Nat} {wk rf : Int32} {sc : Int32 × Int32 × Int32 × Int32} {nl no p : Nat} {la oa : Nat → Nat} (R : RegH h s r e1 e2 F wk rf sc nl la no oa c1 c2) (hp : p < 8) (hj : j ≤ 6) (e6 : F 6 p = nI j) : f_X2_isWish E h r (nI p) (nI x) = some (bI (fdN (fun i => decide (F 7 (6 * p + i) = nI x)) 0 j).isSome) := by
  have key := lp_fd (fun k i => f_X2_isWish_2 k E h r (nI p) (nI x) (nI i)) (fun _ => some 1) (some 0) (fun i => decide (F 7 (6 * p + i) = nI x)) j (fun k => ?_) (fun k i hi => ?_) FU 0 (Nat.zero_le _) (FU_lt (by omega))
  · refine Eq.trans key ?_
    rw [Nat.sub_zero]
    cases fdN (fun i => decide (F 7 (6 * p + i) = nI x)) 0 j <;> rfl
  · simp only [f_X2_isWish_2]
    rw [R.g6, Option.bind_some, R.a6 hp, Option.bind_some, e6, if_pos (nI_leR _)]
  · simp only [f_X2_isWish_2, f_X2_wishAt]
    rw [R.g6, Option.bind_some, R.a6 hp, Option.bind_some, e6, if_neg (nI_ge hi (by omega)), R.o1, gdT, R.g7, Option.bind_some, pk_mul, nI_add, R.a7 (by omega), Option.bind_some, Option.bind_some, nI_1]
    by_cases hz : F 7 (6 * p + i) = nI x
    · rw [if_pos hz, if_pos (decide_eq_true hz)]
    · rw [if_neg hz, if_neg (by rw [decide_eq_false hz]; nofun)]
/-- the reference looks for a wish -/
theorem m_wish31 {p : Nat} (hp : p < 8) (hj : j ≤ 6) : f_X3_readWish_31 FU (nI si) ta rn (nI p) (nI x) (nI j) 0 fr fr' kd nu fa pl wd rd = match fdN (fun i => decide (pF rd p (12 + i) = nI x)) 0 j with
    | some _ => some (0, fr, fr', kd, nu, bdF kd (nI 4), fr, wd, rd)
    | none => if j = 6 then some (0, fr, fr', kd, nu, bdF kd (nI 5), fr, wd, rd) else (f_X3_go (nI si) ta fr fr' kd nu wd).bind fun v9 => some (1, v9.1, v9.2.1, v9.2.2.1, v9.2.2.2.1, fa, pl, v9.2.2.2.2, upd (upd rd (80 + 18 * p + (12 + j)) (nI x)) (80 + 18 * p + 11) (pF rd p 11 + 1)) := by
  have key := lp_fd (fun k i => f_X3_readWish_31 k (nI si) ta rn (nI p) (nI x) (nI j) (nI i) fr fr' kd nu fa pl wd rd) (fun _ => some (0, fr, fr', kd, nu, bdF kd (nI 4), fr, wd, rd)) (if j = 6 then some (0, fr, fr', kd, nu, bdF kd (nI 5), fr, wd, rd) else (f_X3_go (nI si) ta fr fr' kd nu wd).bind fun v9 => some (1, v9.1, v9.2.1, v9.2.2.1, v9.2.2.2.1, fa, pl, v9.2.2.2.2, upd (upd rd (80 + 18 * p + (12 + j)) (nI x)) (80 + 18 * p + 11) (pF rd p 11 + 1))) (fun i => decide (pF rd p (12 + i) = nI x)) j (fun k => ?_) (fun k i hi => ?_) FU 0 (Nat.zero_le _) (FU_lt (by omega))
  · exact key
  · simp only [f_X3_readWish_31]
    rw [if_pos (nI_leR _)]
    by_cases h6 : j = 6
    · rw [if_pos (by rw [h6]), if_pos h6, m_bad, Option.bind_some]
    · rw [if_neg (fun z => h6 ((nI_eq (by omega) (by decide)).mp z)), if_neg h6, nI_add, m_at, Option.bind_some, gdn ⟨by omega, by decide⟩, m_at, Option.bind_some, gdn ⟨by omega, by decide⟩, gdn ⟨by omega, by decide⟩, nI_clamp (by omega), nI_clamp (by omega)]
      dsimp only [bd]
      rw [upd_n (show 80 + 18 * p + 11 ≠ 80 + 18 * p + (12 + j) by omega)]
      rfl
  · simp only [f_X3_readWish_31]
    rw [if_neg (nI_ge hi (by omega)), nI_add, m_at, Option.bind_some, gdn ⟨by omega, by decide⟩, nI_clamp (by omega), nI_1]
    by_cases hz : pF rd p (12 + i) = nI x
    · rw [if_pos (show rd (80 + 18 * p + (12 + i)) = nI x from hz), if_pos (decide_eq_true hz), m_bad, Option.bind_some]
    · rw [if_neg (show ¬ rd (80 + 18 * p + (12 + i)) = nI x from hz), if_neg (by rw [decide_eq_false hz]; nofun)]
/-- wishes, then the end of a house's line -/
theorem s_loop (C : RdC A I st ta tb si E.1 b h0) (P : PRw rd0 m n F0) (hn : n < 8) (htv : told_ok tv) : ∀ (dd t a a' : Nat) (T : T5) (rd : Rw) (F : Nat → Nat → Int32) (j : Nat) (u : Nat → Nat) (l1 : Nat) (h : AH) (nx : Nat) (y : Option ((Nat ⊕ Unit) × AH × Nat × Nat)) (mm : Option (Int32 × Int32 × Int32 × Int32 × Int32 × Int32 × Int32 × Int64 × (Nat → Int32) × (Nat → Int64))), si - t < dd → RdS A b h0 si ta rn m n (hF rd0) (pF rd0) F eH eP lo l1 t T h nx → MidR rd0 rd F0 F m n tv o j u → NmH h w s v → rn (10 + n) = v → h q0 = some (.inl (0, 4, .inl tf)) → (∀ k, k < 4 → tf k = tv k) → lo ≤ w → w < nx → lo ≤ s → s < nx → lo ≤ q0 → q0 < nx → f_X4_houseLine_149 (a + dd) E b w (nI n) q0 h nx = y → f_X3_readHouse_129 (a' + dd) (nI si) ta (nI n) T.1 T.2.1 T.2.2.1 T.2.2.2.1 fa pl T.2.2.2.2 rd rn = mm → (∃ fa' pl', YBad b h0 y fa' pl' (5 * (si - t) + 20) (100 * (si - t) + 300) ∧ MBad mm fa' pl') ∨ ∃ h' c d t' T' rd' F' eP', y = some (.inr (), h', c, d) ∧ mm = mE si ta fa pl T' rd' rn ∧ PRw rd' m (n + 1) F' ∧ RdL A b h0 si ta rn m (n + 1) (hF rd') (pF rd') F' eH eP' t' T' h' (nx + c) ∧ t ≤ t' ∧ c ≤ 5 * (t' - t) + 2 ∧ d ≤ 100 * (t' - t) + 242 := by
  intro dd
  induction dd with
  | zero => intro t a a' T rd F j u l1 h nx y mm hd; omega
  | succ dd ih =>
    intro t a a' T rd F j u l1 h nx y mm hd S M N hz qt htf w1 w2 s1 s2 t1 t2 hy hmm
    obtain ⟨B, b1, b2, b3, b4, b5⟩ := id S
    have h46 := B.l46
    have m10 := P.1.2.1
    obtain ⟨g7, g8, fr1, to1, so1, nu1, wd1, qb, qw⟩ := S.cell
    obtain ⟨la, oa, R⟩ := B.rg
    obtain ⟨M1, M2, M3, M4, ⟨W1, W2, W3, W4, W5⟩, M5, M6, M7, M8, M9⟩ := id M
    have e230 : rd 230 = nI m := (M1 230 (fun k hk => by omega) (fun x hx => by have := (M5 x hx).1; omega)).trans P.1.1
    have e231 : rd 231 = nI n := (M1 231 (fun k hk => by omega) (fun x hx => by have := (M5 x hx).1; omega)).trans P.1.2.2.1
    rw [show a + (dd + 1) = a + dd + 1 from rfl, f_X4_houseLine_149, S.isr, gdT, c_isName (C.at B) b3, Option.bind_some] at hy
    rw [show a' + (dd + 1) = a' + dd + 1 from rfl, f_X3_readHouse_129, m_isName, nm_E b4, Option.bind_some] at hmm
    cases hnm : isNm (tKd si ta t) (tWd si ta t)
    · -- the end
      rw [hnm, if_pos (show bI false = 0 from rfl), g8, Option.bind_some, R.g10, Option.bind_some, show (1 : Int32) = nI 1 from rfl, aI_at qt (by decide) (by decide), Option.bind_some] at hy
      rw [hnm, if_pos (show bI false = 0 from rfl), e231, nI_1] at hmm
      obtain ⟨p1, S1⟩ := S.put2 (a := 10) (j := n) (by decide) (by show n < 8; exact hn) (tf 1)
      have p1 : sI h (b + 5 + 11) 0 (nI n) (tf 1) = _ := p1
      rw [p1, Option.bind_some] at hy
      have S2 := S1.put (q := nx) (x := hsE w q0) (nx' := nx + 1) (by omega) (Or.inr (Nat.le_refl _)) (by omega)
      generalize hh7 : hu h (b + 5 + (10 + 1)) (.inl (ak 10, al 10, .inl (upd (F 10) n (tf 1)))) = h7 at S1 S2 hy
      have k7 : ∀ z, z ≠ b + 16 → h7 z = h z := fun z hz => by rw [← hh7]; exact hu_n hz
      obtain ⟨g7', -, -⟩ := S1.cell
      obtain ⟨fL, cap, L2⟩ := S2.1.lP
      have far : ∀ i, i ≠ 231 → (∀ k, k < 18 → i ≠ 80 + 18 * n + k) → (∀ x, o = some x → i ≠ 8 * x + 2) → upd rd 231 (nI (n + 1)) i = rd0 i := fun i z1 z2 z3 => (upd_n z1).trans (M1 i z2 z3)
      have hob : ∀ x, o = some x → x < 10 := fun x hx => by have := (M5 x hx).1; omega
      have PF := MidR.fin P M htv hn
      obtain ⟨h9, eP', c9, d9, y9, B9, k9, c9', d9'⟩ := S2.1.addP (E := E) (nx := nx + 1) (x := nx) (rn' := rn) (hv' := hF (upd rd 231 (nI (n + 1)))) (pv' := pF (upd rd 231 (nI (n + 1)))) (tf := tf) hn (by omega) hu_s (N.kept ((hu_n (by omega)).trans (k7 _ (by omega))) ((hu_n (by omega)).trans (k7 _ (by omega)))) ((hu_n (by omega)).trans ((k7 _ (by omega)).trans qt)) (by omega) (by omega) (by omega) (by omega) (by omega) (by omega) (by omega) (by omega) (fun i hi => ⟨rfl, far _ (by omega) (fun k hk => by omega) (fun x hx => by omega), far _ (by omega) (fun k hk => by omega) (fun x hx => by omega)⟩) (fun p hp => ⟨rfl, fun k hk => far _ (by omega) (fun k' hk' => by omega) (fun x hx => by have := hob x hx; omega)⟩) ⟨hz, fun k hk => by
        rw [htf k hk, ← M2 k hk]
        exact (upd_n (show 80 + 18 * n + k ≠ 231 by omega)).symm⟩
      rw [g7', Option.bind_some, x_house hu_s, hu_hu, Option.bind_some] at hy
      dsimp only at hy
      rw [L2.o, gdT, Nat.add_zero, y9, Option.bind_some] at hy
      simp only [aC_some] at hy
      refine Or.inr ⟨h9, _, _, t, T, upd rd 231 (nI (n + 1)), uF F 10 n (tv 1), eP', hy.symm, hmm.symm, PF, ⟨?_, ?_, b4, b5⟩, Nat.le_refl _, by omega, by omega⟩
      · rw [show nx + (1 + (0 + (c9 + 0))) = nx + 1 + c9 by omega, ← htf 1 (by decide)]
        exact B9
      · obtain ⟨wd7, nu7, q7, -⟩ := S2.2.2.2.1
        exact ⟨wd7, nu7, k9.trans q7⟩
    · -- one wish more
      have hk := nm_2 hnm
      obtain ⟨s2_, N2, v1, v2⟩ := qw hk
      have ewd := b4.2.2.2.2 hk
      have ekd := b4.2.2.1
      have lt1 := (tk_ok (g := ta) C.2.1 b5).2.2.2.1 (by rw [hk]; decide)
      have tsi := (tk_ok (g := ta) C.2.1 b5).2.2.1
      have nk1 : tKd si ta t ≠ 1 := by rw [hk]; decide
      rw [hnm, if_neg (show ¬ bI true = 0 by decide), gdT, c_homeNamed B m10 qb N2, Option.bind_some] at hy
      unfold f_X3_readWish at hmm
      rw [hnm, if_neg (show ¬ bI true = 0 by decide), m_homeHere e230 m10, ewd, Option.bind_some] at hmm
      cases ho : hNm rn m (tWd si ta t) with
      | none =>
        rw [ho, if_pos (show eO none < 0 by decide)] at hy
        rw [ho, if_pos (show eO none = -1 from rfl), m_bad, Option.bind_some, Option.bind_some] at hmm
        unfold f_X4_houseLine_186 at hy
        rw [S.isr, gdT] at hy
        refine Or.inl ⟨bdF (tKd si ta t) (nI 4), tFr si ta t, ?_, ?_⟩
        · rw [← hy]
          exact ((c_needs0 B b3.tc (by omega) (Or.inr nk1)).bind _).le (by omega) (by omega)
        · rw [← hmm, ekd, b4.1]
          exact ⟨_, _, _, _, _, _, rfl⟩
      | some x =>
        have hx : x < m := by have := (fdN_some ho).2.1; omega
        have ew : fdN (fun i => decide (F 7 (6 * n + i) = nI x)) 0 j = fdN (fun i => decide (pF rd n (12 + i) = nI x)) 0 j := fdN_c j 0 (fun i _ hi => by rw [M9 i (by omega)])
        rw [ho, if_neg (show ¬ eO (some x) < 0 from nI_pos (by omega)), g8, Option.bind_some, R.o1, gdT, show eO (some x) = nI x from rfl, c_wish R hn W1 M8, Option.bind_some, ew] at hy
        rw [ho, if_neg (show ¬ eO (some x) = -1 from nI_m1 (by omega)), m_at, Option.bind_some, gdn ⟨by omega, by decide⟩, nI_clamp (by omega), show rd (80 + 18 * n + 11) = nI j from W2, show eO (some x) = nI x from rfl, m_wish31 hn W1] at hmm
        cases hf : fdN (fun i => decide (pF rd n (12 + i) = nI x)) 0 j with
        | some i0 =>
          rw [hf, if_neg (show ¬ bI (some i0).isSome = 0 from (by decide : ¬ bI true = 0))] at hy
          rw [hf, Option.bind_some] at hmm
          unfold f_X4_houseLine_186 at hy
          rw [S.isr, gdT] at hy
          refine Or.inl ⟨bdF (tKd si ta t) (nI 4), tFr si ta t, ?_, ?_⟩
          · rw [← hy]
            exact ((c_needs0 B b3.tc (by omega) (Or.inr nk1)).bind _).le (by omega) (by omega)
          · rw [← hmm, ekd, b4.1]
            exact ⟨_, _, _, _, _, _, rfl⟩
        | none =>
          rw [hf, if_pos (show bI (none : Option Nat).isSome = 0 from rfl)] at hy
          rw [hf] at hmm
          dsimp only at hmm
          unfold f_X4_houseLine_186 at hy
          rw [S.isr, gdT, c_needs1, Option.bind_some] at hy
          dsimp only [sumc] at hy
          rw [aC00, g8, Option.bind_some, R.g6, Option.bind_some, R.a6 hn, Option.bind_some, M8, Nat.add_zero] at hy
          unfold f_X4_houseLine_210 at hy
          by_cases h6 : j = 6
          · rw [if_pos (by rw [h6]; exact nI_leR _), S.isr, gdT] at hy
            rw [if_pos h6, Option.bind_some] at hmm
            refine Or.inl ⟨bdF (tKd si ta t) (nI 5), tFr si ta t, ?_, ?_⟩
            · rw [← hy]
              exact ((c_needs0 B b3.tc (by omega) (Or.inr nk1)).bind _).le (by omega) (by omega)
            · rw [← hmm, ekd, b4.1]
              exact ⟨_, _, _, _, _, _, rfl⟩
          · have hj6 : j < 6 := by omega
            obtain ⟨p1, S1⟩ := S.put2 (a := 7) (j := 6 * n + j) (by decide) (by show 6 * n + j < 48; omega) (nI x)
            have p1 : sI h (b + 5 + 8) 0 (nI (6 * n + j)) (nI x) = _ := p1
            generalize hh1 : hu h (b + 5 + (7 + 1)) (.inl (ak 7, al 7, .inl (upd (F 7) (6 * n + j) (nI x)))) = h1 at S1 p1
            have k1 : ∀ z, z ≠ b + 13 → h1 z = h z := fun z hz => by rw [← hh1]; exact hu_n hz
            obtain ⟨-, g81, -⟩ := S1.cell
            obtain ⟨la1, oa1, R1⟩ := S1.1.rg
            have e61 : uF F 7 (6 * n + j) (nI x) 6 n = nI j := by rw [uF_n (by decide)]; exact M8
            obtain ⟨p2, S2⟩ := S1.put2 (a := 6) (j := n) (by decide) (by show n < 8; exact hn) (nI (j + 1))
            have p2 : sI h1 (b + 5 + 7) 0 (nI n) (nI (j + 1)) = _ := p2
            generalize hh2 : hu h1 (b + 5 + (6 + 1)) (.inl (ak 6, al 6, .inl (upd (uF F 7 (6 * n + j) (nI x) 6) n (nI (j + 1))))) = h2 at S2 p2
            have k2 : ∀ z, z ≠ b + 12 → h2 z = h1 z := fun z hz => by rw [← hh2]; exact hu_n hz
            obtain ⟨h3, c3, d3, T3, y3, m3, S3, f3, c3', d3'⟩ := s_go (nx := nx) C S2.1 S2.2.2.2.1.tc S2.2.2.2.2.1 S2.2.2.2.2.2 (by omega)
            rw [if_neg (nI_ge (by omega) (by decide)), S.isr, gdT, c_needs1, Option.bind_some] at hy
            dsimp only [sumc] at hy
            rw [aC00, g8, Option.bind_some, R.g7, Option.bind_some, Option.bind_some, R.g6, Option.bind_some, R.a6 hn, Option.bind_some, M8, pk_mul, nI_add, p1, Option.bind_some, g81, Option.bind_some, R1.g6, Option.bind_some, R1.a6 hn, Option.bind_some, e61, nI_1, p2, Option.bind_some, S2.isr, gdT, Nat.add_zero, y3, Option.bind_some] at hy
            dsimp only at hy
            rw [if_neg h6] at hmm
            rw [ewd] at m3
            rw [m3, Option.bind_some, Option.bind_some] at hmm
            dsimp only at hmm
            rw [if_neg (show ¬ (1 : Int32) = 0 by decide), W2, nI_1] at hmm
            have hnew : ∀ i, i < j → u i ≠ x := fun i hi e => by
              have := fdN_none.mp hf i (by omega) (by omega)
              rw [decide_eq_false_iff_not] at this
              exact this (by rw [(W3 i hi).1, e])
            have kk : ∀ z, lo ≤ z → z < nx → h3 z = h z := fun z hz hz2 => by rw [f3 z hz2 (by omega), k2 z (by omega), k1 z (by omega)]
            rcases ih (tNx si ta t) a a' T3 _ _ (j + 1) _ nx h3 (nx + c3) _ mm (by omega) S3 (M.wish hn hj6 hx m10 hnew) (N.kept (kk _ w1 w2) (kk _ s1 s2)) hz ((kk _ t1 t2).trans qt) htf w1 (by omega) s1 (by omega) t1 (by omega) rfl hmm with ⟨fa', pl', Y, M'⟩ | ⟨h', c, d, t', T', rd', F', eP', e1, e2, e3, e4, e5, e6, e7⟩
            · refine Or.inl ⟨fa', pl', ?_, M'⟩
              rw [← hy]
              exact (Y.aC c3 d3).le (by omega) (by omega)
            · rw [e1] at hy
              rw [aC_some] at hy
              refine Or.inr ⟨h', _, _, t', T', rd', F', eP', hy.symm, e2, e3, ?_, by omega, by omega, by omega⟩
              rw [show nx + (c3 + c) = nx + c3 + c by omega]
              exact e4
end PRH
