/-! reading: a home's line, a rule's line -/
/-- behind a line -/
def RdL (A : Nat → Nat) (b : Nat) (h0 : AH) (si : Nat) (ta : Nat → Int32) (rn : Nat → Int64) (m n : Nat) (hv pv : Nat → Nat → Int32) (F : Nat → Nat → Int32) (eH eP t : Nat) (T : T5) (h : AH) (nx : Nat) : Prop := RdB A b h0 rn m n hv pv F eH eP nx h ∧ TkC si ta t h b (A 0) ∧ TkE si ta t T ∧ t ≤ si
def rdH (rd : Rw) (m : Nat) (v0 v1 : Int32) : Rw := upd (upd (upd (upd rd (8 * m) v0) (8 * m + 1) v1) (8 * m + 2) (-1)) 230 (nI (m + 1))
section PRD
variable {A : Nat → Nat} {I : Nat → Int32} {st : Int32} {ta tb : Nat → Int32} {h h' h0 : AH} {E : bE} {nx nx' si t b m n lo l1 k eH eP q a0 x s s' : Nat} {rn rn' : Nat → Int64} {hv pv hv' pv' F : Nat → Nat → Int32} {fa pl lw hg r0 r1 : Int32} {T : T5} {rd : Rw} {v : Int64}
theorem RdB.lH (B : RdB A b h0 rn m n hv pv F eH eP lo h) : ∃ f cap, LstC h (b + 1) eH m f cap := by
  obtain ⟨cH, cP, hm, sh, bh, hs, sp, bp, tl, la, oa, b1, b2, b3, b4⟩ := B
  exact ⟨_, _, b3⟩
theorem RdB.lP (B : RdB A b h0 rn m n hv pv F eH eP lo h) : ∃ f cap, LstC h (b + 3) eP n f cap := by
  obtain ⟨cH, cP, hm, sh, bh, hs, sp, bp, tl, la, oa, b1, b2, b3, b4, b5⟩ := B
  exact ⟨_, _, b4⟩
theorem RdB.rg (B : RdB A b h0 rn m n hv pv F eH eP lo h) : ∃ la oa, RegH h (A 0) (b + 5) (b + 22) (b + 24) F 0 0 (0, 0, 0, 0) 0 la 0 oa 2 2 := by
  obtain ⟨cH, cP, hm, sh, bh, hs, sp, bp, tl, la, oa, b1, b2, b3, b4, b5, b6, b7, b8, b9⟩ := B
  exact ⟨_, _, b9⟩
/-- one home more -/
theorem RdB.addH (B : RdB A b h0 rn m n hv pv F eH eP lo h) (hm : m < 10) (hl : lo ≤ nx) (qx : h x = some (hmE s r0 r1)) (N : NmH h s s' v) (x1 : lo ≤ x) (x2 : x < nx) (s1 : lo ≤ s) (s2 : s < nx) (s3 : lo ≤ s') (s4 : s' < nx) (hr : ∀ i, i < m → rn' i = rn i ∧ hv' i 0 = hv i 0 ∧ hv' i 1 = hv i 1) (hrm : rn' m = v ∧ hv' m 0 = r0 ∧ hv' m 1 = r1) (hp : ∀ p, p < n → rn' (10 + p) = rn (10 + p) ∧ ∀ k, k < 4 → pv' p k = pv p k) : ∃ h' eH' c d, f_J2_add E h nx (b + 1) x = some (1, h', c, d) ∧ RdB A b h0 rn' (m + 1) n hv' pv' F eH' eP (nx + c) h' ∧ h' b = h b ∧ c ≤ 1 ∧ d ≤ 240 := by
  obtain ⟨cH, cP, hma, sh, bh, hs, sp, bp, tl, la, oa, b1, b2, b3, b4, b5, b6, b7, b8, b9⟩ := (B.row hr hp)
  obtain ⟨h', e', cap', c, d, e1, L, k1, ec, c1, c2, c3, c4⟩ := L_add (E := E) (x := x) (nx := nx) b3 (by omega) b5.1 (by rw [qx]; rfl) (by omega) (by omega) x2 (by omega) (by omega) (fun j hj => by
    obtain ⟨z1, -, z3, -⟩ := b7 j hj
    exact ⟨by rw [z1]; rfl, by have := z3.2.1; omega⟩)
  have ki : ∀ q, Im b eH eP lo q → h' q = h q := fun q hq => k1 q (by have := hq.1; omega) hq.2.2.1 (by have := hq.2.1; omega)
  have kn : ∀ q, lo ≤ q → q < nx → h' q = h q := fun q hq hq2 => k1 q (by omega) (by omega) hq2
  have up : ∀ q, Im b eH eP lo q → Im b e' eP (nx + c) q := fun q hq => ⟨hq.1, by have := hq.2.1; omega, by
    have := hq.2.1
    rcases ec with ⟨z, -⟩ | ⟨z, -⟩
    · rw [z]; exact hq.2.2.1
    · omega, hq.2.2.2⟩
  have un : ∀ q, lo ≤ q → q < nx → Im b e' eP (nx + c) q := fun q hq hq2 => ⟨by omega, by omega, by
    rcases ec with ⟨z, -⟩ | ⟨z, -⟩ <;> omega, by omega⟩
  refine ⟨h', e', c, d, e1, ⟨cap', cP, fun i => if i = m then x else hma i, fun i => if i = m then s else sh i, fun i => if i = m then s' else bh i, hs, sp, bp, tl, la, oa, fun q hq => (k1 q (by omega) (by omega) (by omega)).trans (b1 q hq), by omega, L, b4.kept (k1 _ (by omega) (by omega) (by omega)) (k1 _ (by omega) (fun z => b6.2.2.1 z.symm) (by omega)), ⟨c4, b5.2⟩, ?_, fun i hi => ?_, fun p hp => ?_, ?_⟩, k1 b (by omega) (by omega) (by omega), ?_, by omega⟩
  · rcases ec with ⟨z, z2⟩ | ⟨z, z2⟩ <;> omega
  · by_cases him : i = m
    · subst him
      simp only [if_true]
      rw [hrm.1, hrm.2.1, hrm.2.2]
      exact ⟨(kn _ x1 x2).trans qx, N.kept (kn _ s1 s2) (kn _ s3 s4), un _ x1 x2, un _ s1 s2, un _ s3 s4⟩
    · simp only [if_neg him]
      obtain ⟨z1, z2, z3, z4, z5⟩ := b7 i (by omega)
      exact ⟨(ki _ z3).trans z1, z2.kept (ki _ z4) (ki _ z5), up _ z3, up _ z4, up _ z5⟩
  · obtain ⟨z1, z2, ⟨t, z3, z3'⟩, z4, z5, z6, z7⟩ := b8 p hp
    exact ⟨(ki _ z4).trans z1, z2.kept (ki _ z5) (ki _ z6), ⟨t, (ki _ z7).trans z3, z3'⟩, up _ z4, up _ z5, up _ z6, up _ z7⟩
  · exact b9.kept (fun q hq => by
      rcases hq with z | z | z
      · exact k1 q (by omega) (by omega) (by omega)
      · exact k1 q (by omega) (by omega) (by omega)
      · exact k1 q (by omega) (by omega) (by omega))
  · rcases ec with ⟨-, z⟩ | ⟨-, z⟩ <;> omega
theorem x_home {w : Nat} (q : h x = some (.inr (.inl (5, df_X6)))) : f_X6_init E h nx x w r0 r1 = some ((), hu h x (hmE w r0 r1), 0, 0) := by
  unfold f_X6_init
  rw [wr_at q (by show 0 < 3; decide), Option.bind_some, wrS (by show 1 < 3; decide), Option.bind_some, wrS (by show 2 < 3; decide), Option.bind_some]
  rfl
/-- the end of a line, the reference's side -/
theorem m_end (hs : si ≤ 900) (TE : TkE si ta t T) (ht : t ≤ si) : (tKd si ta t = nI 4 ∧ ∃ T', f_X3_readEnd (nI si) ta T.1 T.2.1 T.2.2.1 T.2.2.2.1 fa pl T.2.2.2.2 = some (1, T'.1, T'.2.1, T'.2.2.1, T'.2.2.2.1, fa, pl, T'.2.2.2.2) ∧ TkE si ta (tNx si ta t) T' ∧ f_X3_go (nI si) ta T.1 T.2.1 T.2.2.1 T.2.2.2.1 T.2.2.2.2 = some T') ∨ (tKd si ta t ≠ nI 4 ∧ f_X3_readEnd (nI si) ta T.1 T.2.1 T.2.2.1 T.2.2.2.1 fa pl T.2.2.2.2 = some (0, T.1, T.2.1, T.2.2.1, T.2.2.2.1, bdF (tKd si ta t) (nI 2), tFr si ta t, T.2.2.2.2)) := by
  unfold f_X3_readEnd
  by_cases hk : tKd si ta t = nI 4
  · obtain ⟨T', f1, f2⟩ := m_goT hs ht TE
    refine Or.inl ⟨hk, T', ?_, f2, f1⟩
    rw [if_pos (TE.2.2.1.trans hk), f1, Option.bind_some]
  · refine Or.inr ⟨hk, ?_⟩
    rw [if_neg (fun z => hk (TE.2.2.1.symm.trans z)), m_bad, Option.bind_some]
    have e1 := TE.2.2.1
    have e2 := TE.1
    rw [show bdF T.2.2.1 (nI 2) = bdF (tKd si ta t) (nI 2) by rw [e1]]
    exact congrArg (fun z => some (0, T.1, T.2.1, T.2.2.1, T.2.2.2.1, bdF (tKd si ta t) (nI 2), z, T.2.2.2.2)) e2
/-- a line of a reader that ends by readEnd, with what it leaves -/
def mE (si : Nat) (ta : Nat → Int32) (fa pl : Int32) (T : T5) (rd : Rw) (rn : Nat → Int64) : Option (Int32 × Int32 × Int32 × Int32 × Int32 × Int32 × Int32 × Int64 × (Nat → Int32) × (Nat → Int64)) := (f_X3_readEnd (nI si) ta T.1 T.2.1 T.2.2.1 T.2.2.2.1 fa pl T.2.2.2.2).bind fun v => some (v.1, v.2.1, v.2.2.1, v.2.2.2.1, v.2.2.2.2.1, v.2.2.2.2.2.1, v.2.2.2.2.2.2.1, v.2.2.2.2.2.2.2, rd, rn)
theorem s_home (C : RdC A I st ta tb si E.1 b h0) (S : RdS A b h0 si ta rn m n (hF rd) (pF rd) F eH eP lo l1 t T h nx) (hk : tKd si ta t = nI 2) (hm : rd 230 = nI m) (hm2 : m ≤ 10) (hn : rd 231 = nI n) (hn2 : n ≤ 8) {y : Option ((Nat ⊕ Unit) × AH × Nat × Nat)} {mm : Option (Int32 × Int32 × Int32 × Int32 × Int32 × Int32 × Int32 × Int64 × (Nat → Int32) × (Nat → Int64))} (hy : f_X4_homeLine E h nx b = y) (hmm : f_X3_readHome (nI si) ta T.1 T.2.1 T.2.2.1 T.2.2.2.1 fa pl T.2.2.2.2 rd rn = mm) : (∃ fa' pl', YBad b h0 y fa' pl' 30 400 ∧ MBad mm fa' pl') ∨ ∃ h' c d t' T' v v0 v1 eH', m < 10 ∧ y = some (.inr (), h', c, d) ∧ mm = mE si ta fa pl T' (rdH rd m v0 v1) (vp_updL rn m v) ∧ ir v0 1 (nI 4) = true ∧ ir v1 0 (nI 7) = true ∧ isTk rn m n v = false ∧ RdL A b h0 si ta (vp_updL rn m v) (m + 1) n (hF (rdH rd m v0 v1)) (pF (rdH rd m v0 v1)) F eH' eP t' T' h' (nx + c) ∧ t + 4 ≤ t' ∧ c ≤ 20 ∧ d ≤ 408 := by
  have hS := S.1
  have h46 := hS.l46
  obtain ⟨B, s1, s2, s3, s4, s5⟩ := id S
  obtain ⟨wd', nu', q, t2, t3⟩ := id s3
  obtain ⟨-, -, -, -, -, -, r6, -, -, -, r10⟩ := rd0 q
  obtain ⟨fL, cap, L⟩ := B.lH
  unfold f_X4_homeLine at hy
  unfold f_X3_readHome at hmm
  rw [r6, Option.bind_some, L.o, gdT, L.size, Option.bind_some] at hy
  rw [hm] at hmm
  by_cases h10 : m = 10
  · subst h10
    rw [if_pos (nI_leR _)] at hy
    rw [if_pos rfl, m_bad, Option.bind_some] at hmm
    unfold f_X4_homeLine_18 at hy
    rw [r10, gdT] at hy
    refine Or.inl ⟨bdF (tKd si ta t) (nI 5), tFr si ta t, ?_, ?_⟩
    · rw [← hy]
      exact ((c_needs0 B s3.tc (by omega) (Or.inr (by rw [hk]; decide))).bind _).le (by omega) (by omega)
    · rw [← hmm, s4.2.2.1, s4.1]
      exact ⟨_, _, _, _, _, _, rfl⟩
  have hm3 : m < 10 := by omega
  obtain ⟨h1, c1, d1, T1, y1, m1, S1, f1, k1, k1'⟩ := s_go (nx := nx) C B s3.tc s4 s5 (by omega)
  rw [if_neg (nI_ge hm3 (by decide))] at hy
  unfold f_X4_homeLine_18 at hy
  rw [r10, gdT, c_needs1, Option.bind_some] at hy
  dsimp only [sumc] at hy
  rw [aC00, r10, gdT, Nat.add_zero, y1, Option.bind_some] at hy
  dsimp only at hy
  rw [S1.isr, gdT] at hy
  rw [if_neg (fun z => h10 ((nI_eq (by omega) (by decide)).mp z)), m1, Option.bind_some] at hmm
  have lt1 := (tk_ok (g := ta) C.2.1 s5).2.2.2.1 (by rw [hk]; decide)
  rcases s_name (fa := fa) (pl := pl) (nx := nx + c1) C S1 hm hm2 hn hn2 (a0 := m) (by omega) with ⟨fa', pl', Y, M⟩ | ⟨w, s, v, h2, c2, d2, T2, y2, m2, N2, htk, w1, w2, w3, w4, S2, lt2, f2, k2, k2'⟩
  · refine Or.inl ⟨fa', pl', ?_, ?_⟩
    · rw [← hy]
      exact ((Y.bind _).aC c1 d1).le (by omega) (by omega)
    · obtain ⟨x1, x2, x3, x4, x7, x8, e⟩ := M
      rw [e, Option.bind_some] at hmm
      rw [← hmm]
      exact ⟨_, _, _, _, _, _, rfl⟩
  rw [y2, Option.bind_some] at hy
  dsimp only [sumc] at hy
  rw [S2.isr, gdT] at hy
  rw [m2, Option.bind_some] at hmm
  dsimp only at hmm
  rw [if_neg (show ¬ (1 : Int32) = 0 by decide), pk_mul, iadd0] at hmm
  rcases s_num (fa := fa) (pl := pl) (nx := nx + c1 + c2) (rd := rd) (lw := 1) (hg := nI 4) C S2 (a0 := 8 * m) (by omega) with ⟨fa', pl', Y, M⟩ | ⟨v0, h3, c3, d3, T3, y3, m3, ir3, S3, lt3, f3, k3, k3'⟩
  · refine Or.inl ⟨fa', pl', ?_, ?_⟩
    · rw [← hy]
      exact (((Y.bind _).aC c2 d2).aC c1 d1).le (by omega) (by omega)
    · obtain ⟨x1, x2, x3, x4, x7, x8, e⟩ := M
      rw [e, Option.bind_some] at hmm
      rw [← hmm]
      exact ⟨_, _, _, _, _, _, rfl⟩
  have q3 : gA h3 b 3 6 = some (b + 1) := by
    obtain ⟨-, -, -, ⟨wd', nu', q, -⟩, -⟩ := S3
    exact (rd0 q).2.2.2.2.2.2.1
  rw [y3, Option.bind_some] at hy
  dsimp only [sumc] at hy
  rw [q3, Option.bind_some] at hy
  dsimp only [bd] at hy
  rw [m3, Option.bind_some] at hmm
  dsimp only at hmm
  rw [if_neg (show ¬ (1 : Int32) = 0 by decide), nI_1] at hmm
  have S4 := S3.put (q := nx + c1 + c2 + c3) (x := .inr (.inl (5, df_X6))) (nx' := nx + c1 + c2 + c3 + 1) (by omega) (Or.inr (Nat.le_refl _)) (by omega)
  rw [S4.isr, gdT] at hy
  rcases s_num (fa := fa) (pl := pl) (nx := nx + c1 + c2 + c3 + 1) (rd := upd rd (8 * m) v0) (lw := 0) (hg := nI 7) C S4 (a0 := 8 * m + 1) (by omega) with ⟨fa', pl', Y, M⟩ | ⟨v1, h5, c5, d5, T5_, y5, m5, ir5, S5, lt5, f5, k5, k5'⟩
  · refine Or.inl ⟨fa', pl', ?_, ?_⟩
    · rw [← hy]
      exact (((((Y.bind _).aC 1 3).aC c3 d3).aC c2 d2).aC c1 d1).le (by omega) (by omega)
    · obtain ⟨x1, x2, x3, x4, x7, x8, e⟩ := M
      rw [e, Option.bind_some] at hmm
      rw [← hmm]
      exact ⟨_, _, _, _, _, _, rfl⟩
  have q5 : h5 (nx + c1 + c2 + c3) = some (.inr (.inl (5, df_X6))) := (f5 _ (by omega) (by omega)).trans hu_s
  have S6 := S5.put (q := nx + c1 + c2 + c3) (x := hmE w v0 v1) (nx' := nx + c1 + c2 + c3 + 1 + c5) (by omega) (Or.inl (by omega)) (Nat.le_refl _)
  have kw : ∀ z, lo ≤ z → z < nx + c1 → hu h5 (nx + c1 + c2 + c3) (hmE w v0 v1) z = h2 z := fun z hz hz2 => by
    rw [hu_n (by omega), f5 z (by omega) (by omega), hu_n (by omega), f3 z (by omega) (by omega)]
  obtain ⟨h7, eH', c7, d7, y7, B7, b7, k7, k7'⟩ := S6.1.addH (E := E) (nx := nx + c1 + c2 + c3 + 1 + c5) (rn' := vp_updL rn m v) (hv' := hF (rdH rd m v0 v1)) (pv' := pF (rdH rd m v0 v1)) hm3 (by omega) (hu_s (h := h5)) (N2.kept (kw _ w1 w2) (kw _ w3 w4)) (by omega) (by omega) (by omega) (by omega) (by omega) (by omega) (fun i hi => by
    refine ⟨pk_uLn (by omega), ?_, ?_⟩
    · show rdH rd m v0 v1 (8 * i + 0) = rd (8 * i + 0)
      unfold rdH
      rw [upd_n (by omega), upd_n (by omega), upd_n (by omega), upd_n (by omega)]
    · show rdH rd m v0 v1 (8 * i + 1) = rd (8 * i + 1)
      unfold rdH
      rw [upd_n (by omega), upd_n (by omega), upd_n (by omega), upd_n (by omega)]) (by
    refine ⟨pk_uLs, ?_, ?_⟩
    · show rdH rd m v0 v1 (8 * m + 0) = v0
      unfold rdH
      rw [upd_n (by omega), upd_n (by omega), upd_n (by omega)]
      exact upd_s
    · show rdH rd m v0 v1 (8 * m + 1) = v1
      unfold rdH
      rw [upd_n (by omega), upd_n (by omega), upd_s]) (fun p hp => by
    refine ⟨pk_uLn (by omega), fun k hk => ?_⟩
    show rdH rd m v0 v1 (80 + 18 * p + k) = rd (80 + 18 * p + k)
    unfold rdH
    rw [upd_n (by omega), upd_n (by omega), upd_n (by omega), upd_n (by omega)])
  obtain ⟨fL6, cap6, L6⟩ := S6.1.lH
  rw [y5, Option.bind_some] at hy
  dsimp only [sumc] at hy
  rw [x_home q5, Option.bind_some] at hy
  dsimp only at hy
  rw [L6.o, gdT, Nat.add_zero, y7, Option.bind_some] at hy
  simp only [aC_some] at hy
  rw [m5, Option.bind_some] at hmm
  dsimp only at hmm
  rw [if_neg (show ¬ (1 : Int32) = 0 by decide), nI_add, gdn ⟨by omega, by decide⟩, nI_clamp (by omega)] at hmm
  dsimp only [bd] at hmm
  refine Or.inr ⟨h7, _, _, _, T5_, v, v0, v1, eH', hm3, hy.symm, ?_, ir3, ir5, htk, ⟨?_, ?_, S5.2.2.2.2.1, S5.2.2.2.2.2⟩, by omega, by omega, by omega⟩
  · rw [← hmm]
    have e230 : upd (upd (upd rd (8 * m) v0) (8 * m + 1) v1) (8 * m + 2) (-1) 230 + 1 = nI (m + 1) := by
      rw [upd_n (by omega), upd_n (by omega), upd_n (by omega), hm, nI_1]
    rw [e230]
    rfl
  · rw [show nx + (c1 + (c2 + (c3 + (1 + (c5 + (0 + (c7 + 0))))))) = nx + c1 + c2 + c3 + 1 + c5 + c7 by omega]
    exact B7
  · obtain ⟨wd7, nu7, q7, -⟩ := S6.2.2.2.1
    exact ⟨wd7, nu7, b7.trans q7⟩
end PRD
