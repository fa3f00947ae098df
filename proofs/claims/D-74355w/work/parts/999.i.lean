/-! reading: a house's line, whole -/
section PRI
variable {A : Nat → Nat} {I : Nat → Int32} {st : Int32} {ta tb : Nat → Int32} {h h' h0 : AH} {E : bE} {nx nx' si t b m n lo lo' l1 k eH eP q a j x s s' w q0 : Nat} {rn rn' : Nat → Int64} {F : Nat → Nat → Int32} {fa pl : Int32} {T : T5} {rd : Rw} {v wd : Int64}
theorem PRw.lived (P : PRw rd m n F) (hx : x < m) : (fdN (fun p => decide (F 1 p = nI x)) 0 n).isSome = !decide (hF rd x 2 = -1) := by
  obtain ⟨⟨p1, p2, p3, p4⟩, p5, p6, p7, p8, p9, p10, p11, p12, p13⟩ := P
  have e1 : ∀ p, p < n → F 1 p = pF rd p 4 := fun p hp => by rw [(p11 p (by omega)).1, if_pos hp]
  by_cases h : hF rd x 2 = -1
  · rw [decide_eq_true h]
    have : fdN (fun p => decide (F 1 p = nI x)) 0 n = none := fdN_none.mpr (fun p _ hp => by
      rw [decide_eq_false_iff_not, e1 p (by omega)]
      intro e
      rcases (p8 p (by omega)).2.1 with z | ⟨x', z1, z2, z3⟩
      · exact nI_m1 (n := x) (by omega) (e.symm.trans z)
      · have : x = x' := (nI_eq (by omega) (by omega)).mp (e.symm.trans z2)
        subst this
        rw [h] at z3
        exact nI_m1 (by omega) z3.symm)
    rw [this]; rfl
  · rw [decide_eq_false h]
    obtain ⟨p, z1, z2, z3⟩ := (p6 x hx).2.2.resolve_left h
    exact fdN_any.mpr ⟨p, by omega, by omega, decide_eq_true ((e1 p z1).trans z3)⟩
theorem s_house (C : RdC A I st ta tb si E.1 b h0) (S : RdS A b h0 si ta rn m n (hF rd) (pF rd) F eH eP lo l1 t T h nx) (P : PRw rd m n F) (hk : tKd si ta t = nI 2) {y : Option ((Nat ⊕ Unit) × AH × Nat × Nat)} {mm : Option (Int32 × Int32 × Int32 × Int32 × Int32 × Int32 × Int32 × Int64 × (Nat → Int32) × (Nat → Int64))} (hy : f_X4_houseLine E h nx b = y) (hmm : f_X3_readHouse (nI si) ta T.1 T.2.1 T.2.2.1 T.2.2.2.1 fa pl T.2.2.2.2 rd rn = mm) : (∃ fa' pl', YBad b h0 y fa' pl' (5 * (si - t) + 20) (100 * (si - t) + 300) ∧ MBad mm fa' pl') ∨ ∃ h' c d t' T' v rd' F' eP', n < 8 ∧ y = some (.inr (), h', c, d) ∧ mm = mE si ta fa pl T' rd' (vp_updL rn (10 + n) v) ∧ PRw rd' m (n + 1) F' ∧ RdL A b h0 si ta (vp_updL rn (10 + n) v) m (n + 1) (hF rd') (pF rd') F' eH eP' t' T' h' (nx + c) ∧ t + 6 ≤ t' ∧ c ≤ 5 * (t' - t) ∧ d ≤ 100 * (t' - t) := by
  obtain ⟨B, s1, s2, s3, s4, s5⟩ := id S
  have h46 := B.l46
  obtain ⟨p1, m10, p3, n8⟩ := P.1
  obtain ⟨g7, -, -⟩ := S.cell
  obtain ⟨fL, cap, L⟩ := B.lP
  have at0 : f_X3_at (nI n) 0 = some (nI (80 + 18 * n + 0)) := m_at (k := 0)
  have at1 : f_X3_at (nI n) 1 = some (nI (80 + 18 * n + 1)) := m_at (k := 1)
  unfold f_X4_houseLine at hy
  unfold f_X3_readHouse at hmm
  rw [g7, Option.bind_some, L.o, gdT, L.size, Option.bind_some] at hy
  rw [p3] at hmm
  by_cases h8 : n = 8
  · rw [if_pos (by rw [h8]; exact nI_leR _)] at hy
    rw [if_pos (by rw [h8]), m_bad, Option.bind_some] at hmm
    unfold f_X4_houseLine_18 at hy
    rw [S.isr, gdT] at hy
    refine Or.inl ⟨bdF (tKd si ta t) (nI 5), tFr si ta t, ?_, ?_⟩
    · rw [← hy]
      exact ((c_needs0 B s3.tc (by omega) (Or.inr (by rw [hk]; decide))).bind _).le (by omega) (by omega)
    · rw [← hmm, s4.2.2.1, s4.1]
      exact ⟨_, _, _, _, _, _, rfl⟩
  have hn : n < 8 := by omega
  have lt0 := (tk_ok (g := ta) C.2.1 s5).2.2.2.1 (by rw [hk]; decide)
  obtain ⟨h1, c1, d1, T1, y1, m1, S1, f1, k1, k1'⟩ := s_go (nx := nx) C B s3.tc s4 s5 (by omega)
  rw [if_neg (nI_ge hn (by decide))] at hy
  unfold f_X4_houseLine_18 at hy
  rw [S.isr, gdT, c_needs1, Option.bind_some] at hy
  dsimp only [sumc] at hy
  rw [aC00, S.isr, gdT, Nat.add_zero, y1, Option.bind_some] at hy
  dsimp only at hy
  rw [S1.isr, gdT] at hy
  rw [if_neg (fun z => h8 ((nI_eq (by omega) (by decide)).mp z)), m1, Option.bind_some, nI_add] at hmm
  have ts1 := S1.2.2.2.2.2
  rcases s_name (fa := fa) (pl := pl) (nx := nx + c1) C S1 p1 m10 p3 n8 (a0 := 10 + n) (by omega) with ⟨fa', pl', Y, M⟩ | ⟨w, s, v, h2, c2, d2, T2, y2, m2, N2, htk, w1, w2, w3, w4, S2, lt2, f2, k2, k2'⟩
  · refine Or.inl ⟨fa', pl', ?_, ?_⟩
    · rw [← hy]
      exact ((Y.bind _).aC c1 d1).le (by omega) (by omega)
    · obtain ⟨x1, x2, x3, x4, x7, x8, e⟩ := M
      rw [e, Option.bind_some] at hmm
      rw [← hmm]
      exact ⟨_, _, _, _, _, _, rfl⟩
  obtain ⟨g72, -, -⟩ := S2.cell
  obtain ⟨fL2, cap2, L2⟩ := S2.1.lP
  rw [y2, Option.bind_some] at hy
  dsimp only [sumc] at hy
  rw [g72, Option.bind_some, L2.o, gdT, L2.size, Option.bind_some] at hy
  dsimp only [bd] at hy
  rw [m2, Option.bind_some] at hmm
  dsimp only at hmm
  rw [if_neg (show ¬ (1 : Int32) = 0 by decide), at0, Option.bind_some] at hmm
  have ts2 := S2.2.2.2.2.2
  generalize hq0 : nx + c1 + c2 = q0 at *
  have S2' := (S2.row (rn' := vp_updL rn (10 + n) v) (hv' := hF rd) (pv' := pF rd) (fun i hi => ⟨pk_uLn (by omega), rfl, rfl⟩) (fun p hp => ⟨pk_uLn (by omega), fun k hk => rfl⟩)).put (q := q0) (x := .inl (0, 4, .inl (fun _ => 0))) (nx' := q0 + 1) (by omega) (Or.inr (by omega)) (by omega)
  rw [S2'.isr, gdT] at hy
  -- band
  rcases s_num (fa := fa) (pl := pl) (nx := q0 + 1) (rd := rd) (lw := 1) (hg := nI 4) C S2' (a0 := 80 + 18 * n + 0) (by omega) with ⟨fa', pl', Y, M⟩ | ⟨v0, h3, c3, d3, T3, y3, m3, i3, S3, lt3, f3, k3, k3'⟩
  · refine Or.inl ⟨fa', pl', ?_, ?_⟩
    · rw [← hy]
      exact ((((Y.bind _).aC 1 4).aC c2 d2).aC c1 d1).le (by omega) (by omega)
    · obtain ⟨x1, x2, x3, x4, x7, x8, e⟩ := M
      rw [e, Option.bind_some] at hmm
      rw [← hmm]
      exact ⟨_, _, _, _, _, _, rfl⟩
  have t3 : h3 q0 = some (.inl (0, 4, .inl (fun _ => 0))) := (f3 _ (by omega) (by omega)).trans hu_s
  have st3 : sI h3 q0 0 0 v0 = some (hu h3 q0 (.inl (0, 4, .inl (upd (fun _ => 0) 0 v0)))) := sI_at (i := 0) t3 (by decide) (by decide) v0
  have S3' := S3.put (q := q0) (x := .inl (0, 4, .inl (upd (fun _ => 0) 0 v0))) (nx' := q0 + 1 + c3) (by omega) (Or.inl (by omega)) (by omega)
  have ts3 := S3.2.2.2.2.2
  rw [y3, Option.bind_some] at hy
  dsimp only [sumc] at hy
  rw [st3, Option.bind_some, S3'.isr, gdT] at hy
  rw [m3, Option.bind_some] at hmm
  dsimp only at hmm
  rw [if_neg (show ¬ (1 : Int32) = 0 by decide), at1, Option.bind_some] at hmm
  -- need
  rcases s_num (fa := fa) (pl := pl) (nx := q0 + 1 + c3) (rd := upd rd (80 + 18 * n + 0) v0) (lw := 1) (hg := nI 4) C S3' (a0 := 80 + 18 * n + 1) (by omega) with ⟨fa', pl', Y, M⟩ | ⟨v1, h4, c4, d4, T4, y4, m4, i4, S4, lt4, f4, k4, k4'⟩
  · refine Or.inl ⟨fa', pl', ?_, ?_⟩
    · rw [← hy]
      exact (((((Y.bind _).aC c3 d3).aC 1 4).aC c2 d2).aC c1 d1).le (by omega) (by omega)
    · obtain ⟨x1, x2, x3, x4, x7, x8, e⟩ := M
      rw [e, Option.bind_some] at hmm
      rw [← hmm]
      exact ⟨_, _, _, _, _, _, rfl⟩
  have t4 : h4 q0 = some (.inl (0, 4, .inl (upd (fun _ => 0) 0 v0))) := (f4 _ (by omega) (by omega)).trans hu_s
  have st4 : sI h4 q0 0 1 v1 = some (hu h4 q0 (.inl (0, 4, .inl (upd (upd (fun _ => 0) 0 v0) 1 v1)))) := sI_at (i := 1) t4 (by decide) (by decide) v1
  have S4' := S4.put (q := q0) (x := .inl (0, 4, .inl (upd (upd (fun _ => 0) 0 v0) 1 v1))) (nx' := q0 + 1 + c3 + c4) (by omega) (Or.inl (by omega)) (by omega)
  have ts4 := S4.2.2.2.2.2
  rw [y4, Option.bind_some] at hy
  dsimp only [sumc] at hy
  rw [st4, Option.bind_some, S4'.isr, gdT] at hy
  rw [m4, Option.bind_some] at hmm
  dsimp only at hmm
  rw [if_neg (show ¬ (1 : Int32) = 0 by decide), m_at, Option.bind_some] at hmm
  -- tie
  rcases s_num (fa := fa) (pl := pl) (nx := q0 + 1 + c3 + c4) (rd := upd (upd rd (80 + 18 * n + 0) v0) (80 + 18 * n + 1) v1) (lw := 0) (hg := nI 7) C S4' (a0 := 80 + 18 * n + 2) (by omega) with ⟨fa', pl', Y, M⟩ | ⟨v2, h5, c5, d5, T5_, y5, m5, i5, S5, lt5, f5, k5, k5'⟩
  · refine Or.inl ⟨fa', pl', ?_, ?_⟩
    · rw [← hy]
      exact ((((((Y.bind _).aC c4 d4).aC c3 d3).aC 1 4).aC c2 d2).aC c1 d1).le (by omega) (by omega)
    · obtain ⟨x1, x2, x3, x4, x7, x8, e⟩ := M
      rw [e, Option.bind_some] at hmm
      rw [← hmm]
      exact ⟨_, _, _, _, _, _, rfl⟩
  have t5 : h5 q0 = some (.inl (0, 4, .inl (upd (upd (fun _ => 0) 0 v0) 1 v1))) := (f5 _ (by omega) (by omega)).trans hu_s
  have st5 : sI h5 q0 0 (nI 2) v2 = some (hu h5 q0 (.inl (0, 4, .inl (upd (upd (upd (fun _ => 0) 0 v0) 1 v1) 2 v2)))) := sI_at (i := 2) t5 (by decide) (by decide) v2
  have S5' := S5.put (q := q0) (x := .inl (0, 4, .inl (upd (upd (upd (fun _ => 0) 0 v0) 1 v1) 2 v2))) (nx' := q0 + 1 + c3 + c4 + c5) (by omega) (Or.inl (by omega)) (by omega)
  have ts5 := S5.2.2.2.2.2
  rw [y5, Option.bind_some] at hy
  dsimp only [sumc] at hy
  rw [st5, Option.bind_some, S5'.isr, gdT] at hy
  rw [m5, Option.bind_some] at hmm
  dsimp only at hmm
  rw [if_neg (show ¬ (1 : Int32) = 0 by decide), m_at, Option.bind_some] at hmm
  -- day
  rcases s_num (fa := fa) (pl := pl) (nx := q0 + 1 + c3 + c4 + c5) (rd := upd (upd (upd rd (80 + 18 * n + 0) v0) (80 + 18 * n + 1) v1) (80 + 18 * n + 2) v2) (lw := 0) (hg := nI 999) C S5' (a0 := 80 + 18 * n + 3) (by omega) with ⟨fa', pl', Y, M⟩ | ⟨v3, h6, c6, d6, T6, y6, m6, i6, S6, lt6, f6, k6, k6'⟩
  · refine Or.inl ⟨fa', pl', ?_, ?_⟩
    · rw [← hy]
      exact (((((((Y.bind _).aC c5 d5).aC c4 d4).aC c3 d3).aC 1 4).aC c2 d2).aC c1 d1).le (by omega) (by omega)
    · obtain ⟨x1, x2, x3, x4, x7, x8, e⟩ := M
      rw [e, Option.bind_some] at hmm
      rw [← hmm]
      exact ⟨_, _, _, _, _, _, rfl⟩
  have t6 : h6 q0 = some (.inl (0, 4, .inl (upd (upd (upd (fun _ => 0) 0 v0) 1 v1) 2 v2))) := (f6 _ (by omega) (by omega)).trans hu_s
  have st6 : sI h6 q0 0 (nI 3) v3 = some (hu h6 q0 (.inl (0, 4, .inl (upd (upd (upd (upd (fun _ => 0) 0 v0) 1 v1) 2 v2) 3 v3)))) := sI_at (i := 3) t6 (by decide) (by decide) v3
  have S6' := S6.put (q := q0) (x := .inl (0, 4, .inl (upd (upd (upd (upd (fun _ => 0) 0 v0) 1 v1) 2 v2) 3 v3))) (nx' := q0 + 1 + c3 + c4 + c5 + c6) (by omega) (Or.inl (by omega)) (by omega)
  have ts6 := S6.2.2.2.2.2
  obtain ⟨z17, hz17⟩ := (C.at S6'.1).2.2.2.1 17 (by decide) (by decide)
  have eis := c_is (E := E) S6'.2.2.2.1 (cst_n (k := 17) (Or.inr ⟨by decide, by decide⟩) hz17)
  rw [show cstW 17 = cstW 9 from rfl] at eis
  rw [y6, Option.bind_some] at hy
  dsimp only [sumc] at hy
  rw [st6, Option.bind_some, S6'.isr, gdT, eis, Option.bind_some] at hy
  rw [m6, Option.bind_some] at hmm
  dsimp only at hmm
  rw [if_neg (show ¬ (1 : Int32) = 0 by decide), m_at, Option.bind_some, gdn ⟨by omega, by decide⟩, m_isWord (by decide), wd_E S6.2.2.2.2.1, Option.bind_some, nI_clamp (by omega)] at hmm
  -- what holds ahead of the wishes
  have htv : told_ok (fun k => if k = 0 then v0 else if k = 1 then v1 else if k = 2 then v2 else v3) := ⟨i3, i4, i5, i6⟩
  have htf : ∀ k, k < 4 → upd (upd (upd (upd (fun _ => (0 : Int32)) 0 v0) 1 v1) 2 v2) 3 v3 k = (fun k => if k = 0 then v0 else if k = 1 then v1 else if k = 2 then v2 else v3) k := fun k hk => by
    rcases (show k = 0 ∨ k = 1 ∨ k = 2 ∨ k = 3 by omega) with rfl | rfl | rfl | rfl <;> rfl
  have M0 := MidR.start (u := fun _ => 0) (v0 := v0) (v1 := v1) (v2 := v2) (v3 := v3) P hn
  generalize hrd5 : upd (upd (upd (upd (upd rd (80 + 18 * n + 0) v0) (80 + 18 * n + 1) v1) (80 + 18 * n + 2) v2) (80 + 18 * n + 3) v3) (80 + 18 * n + 4) (-1) = rd5 at M0 hmm
  have kq : ∀ z, lo ≤ z → z < q0 → hu h6 q0 (.inl (0, 4, .inl (upd (upd (upd (upd (fun _ => 0) 0 v0) 1 v1) 2 v2) 3 v3))) z = h2 z := fun z z1 z2 => by
    rw [hu_n (by omega), f6 z (by omega) (by omega), hu_n (by omega), f5 z (by omega) (by omega), hu_n (by omega), f4 z (by omega) (by omega), hu_n (by omega), f3 z (by omega) (by omega), hu_n (by omega)]
  have N6 := N2.kept (kq _ w1 (by omega)) (kq _ w3 (by omega))
  have ern : vp_updL rn (10 + n) v (10 + n) = v := pk_uLs
  have q6 : hu h6 q0 (.inl (0, 4, .inl (upd (upd (upd (upd (fun _ => 0) 0 v0) 1 v1) 2 v2) 3 v3))) q0 = some (.inl (0, 4, .inl (upd (upd (upd (upd (fun _ => 0) 0 v0) 1 v1) 2 v2) 3 v3))) := hu_s
  generalize hu h6 q0 (.inl (0, 4, .inl (upd (upd (upd (upd (fun _ => 0) 0 v0) 1 v1) 2 v2) 3 v3))) = h7 at S6' N6 q6 hy
  generalize hn7 : q0 + 1 + c3 + c4 + c5 + c6 = n7 at *
  generalize tNx si ta (tNx si ta (tNx si ta (tNx si ta (tNx si ta (tNx si ta t))))) = t7 at *
  cases hin : (decide (tKd si ta t7 = nI 2) && decide (tWd si ta t7 = cstW 9))
  · rw [hin, if_pos (show bI false = 0 from rfl)] at hy
    rw [hin, if_pos (show bI false = 0 from rfl)] at hmm
    rcases s_loop C P hn htv 1000 t7 9000 9000 T6 rd5 F 0 (fun _ => 0) _ h7 n7 _ mm (by have := C.2.1; omega) S6' M0 N6 ern q6 htf w1 (by omega) w3 (by omega) (by omega) (by omega) rfl hmm with ⟨fa', pl', Y, M⟩ | ⟨h', c, d, t', T', rd', F', eP', e1, e2, e3, e4, e5, e6, e7⟩
    · refine Or.inl ⟨fa', pl', ?_, M⟩
      rw [← hy]
      exact (((((((Y.aC c6 d6).aC c5 d5).aC c4 d4).aC c3 d3).aC 1 4).aC c2 d2).aC c1 d1).le (by omega) (by omega)
    · have e1 : f_X4_houseLine_149 FU E b w (nI n) q0 h7 n7 = _ := e1
      rw [e1] at hy
      simp only [aC_some] at hy
      refine Or.inr ⟨h', _, _, t', T', v, rd', F', eP', hn, hy.symm, e2, e3, ?_, by omega, by omega, by omega⟩
      rw [show nx + (c1 + (c2 + (1 + (c3 + (c4 + (c5 + (c6 + c))))))) = n7 + c by omega]
      exact e4
  · -- in a home
    rw [hin, if_neg (show ¬ bI true = 0 by decide), gdT] at hy
    rw [hin, if_neg (show ¬ bI true = 0 by decide)] at hmm
    have hk7 : tKd si ta t7 = nI 2 := by
      rw [Bool.and_eq_true] at hin
      exact of_decide_eq_true hin.1
    have lt7 := (tk_ok (g := ta) C.2.1 ts6).2.2.2.1 (by rw [hk7]; decide)
    obtain ⟨h8_, c8, d8, T8, y8, m8, S8, f8, k8, k8'⟩ := s_go (nx := n7) C S6'.1 S6'.2.2.2.1.tc S6'.2.2.2.2.1 S6'.2.2.2.2.2 (by omega)
    have ts8 := S8.2.2.2.2.2
    obtain ⟨g78, g88, fr1, to1, so1, nu1, wd1, qb, qw⟩ := S8.cell
    rw [y8, Option.bind_some] at hy
    dsimp only at hy
    rw [S8.isr, gdT, c_isName (C.at S8.1) S8.2.2.2.1, Option.bind_some, gdT] at hy
    unfold f_X3_readIn at hmm
    rw [m8, Option.bind_some, m_isName, nm_E S8.2.2.2.2.1, Option.bind_some] at hmm
    cases hnm : isNm (tKd si ta (tNx si ta t7)) (tWd si ta (tNx si ta t7))
    · rw [hnm, show bI false = 0 from rfl] at hy
      rw [hnm, if_pos (show bI false = 0 from rfl), m_bad, Option.bind_some, Option.bind_some] at hmm
      refine Or.inl ⟨bdF (tKd si ta (tNx si ta t7)) (nI 2), tFr si ta (tNx si ta t7), ?_, ?_⟩
      · obtain ⟨az, hz, cz, dz, ez, ez2, ez3, ez4, ez5, ez6⟩ := c_needs0 (E := E) (k := nI 2) (nx := n7 + c8) S8.1 S8.2.2.2.1.tc (by omega) (Or.inl rfl)
        rw [ez, Option.bind_some] at hy
        dsimp only at hy
        simp only [aC_some] at hy
        rw [← hy]
        exact ⟨az, hz, _, _, rfl, ez2, ez3, ez4, by omega, by omega⟩
      · rw [← hmm, S8.2.2.2.2.1.2.2.1, S8.2.2.2.2.1.1]
        exact ⟨_, _, _, _, _, _, rfl⟩
    have hk8 := nm_2 hnm
    obtain ⟨s9, N9, v91, v92⟩ := qw hk8
    have ewd := S8.2.2.2.2.1.2.2.2.2 hk8
    have ekd := S8.2.2.2.2.1.2.2.1
    have nk1 : tKd si ta (tNx si ta t7) ≠ 1 := by rw [hk8]; decide
    have hnd := c_homeNamed (E := E) S8.1 m10 qb N9
    rw [hnm, show bI true = 1 from rfl, c_needs1, Option.bind_some] at hy
    dsimp only [sumc] at hy
    rw [aC00, S8.isr, gdT, hnd, Option.bind_some, Nat.add_zero] at hy
    have e230 : rd5 230 = nI m := by rw [← hrd5, upd_n (by omega), upd_n (by omega), upd_n (by omega), upd_n (by omega), upd_n (by omega)]; exact p1
    rw [hnm, if_neg (show ¬ bI true = 0 by decide), m_homeHere e230 m10, ewd, Option.bind_some] at hmm
    cases ho : hNm (vp_updL rn (10 + n) v) m (tWd si ta (tNx si ta t7)) with
    | none =>
      rw [ho, if_pos (show eO none < 0 by decide)] at hy
      unfold f_X3_readIn_42 at hmm
      rw [ho, if_pos (show eO none = -1 from rfl), m_bad, Option.bind_some, Option.bind_some] at hmm
      unfold f_X4_houseLine_128 at hy
      rw [S8.isr, gdT] at hy
      refine Or.inl ⟨bdF (tKd si ta (tNx si ta t7)) (nI 4), tFr si ta (tNx si ta t7), ?_, ?_⟩
      · obtain ⟨az, hz, cz, dz, ez, ez2, ez3, ez4, ez5, ez6⟩ := c_needs0 (E := E) (k := nI 4) (nx := n7 + c8) S8.1 S8.2.2.2.1.tc (by omega) (Or.inr nk1)
        rw [ez, Option.bind_some] at hy
        dsimp only [sumc] at hy
        simp only [aC_some] at hy
        rw [← hy]
        exact ⟨az, hz, _, _, rfl, ez2, ez3, ez4, by omega, by omega⟩
      · rw [← hmm, ekd, S8.2.2.2.2.1.1]
        exact ⟨_, _, _, _, _, _, rfl⟩
    | some x =>
      have hx : x < m := by have := (fdN_some ho).2.1; omega
      have e8x : rd5 (8 * x + 2) = hF rd x 2 := by rw [← hrd5, upd_n (by omega), upd_n (by omega), upd_n (by omega), upd_n (by omega), upd_n (by omega)]; rfl
      rw [ho, if_neg (show ¬ eO (some x) < 0 from nI_pos (by omega)), gdT, Option.bind_some, gdT, show eO (some x) = nI x from rfl, c_isLivedIn S8.1 n8 qb, Option.bind_some, P.lived hx] at hy
      rw [ho, if_neg (show ¬ eO (some x) = -1 from nI_m1 (by omega)), show eO (some x) = nI x from rfl, pk_mul, nI_add, gdn ⟨by omega, by decide⟩, nI_clamp (by omega), e8x] at hmm
      by_cases hl : hF rd x 2 = -1
      · rw [decide_eq_true hl, if_pos (show bI (!true) = 0 from rfl)] at hy
        rw [if_pos hl, m_at, Option.bind_some, gdn ⟨by omega, by decide⟩, gdn ⟨by omega, by decide⟩, nI_clamp (by omega)] at hmm
        unfold f_X4_houseLine_128 at hy
        obtain ⟨la8, oa8, R8⟩ := S8.1.rg
        obtain ⟨p1', S9⟩ := S8.put2 (a := 1) (j := n) (by decide) (by show n < 8; exact hn) (nI x)
        have p1' : sI h8_ (b + 5 + 2) 0 (nI n) (nI x) = _ := p1'
        generalize hh9 : hu h8_ (b + 5 + (1 + 1)) (.inl (ak 1, al 1, .inl (upd (F 1) n (nI x)))) = h9 at S9 p1'
        have k9 : ∀ z, z ≠ b + 7 → h9 z = h8_ z := fun z hz => by rw [← hh9]; exact hu_n hz
        have lt8 := (tk_ok (g := ta) C.2.1 ts8).2.2.2.1 (by rw [hk8]; decide)
        obtain ⟨h10, c10, d10, T10, y10, m10', S10, f10, k10, k10'⟩ := s_go (nx := n7 + c8) C S9.1 S9.2.2.2.1.tc S9.2.2.2.2.1 S9.2.2.2.2.2 (by omega)
        have ts10 := S10.2.2.2.2.2
        rw [S8.isr, gdT, c_needs1, Option.bind_some] at hy
        dsimp only [sumc] at hy
        rw [aC00, g88, Option.bind_some, R8.g1, Option.bind_some, S8.isr, gdT, hnd, Option.bind_some, ho, show eO (some x) = nI x from rfl, p1', Option.bind_some, S9.isr, gdT, Nat.add_zero, y10, Option.bind_some] at hy
        dsimp only at hy
        rw [ewd] at m10'
        rw [m10', Option.bind_some, Option.bind_some] at hmm
        dsimp only at hmm
        rw [if_neg (show ¬ (1 : Int32) = 0 by decide)] at hmm
        have kk : ∀ z, lo ≤ z → z < n7 → h10 z = h7 z := fun z z1 z2 => by rw [f10 z (by omega) (by omega), k9 z (by omega), f8 z (by omega) (by omega)]
        rcases s_loop C P hn htv 1000 _ 9000 9000 T10 _ _ 0 (fun _ => 0) _ h10 (n7 + c8 + c10) _ mm (by have := C.2.1; omega) S10 (M0.inn hn hx m10 hl) (N6.kept (kk _ w1 (by omega)) (kk _ w3 (by omega))) ern ((kk _ (by omega) (by omega)).trans q6) htf w1 (by omega) w3 (by omega) (by omega) (by omega) rfl hmm with ⟨fa', pl', Y, M⟩ | ⟨h', c, d, t', T', rd', F', eP', e1, e2, e3, e4, e5, e6, e7⟩
        · refine Or.inl ⟨fa', pl', ?_, M⟩
          rw [← hy]
          exact (((((((((Y.aC c10 d10).aC c8 d8).aC c6 d6).aC c5 d5).aC c4 d4).aC c3 d3).aC 1 4).aC c2 d2).aC c1 d1).le (by omega) (by omega)
        · have e1 : f_X4_houseLine_149 FU E b w (nI n) q0 h10 (n7 + c8 + c10) = _ := e1
          rw [e1] at hy
          simp only [aC_some] at hy
          refine Or.inr ⟨h', _, _, t', T', v, rd', F', eP', hn, hy.symm, e2, e3, ?_, by omega, by omega, by omega⟩
          rw [show nx + (c1 + (c2 + (1 + (c3 + (c4 + (c5 + (c6 + (c8 + (c10 + c))))))))) = n7 + c8 + c10 + c by omega]
          exact e4
      · rw [decide_eq_false hl, if_neg (show ¬ bI (!false) = 0 by decide)] at hy
        unfold f_X3_readIn_42 at hmm
        rw [if_neg hl, m_bad, Option.bind_some, Option.bind_some] at hmm
        unfold f_X4_houseLine_128 at hy
        rw [S8.isr, gdT] at hy
        refine Or.inl ⟨bdF (tKd si ta (tNx si ta t7)) (nI 4), tFr si ta (tNx si ta t7), ?_, ?_⟩
        · obtain ⟨az, hz, cz, dz, ez, ez2, ez3, ez4, ez5, ez6⟩ := c_needs0 (E := E) (k := nI 4) (nx := n7 + c8) S8.1 S8.2.2.2.1.tc (by omega) (Or.inr nk1)
          rw [ez, Option.bind_some] at hy
          dsimp only [sumc] at hy
          simp only [aC_some] at hy
          rw [← hy]
          exact ⟨az, hz, _, _, rfl, ez2, ez3, ez4, by omega, by omega⟩
        · rw [← hmm, ekd, S8.2.2.2.2.1.1]
          exact ⟨_, _, _, _, _, _, rfl⟩
end PRI
