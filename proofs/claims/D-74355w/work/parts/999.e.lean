/-! reading: a rule's line -/
section PRE2
variable {A : Nat → Nat} {I : Nat → Int32} {st : Int32} {ta tb : Nat → Int32} {h h' h0 : AH} {E : bE} {nx nx' si t b m n lo lo' l1 k eH eP q a j x s s' : Nat} {rn rn' : Nat → Int64} {hv pv hv' pv' F : Nat → Nat → Int32} {fa pl lw hg r0 r1 fr fr' kd nu : Int32} {T : T5} {rd : Rw} {v wd : Int64}
/-- a cell of the register is written -/
theorem RdB.put (B : RdB A b h0 rn m n hv pv F eH eP lo h) (ha : a < 15) (hj : j < al a) (z : Int32) : sI h (b + 5 + (a + 1)) (ak a) (nI j) z = some (hu h (b + 5 + (a + 1)) (.inl (ak a, al a, .inl (upd (F a) j z)))) ∧ RdB A b h0 rn m n hv pv (uF F a j z) eH eP lo (hu h (b + 5 + (a + 1)) (.inl (ak a, al a, .inl (upd (F a) j z)))) := by
  obtain ⟨cH, cP, hm, sh, bh, hs, sp, bp, tl, la, oa, b1, b2, b3, b4, b5, b6, b7, b8, b9⟩ := B
  have ki : ∀ q, Im b eH eP lo q → hu h (b + 5 + (a + 1)) (.inl (ak a, al a, .inl (upd (F a) j z))) q = h q := fun q hq => hu_n (by have := hq.1; omega)
  refine ⟨b9.st ha hj z, cH, cP, hm, sh, bh, hs, sp, bp, tl, la, oa, fun q hq => (hu_n (by omega)).trans (b1 q hq), b2, b3.kept (hu_n (by omega)) (hu_n (by omega)), b4.kept (hu_n (by omega)) (hu_n (by omega)), b5, b6, fun i hi => ?_, fun p hp => ?_, b9.setA ha _⟩
  · obtain ⟨z1, z2, z3, z4, z5⟩ := b7 i hi
    exact ⟨(ki _ z3).trans z1, z2.kept (ki _ z4) (ki _ z5), z3, z4, z5⟩
  · obtain ⟨z1, z2, ⟨t, z3, z3'⟩, z4, z5, z6, z7⟩ := b8 p hp
    exact ⟨(ki _ z4).trans z1, z2.kept (ki _ z5) (ki _ z6), ⟨t, (ki _ z7).trans z3, z3'⟩, z4, z5, z6, z7⟩
/-- which kind of rule a word is -/
def rkO (kd : Int32) (wd : Int64) : Option Nat := fdN (fun i => decide (kd = nI 2) && decide (wd = cstW i)) 0 6
def rkN (o : Option Nat) : Nat := match o with
  | some j => j
  | none => 6
theorem m_rule6 : f_X3_readRule_6 FU (nI si) ta 0 fr fr' kd nu fa pl wd rd = f_X3_readRule_26 (nI si) ta (nI (rkN (rkO kd wd))) fr fr' kd nu fa pl wd rd := by
  have key := lp_fd (fun k i => f_X3_readRule_6 k (nI si) ta (nI i) fr fr' kd nu fa pl wd rd) (fun j => f_X3_readRule_26 (nI si) ta (nI j) fr fr' kd nu fa pl wd rd) (f_X3_readRule_26 (nI si) ta (nI 6) fr fr' kd nu fa pl wd rd) (fun i => decide (kd = nI 2) && decide (wd = cstW i)) 6 (fun k => ?_) (fun k i hi => ?_) FU 0 (Nat.zero_le _) (FU_lt (by omega))
  · refine Eq.trans key ?_
    unfold rkO rkN
    rw [Nat.sub_zero]
    cases fdN (fun i => decide (kd = nI 2) && decide (wd = cstW i)) 0 6 <;> rfl
  · simp only [f_X3_readRule_6]
    rw [if_pos (nI_leR _)]
  · simp only [f_X3_readRule_6]
    rw [if_neg (nI_ge hi (by decide)), m_isWord (by omega), Option.bind_some, nI_1]
    cases decide (kd = nI 2) && decide (wd = cstW i)
    · rw [if_pos (show bI false = 0 from rfl), if_neg (by nofun)]
    · rw [if_neg (show ¬ bI true = 0 by decide), if_pos rfl]
theorem rk_E (TE : TkE si ta t T) : rkO T.2.2.1 T.2.2.2.2 = rkO (tKd si ta t) (tWd si ta t) := by
  unfold rkO
  exact fdN_c 6 0 (fun j _ _ => wd_E TE)
theorem rk_lt {o : Int32} {j : Nat} (H : rkO o v = some j) : j < 6 := by have := (fdN_some H).2.1; omega
/-- the row of kinds, looked at by the reader -/
theorem c_kind {lo hi : Nat} {K : Int32 → Option ((Nat ⊕ Unit) × AH × Nat × Nat)} (H : CF A I st tb E.1 h) (T : TkN si ta t h b (A 0) lo hi) : ((gI h b 3 3).bind fun v10 => if v10 = 1 then ((gA h b 3 5).bind fun v12 => (gA h b 3 9).bind fun v13 => (gA h v13 0 8).bind fun v14 => (f_X1_place E h v12 v14).bind fun v15 => K v15) else K (-1)) = K (eO (rkO (tKd si ta t) (tWd si ta t))) := by
  obtain ⟨wd', nu', q, t2, t3⟩ := T
  obtain ⟨-, -, -, r3, -, r5, -, -, -, r9, -⟩ := rd0 q
  obtain ⟨H1, H2, -⟩ := H
  have g8 : gA h (A 0) 0 8 = some (A 10) := by simp [gA, rd, H1.1, oE, oFs, vR]
  rw [r3, Option.bind_some]
  unfold rkO
  by_cases hk : tKd si ta t = nI 2
  · obtain ⟨s', ⟨n, g, w, S⟩, -⟩ := t3 hk
    have p1 : plc 6 cstL cstG n g = fdN (fun i => decide (tKd si ta t = nI 2) && decide (tWd si ta t = cstW i)) 0 6 := by
      unfold plc
      refine fdN_c 6 0 (fun j _ hj => ?_)
      rw [decide_eq_true hk, Bool.true_and]
      refine decide_eq_decide.mpr ?_
      rw [eq_comm (a := tWd si ta t)]
      exact ((cst_w (k := j) (Or.inl (by omega))).inj w).symm
    rw [if_pos (srt_1.mpr hk), r5, Option.bind_some, r9, Option.bind_some, g8, Option.bind_some, y_place H2 (by decide) (fun i hi => by have := (cst_w (k := i) (Or.inl (by omega))).1; omega) S (by have := w.1; omega), Option.bind_some, p1]
  · have p2 : fdN (fun i => decide (tKd si ta t = nI 2) && decide (tWd si ta t = cstW i)) 0 6 = none := fdN_none.mpr (fun q _ _ => by rw [decide_eq_false hk]; rfl)
    rw [if_neg (fun z => hk (srt_1.mp z)), p2]
    rfl
theorem s_rule0 (C : RdC A I st ta tb si E.1 b h0) (S : RdS A b h0 si ta rn m n hv pv F eH eP lo l1 t T h nx) (hw : (decide (tKd si ta t = nI 2) && decide (tWd si ta t = cstW 8)) = false) : YBad b h0 (f_X4_ruleLine E h nx b) (bdF (tKd si ta t) (nI 2)) (tFr si ta t) 1 8 := by
  obtain ⟨B, s1, s2, s3, s4, s5⟩ := id S
  obtain ⟨x, hx⟩ := (C.at B).2.2.2.1 18 (by decide) (by decide)
  unfold f_X4_ruleLine
  rw [S.isr, gdT, c_is s3 (cst_n (k := 18) (Or.inr ⟨by decide, by decide⟩) hx), Option.bind_some, gdT, show cstW 18 = cstW 8 from rfl, hw]
  exact (c_needs0 B s3.tc (by omega) (Or.inl rfl)).bind _
def mRl (mm : Option (Int32 × Int32 × Int32 × Int32 × Int32 × Int32 × Int32 × Int64 × (Nat → Int32))) (rn : Nat → Int64) : Option (Int32 × Int32 × Int32 × Int32 × Int32 × Int32 × Int32 × Int64 × (Nat → Int32) × (Nat → Int64)) := mm.bind fun v8 => some (v8.1, v8.2.1, v8.2.2.1, v8.2.2.2.1, v8.2.2.2.2.1, v8.2.2.2.2.2.1, v8.2.2.2.2.2.2.1, v8.2.2.2.2.2.2.2.1, v8.2.2.2.2.2.2.2.2, rn)
theorem s_rule (C : RdC A I st ta tb si E.1 b h0) (S : RdS A b h0 si ta rn m n (hF rd) (pF rd) F eH eP lo l1 t T h nx) (hw : (decide (tKd si ta t = nI 2) && decide (tWd si ta t = cstW 8)) = true) (hm2 : m ≤ 10) (hn2 : n ≤ 8) {y : Option ((Nat ⊕ Unit) × AH × Nat × Nat)} {mm : Option (Int32 × Int32 × Int32 × Int32 × Int32 × Int32 × Int32 × Int64 × (Nat → Int32) × (Nat → Int64))} (hy : f_X4_ruleLine E h nx b = y) (hmm : mRl (f_X3_readRule (nI si) ta T.1 T.2.1 T.2.2.1 T.2.2.2.1 fa pl T.2.2.2.2 rd) rn = mm) : (∃ fa' pl', YBad b h0 y fa' pl' 30 400 ∧ MBad mm fa' pl') ∨ ∃ h' c d t' T' r z, r < 6 ∧ y = some (.inr (), h', c, d) ∧ mm = mE si ta fa pl T' (upd rd (224 + r) z) rn ∧ ir z (loR r) (hiR r) = true ∧ RdL A b h0 si ta rn m n (hF (upd rd (224 + r) z)) (pF (upd rd (224 + r) z)) (uF F 0 r z) eH eP t' T' h' (nx + c) ∧ t + 3 ≤ t' ∧ c ≤ 12 ∧ d ≤ 120 := by
  obtain ⟨B, s1, s2, s3, s4, s5⟩ := id S
  have h46 := B.l46
  have hk : tKd si ta t = nI 2 := by
    rw [Bool.and_eq_true] at hw
    exact of_decide_eq_true hw.1
  obtain ⟨x, hx⟩ := (C.at B).2.2.2.1 18 (by decide) (by decide)
  obtain ⟨h1, c1, d1, T1, y1, m1, S1, f1, k1, k1'⟩ := s_go (nx := nx) C B s3.tc s4 s5 (by omega)
  have lt1 := (tk_ok (g := ta) C.2.1 s5).2.2.2.1 (by rw [hk]; decide)
  unfold f_X4_ruleLine at hy
  unfold mRl f_X3_readRule at hmm
  rw [S.isr, gdT, c_is s3 (cst_n (k := 18) (Or.inr ⟨by decide, by decide⟩) hx), Option.bind_some, gdT, show cstW 18 = cstW 8 from rfl, hw, show bI true = 1 from rfl, c_needs1, Option.bind_some] at hy
  dsimp only [sumc] at hy
  rw [aC00, S.isr, gdT, Nat.add_zero, y1, Option.bind_some] at hy
  dsimp only at hy
  rw [m1, Option.bind_some, m_rule6, rk_E S1.2.2.2.2.1] at hmm
  have ck := c_kind (K := fun v => f_X4_ruleLine_41 E b v h1 (nx + c1)) (C.at S1.1) S1.2.2.2.1
  rw [ck] at hy
  unfold f_X4_ruleLine_41 at hy
  unfold f_X3_readRule_26 at hmm
  have hb : ∀ j, rkO (tKd si ta (tNx si ta t)) (tWd si ta (tNx si ta t)) = some j → j < 2 ^ 31 := fun j hj => by have := rk_lt hj; omega
  cases ho : rkO (tKd si ta (tNx si ta t)) (tWd si ta (tNx si ta t)) with
  | none =>
    rw [ho, if_pos (show eO none < 0 by decide)] at hy
    rw [ho, if_pos (show nI (rkN none) = nI 6 from rfl), m_bad, Option.bind_some] at hmm
    refine Or.inl ⟨bdF (tKd si ta (tNx si ta t)) (nI 2), tFr si ta (tNx si ta t), ?_, ?_⟩
    · unfold f_X4_ruleLine_52 at hy
      rw [S1.isr, gdT] at hy
      rw [← hy]
      exact (((c_needs0 S1.1 S1.2.2.2.1.tc (by omega) (Or.inl rfl)).bind _).aC c1 d1).le (by omega) (by omega)
    · rw [← hmm, S1.2.2.2.2.1.2.2.1, S1.2.2.2.2.1.1]
      exact ⟨_, _, _, _, _, _, rfl⟩
  | some r =>
    have hr := rk_lt ho
    have hk1 : tKd si ta (tNx si ta t) = nI 2 := by
      have := (fdN_some ho).2.2.1
      rw [Bool.and_eq_true] at this
      exact of_decide_eq_true this.1
    have lt2 := (tk_ok (g := ta) C.2.1 S1.2.2.2.2.2).2.2.2.1 (by rw [hk1]; decide)
    obtain ⟨h2, c2, d2, T2, y2, m2, S2, f2, k2, k2'⟩ := s_go (nx := nx + c1) C S1.1 S1.2.2.2.1.tc S1.2.2.2.2.1 S1.2.2.2.2.2 (by omega)
    rw [ho, if_neg (show ¬ eO (some r) < 0 from nI_pos (by omega))] at hy
    rw [ho, if_neg (show ¬ nI (rkN (some r)) = nI 6 from fun z => by have := (nI_eq (a := r) (by omega) (by decide)).mp z; omega), show nI (rkN (some r)) = nI r from rfl, m2, Option.bind_some, m_least hr, Option.bind_some, m_mostOf hr, Option.bind_some, nI_add] at hmm
    obtain ⟨-, -, -, -, ⟨g0, e0, e0'⟩, g1, e1, e1'⟩ := C.at S2.1
    obtain ⟨la, oa, R2⟩ := S2.1.rg
    have r8 : gA h2 b 3 8 = some (b + 5) := by
      obtain ⟨-, -, -, ⟨wd', nu', q, -⟩, -⟩ := S2
      exact (rd0 q).2.2.2.2.2.2.2.2.1
    unfold f_X4_ruleLine_52 at hy
    rw [S1.isr, gdT, c_needs1, Option.bind_some] at hy
    dsimp only [sumc] at hy
    rw [aC00, S1.isr, gdT, Nat.add_zero, y2, Option.bind_some] at hy
    dsimp only at hy
    rw [r8, Option.bind_some, R2.g0, Option.bind_some, show eO (some r) = nI r from rfl, aI_at e0 hr (by decide), Option.bind_some, aI_at e1 hr (by decide), Option.bind_some, S2.isr, gdT, e0' r hr, e1' r hr] at hy
    rcases s_num (fa := fa) (pl := pl) (nx := nx + c1 + c2) (rd := rd) (lw := loR r) (hg := hiR r) C S2 (a0 := 224 + r) (by omega) with ⟨fa', pl', Y, M⟩ | ⟨z, h3, c3, d3, T3, y3, m3, ir3, S3, lt3, f3, k3, k3'⟩
    · refine Or.inl ⟨fa', pl', ?_, ?_⟩
      · rw [← hy]
        exact (((Y.bind _).aC c2 d2).aC c1 d1).le (by omega) (by omega)
      · obtain ⟨x1, x2, x3, x4, x7, x8, e⟩ := M
        rw [e, Option.bind_some] at hmm
        rw [← hmm]
        exact ⟨_, _, _, _, _, _, rfl⟩
    obtain ⟨p1, p2⟩ := S3.1.put (a := 0) (j := r) (by decide) (by show r < 6; exact hr) z
    have p1 : sI h3 (b + 5 + 1) 0 (nI r) z = _ := p1
    rw [y3, Option.bind_some] at hy
    dsimp only [sumc] at hy
    rw [p1, Option.bind_some] at hy
    simp only [aC_some] at hy
    rw [m3, Option.bind_some] at hmm
    dsimp only at hmm
    rw [if_neg (show ¬ (1 : Int32) = 0 by decide)] at hmm
    refine Or.inr ⟨_, _, _, _, T3, r, z, hr, hy.symm, ?_, ir3, ⟨?_, ?_, S3.2.2.2.2.1, S3.2.2.2.2.2⟩, by omega, by omega, by omega⟩
    · rw [← hmm]
      unfold mE
      rcases m_end (fa := fa) (pl := pl) C.2.1 S3.2.2.2.2.1 S3.2.2.2.2.2 with ⟨-, T', e, -⟩ | ⟨-, e⟩
      · rw [e]; rfl
      · rw [e]; rfl
    · refine (p2.row (rn' := rn) (hv' := hF (upd rd (224 + r) z)) (pv' := pF (upd rd (224 + r) z)) (fun i hi => ⟨rfl, upd_n (by omega), upd_n (by omega)⟩) (fun p hp => ⟨rfl, fun k hk => upd_n (by omega)⟩)).keep (by omega) (fun _ _ _ => rfl)
    · obtain ⟨wd7, nu7, q7, -⟩ := S3.2.2.2.1
      exact ⟨wd7, nu7, (hu_n (by omega)).trans q7⟩
end PRE2
