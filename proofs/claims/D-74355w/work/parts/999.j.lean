/-! reading: line by line -/
/-- behind a line, both sides -/
def LnG (A : Nat → Nat) (b : Nat) (h0 : AH) (si : Nat) (ta : Nat → Int32) (fa pl : Int32) (t nx : Nat) (X : Option ((Nat ⊕ Unit) × AH × Nat × Nat)) (mm : Option (Int32 × Int32 × Int32 × Int32 × Int32 × Int32 × Int32 × Int64 × (Nat → Int32) × (Nat → Int64))) : Prop := ∃ h' c d t' T' rd' rn' m' n' F' eH' eP', X = some (.inr (), h', c, d) ∧ mm = mE si ta fa pl T' rd' rn' ∧ PRw rd' m' n' F' ∧ RdL A b h0 si ta rn' m' n' (hF rd') (pF rd') F' eH' eP' t' T' h' (nx + c) ∧ t < t' ∧ c ≤ 5 * (t' - t) ∧ d ≤ 102 * (t' - t)
section PRJ
variable {A : Nat → Nat} {I : Nat → Int32} {st : Int32} {ta tb : Nat → Int32} {h h' h0 : AH} {E : bE} {nx nx' si t b m n lo lo' l1 k eH eP : Nat} {rn rn' : Nat → Int64} {F : Nat → Nat → Int32} {fa pl : Int32} {T : T5} {rd : Rw}
theorem eta10 {β γ : Type} (o : Option (Int32 × Int32 × Int32 × Int32 × Int32 × Int32 × Int32 × Int64 × β × γ)) : (o.bind fun v => some (v.1, v.2.1, v.2.2.1, v.2.2.2.1, v.2.2.2.2.1, v.2.2.2.2.2.1, v.2.2.2.2.2.2.1, v.2.2.2.2.2.2.2.1, v.2.2.2.2.2.2.2.2.1, v.2.2.2.2.2.2.2.2.2)) = o := by
  cases o <;> rfl
/-- one line: which of the component's methods reads it -/
theorem s_line (C : RdC A I st ta tb si E.1 b h0) (S : RdS A b h0 si ta rn m n (hF rd) (pF rd) F eH eP lo l1 t T h nx) (P : PRw rd m n F) (hk : tKd si ta t ≠ 0) {k0 : Nat → AH → Nat → Option ((Nat ⊕ Unit) × AH × Nat × Nat)} {y : Option ((Nat ⊕ Unit) × AH × Nat × Nat)} {mm : Option (Int32 × Int32 × Int32 × Int32 × Int32 × Int32 × Int32 × Int64 × (Nat → Int32) × (Nat → Int64))}
    (hy : (gd (isO h b 3) ((f_X4_is E h b (E.1 (20 + 19))).bind fun v4 => if v4 = 0 then (gd (isO h b 3) ((f_X4_is E h b (E.1 (20 + 20))).bind fun v7 => if v7 = 0 then (gd (isO h b 3) ((f_X4_ruleLine E h nx b).bind fun v10 => aC v10.2.2.1 v10.2.2.2 (sumc v10.1 (fun ax => some (.inl ax, v10.2.1, 0, 0)) (fun r12 => f_X4_all_43 k0 E b v10.2.1 (nx + v10.2.2.1))))) else (gd (isO h b 3) ((f_X4_houseLine E h nx b).bind fun v14 => aC v14.2.2.1 v14.2.2.2 (sumc v14.1 (fun ax => some (.inl ax, v14.2.1, 0, 0)) (fun r16 => f_X4_all_43 k0 E b v14.2.1 (nx + v14.2.2.1))))))) else (gd (isO h b 3) ((f_X4_homeLine E h nx b).bind fun v18 => aC v18.2.2.1 v18.2.2.2 (sumc v18.1 (fun ax => some (.inl ax, v18.2.1, 0, 0)) (fun r20 => f_X4_all_43 k0 E b v18.2.1 (nx + v18.2.2.1))))))) = y)
    (hmm : f_X3_readLine (nI si) ta T.1 T.2.1 T.2.2.1 T.2.2.2.1 fa pl T.2.2.2.2 rd rn = mm) : ∃ X : Option ((Nat ⊕ Unit) × AH × Nat × Nat), y = (X.bind fun v => aC v.2.2.1 v.2.2.2 (sumc v.1 (fun ax => some (.inl ax, v.2.1, 0, 0)) (fun _ => f_X4_all_43 k0 E b v.2.1 (nx + v.2.2.1)))) ∧ ((∃ fa' pl', YBad b h0 X fa' pl' (5 * (si - t) + 30) (100 * (si - t) + 400) ∧ MBad mm fa' pl') ∨ LnG A b h0 si ta fa pl t nx X mm) := by
  obtain ⟨B, s1, s2, s3, s4, s5⟩ := id S
  obtain ⟨p1, m10, p3, n8⟩ := P.1
  obtain ⟨z19, hz19⟩ := (C.at B).2.2.2.1 19 (by decide) (by decide)
  obtain ⟨z20, hz20⟩ := (C.at B).2.2.2.1 20 (by decide) (by decide)
  have e19 := c_is (E := E) s3 (cst_n (k := 19) (Or.inr ⟨by decide, by decide⟩) hz19)
  have e20 := c_is (E := E) s3 (cst_n (k := 20) (Or.inr ⟨by decide, by decide⟩) hz20)
  rw [show cstW 19 = cstW 6 from rfl] at e19
  rw [show cstW 20 = cstW 7 from rfl] at e20
  have lt0 := (tk_ok (g := ta) C.2.1 s5).2.2.2.1 hk
  unfold f_X3_readLine at hmm
  rw [S.isr, gdT, e19, Option.bind_some] at hy
  rw [m_isWord (by decide), wd_E s4, Option.bind_some] at hmm
  cases h6 : (decide (tKd si ta t = nI 2) && decide (tWd si ta t = cstW 6))
  · rw [h6, if_pos (show bI false = 0 from rfl), gdT, e20, Option.bind_some] at hy
    rw [h6, if_pos (show bI false = 0 from rfl), m_isWord (by decide), wd_E s4, Option.bind_some] at hmm
    cases h7 : (decide (tKd si ta t = nI 2) && decide (tWd si ta t = cstW 7))
    · rw [h7, if_pos (show bI false = 0 from rfl), gdT] at hy
      rw [h7, if_pos (show bI false = 0 from rfl), m_isWord (by decide), wd_E s4, Option.bind_some] at hmm
      refine ⟨f_X4_ruleLine E h nx b, hy.symm, ?_⟩
      cases h8 : (decide (tKd si ta t = nI 2) && decide (tWd si ta t = cstW 8))
      · rw [h8, if_pos (show bI false = 0 from rfl), m_bad, Option.bind_some] at hmm
        refine Or.inl ⟨bdF (tKd si ta t) (nI 2), tFr si ta t, (s_rule0 C S h8).le (by omega) (by omega), ?_⟩
        rw [← hmm, s4.2.2.1, s4.1]
        exact ⟨_, _, _, _, _, _, rfl⟩
      · rw [h8, if_neg (show ¬ bI true = 0 by decide)] at hmm
        rcases s_rule (nx := nx) (mm := mm) C S h8 m10 n8 rfl hmm with ⟨fa', pl', Y, M⟩ | ⟨h', c, d, t', T', r, z, hr, e1, e2, e3, e4, e5, e6, e7⟩
        · exact Or.inl ⟨fa', pl', Y.le (by omega) (by omega), M⟩
        · exact Or.inr ⟨h', c, d, t', T', _, _, m, n, _, _, _, e1, e2, P.rule hr e3, e4, by omega, by omega, by omega⟩
    · rw [h7, if_neg (show ¬ bI true = 0 by decide), gdT] at hy
      rw [h7, if_neg (show ¬ bI true = 0 by decide), eta10] at hmm
      refine ⟨f_X4_houseLine E h nx b, hy.symm, ?_⟩
      rw [Bool.and_eq_true] at h7
      rcases s_house (nx := nx) (mm := mm) C S P (of_decide_eq_true h7.1) rfl hmm with ⟨fa', pl', Y, M⟩ | ⟨h', c, d, t', T', v, rd', F', eP', hn, e1, e2, e3, e4, e5, e6, e7⟩
      · exact Or.inl ⟨fa', pl', Y.le (by omega) (by omega), M⟩
      · exact Or.inr ⟨h', c, d, t', T', _, _, m, n + 1, _, _, _, e1, e2, e3, e4, by omega, by omega, by omega⟩
  · rw [h6, if_neg (show ¬ bI true = 0 by decide), gdT] at hy
    rw [h6, if_neg (show ¬ bI true = 0 by decide), eta10] at hmm
    refine ⟨f_X4_homeLine E h nx b, hy.symm, ?_⟩
    rw [Bool.and_eq_true] at h6
    rcases s_home (nx := nx) (mm := mm) C S (of_decide_eq_true h6.1) p1 m10 p3 n8 rfl hmm with ⟨fa', pl', Y, M⟩ | ⟨h', c, d, t', T', v, v0, v1, eH', hm, e1, e2, e3, e4, e5, e6, e7, e8, e9⟩
    · exact Or.inl ⟨fa', pl', Y.le (by omega) (by omega), M⟩
    · exact Or.inr ⟨h', c, d, t', T', _, _, m + 1, n, _, _, _, e1, e2, P.home hm e3 e4, e6, by omega, by omega, by omega⟩
/-- the whole text -/
theorem s_all (C : RdC A I st ta tb si E.1 b h0) {th tp st' fk fp ac : Int32} {nw : Nat → Int32} {nm : Nat → Int64} : ∀ (dd t a a' : Nat) (T : T5) (rd : Rw) (rn : Nat → Int64) (m n : Nat) (F : Nat → Nat → Int32) (eH eP lo l1 : Nat) (h : AH) (nx : Nat) (y : Option ((Nat ⊕ Unit) × AH × Nat × Nat)), si - t < dd → RdS A b h0 si ta rn m n (hF rd) (pF rd) F eH eP lo l1 t T h nx → PRw rd m n F → f_X4_all_0 (a + dd) E b h nx = y → (∃ fa' pl' x1 x2 x3 x4 x7 rd' rn', YBad b h0 y fa' pl' (5 * (si - t) + 40) (102 * (si - t) + 500) ∧ f_X3_load_56 (a' + 1 + dd) ta 1 th tp st' fk fp ac (nI si) T.1 T.2.1 T.2.2.1 T.2.2.2.1 fa pl T.2.2.2.2 nw rd nm rn = f_X3_load_75 ta 0 th tp st' fk fp ac (nI si) x1 x2 x3 x4 fa' pl' x7 nw rd' nm rn') ∨ ∃ h' c d t' T' rd' rn' m' n' F' eH' eP' lo' l1', y = some (.inr (), h', c, d) ∧ f_X3_load_56 (a' + 1 + dd) ta 1 th tp st' fk fp ac (nI si) T.1 T.2.1 T.2.2.1 T.2.2.2.1 fa pl T.2.2.2.2 nw rd nm rn = f_X3_load_75 ta 1 th tp st' fk fp ac (nI si) T'.1 T'.2.1 T'.2.2.1 T'.2.2.2.1 fa pl T'.2.2.2.2 nw rd' nm rn' ∧ PRw rd' m' n' F' ∧ RdS A b h0 si ta rn' m' n' (hF rd') (pF rd') F' eH' eP' lo' l1' t' T' h' (nx + c) ∧ t ≤ t' ∧ c ≤ 5 * (t' - t) ∧ d ≤ 102 * (t' - t) := by
  intro dd
  induction dd with
  | zero => intro t a a' T rd rn m n F eH eP lo l1 h nx y hd; omega
  | succ dd ih =>
    intro t a a' T rd rn m n F eH eP lo l1 h nx y hd S P hy
    obtain ⟨B, s1, s2, s3, s4, s5⟩ := id S
    have r3 : gI h b 3 3 = some (srt (tKd si ta t)) := by
      obtain ⟨wd', nu', q, -⟩ := s3
      exact (rd0 q).2.2.2.1
    rw [show a + (dd + 1) = a + dd + 1 from rfl, f_X4_all_0, r3, Option.bind_some] at hy
    rw [show a' + 1 + (dd + 1) = a' + 1 + dd + 1 from rfl, f_X3_load_56, if_neg (show ¬ (1 : Int32) = 0 by decide)]
    by_cases hk : tKd si ta t = 0
    · rw [if_pos (srt_0.mpr hk)] at hy
      rw [if_pos (s4.2.2.1.trans hk)]
      exact Or.inr ⟨h, 0, 0, t, T, rd, rn, m, n, F, eH, eP, lo, l1, hy.symm, rfl, P, S, Nat.le_refl _, by omega, by omega⟩
    · rw [if_neg (fun z => hk (srt_0.mp z))] at hy
      rw [if_neg (fun z => hk (s4.2.2.1.symm.trans z))]
      obtain ⟨X, ey, hX⟩ := s_line (nx := nx) (fa := fa) (pl := pl) C S P hk hy rfl
      generalize f_X3_readLine (nI si) ta T.1 T.2.1 T.2.2.1 T.2.2.2.1 fa pl T.2.2.2.2 rd rn = mm at hX ⊢
      rcases hX with ⟨fa', pl', Y, x1, x2, x3, x4, x7, x8, em⟩ | ⟨h1, c1, d1, t1, T1, rd1, rn1, m1, n1, F1, eH1, eP1, eX, em, P1, ⟨B1, K1, TE1, ts1⟩, lt1, b1, b2⟩
      · refine Or.inl ⟨fa', pl', x1, x2, x3, x4, x7, x8.1, x8.2, ?_, ?_⟩
        · rw [ey]
          exact (Y.bind _).le (by omega) (by omega)
        · rw [em, Option.bind_some]
          dsimp only
          rw [show a' + 1 + dd = a' + dd + 1 by omega, f_X3_load_56, if_pos rfl]
      · rw [eX, Option.bind_some] at ey
        dsimp only [sumc] at ey
        obtain ⟨wd1, nu1, q1⟩ := id K1
        obtain ⟨-, -, -, r31, -, -, -, -, -, -, r101⟩ := rd0 q1
        unfold f_X4_all_43 at ey
        rw [r31, Option.bind_some] at ey
        unfold f_X4_all_57 at ey
        unfold mE at em
        rcases m_end (fa := fa) (pl := pl) C.2.1 TE1 ts1 with ⟨k4, T2, ee, TE2, eg⟩ | ⟨k4, ee⟩
        · obtain ⟨h2, c2, d2, T2', y2, g2, S2, f2, k2, k2'⟩ := s_go (nx := nx + c1) C B1 K1 TE1 ts1 (Nat.le_refl _)
          rw [eg] at g2
          have e22 : T2 = T2' := Option.some.inj g2
          subst e22
          have lt2 := (tk_ok (g := ta) C.2.1 ts1).2.2.2.1 (by rw [k4]; decide)
          rw [if_pos ((srt_3 C.2.1 ts1).mpr k4), r101, gdT, c_needs1, Option.bind_some] at ey
          dsimp only [sumc] at ey
          rw [aC00, r101, gdT, Nat.add_zero, y2, Option.bind_some] at ey
          dsimp only at ey
          rw [ee, Option.bind_some] at em
          rw [em, Option.bind_some]
          dsimp only
          have ts2 := S2.2.2.2.2.2
          rcases ih (tNx si ta t1) a a' T2 rd1 rn1 m1 n1 F1 eH1 eP1 _ _ h2 (nx + c1 + c2) _ (by omega) S2 P1 rfl with ⟨fa', pl', x1, x2, x3, x4, x7, x8, x9, Y, M⟩ | ⟨h', c, d, t', T', rd', rn', m', n', F', eH', eP', lo', l1', e1, e2, e3, e4, e5, e6, e7⟩
          · refine Or.inl ⟨fa', pl', x1, x2, x3, x4, x7, x8, x9, ?_, M⟩
            rw [ey]
            exact ((Y.aC c2 d2).aC c1 d1).le (by omega) (by omega)
          · rw [e1, aC_some, aC_some] at ey
            refine Or.inr ⟨h', _, _, t', T', rd', rn', m', n', F', eH', eP', lo', l1', ey, e2, e3, ?_, by omega, by omega, by omega⟩
            rw [show nx + (c1 + (c2 + c)) = nx + c1 + c2 + c by omega]
            exact e4
        · rw [if_neg (fun z => k4 ((srt_3 C.2.1 ts1).mp z)), r101, gdT] at ey
          rw [ee, Option.bind_some] at em
          refine Or.inl ⟨bdF (tKd si ta t1) (nI 2), tFr si ta t1, T1.1, T1.2.1, T1.2.2.1, T1.2.2.2.1, T1.2.2.2.2, rd1, rn1, ?_, ?_⟩
          · rw [ey]
            exact (((c_needs0 B1 K1 (Nat.le_refl _) (Or.inl rfl)).bind _).aC c1 d1).le (by omega) (by omega)
          · rw [em, Option.bind_some]
            dsimp only
            rw [show a' + 1 + dd = a' + dd + 1 by omega, f_X3_load_56, if_pos rfl]
end PRJ
