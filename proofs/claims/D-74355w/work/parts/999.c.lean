/-! reading: both sides beside each other: tokens, numbers, names -/
/-- the state ahead of a token: what is made lies below lo, the token's word between l1 and nx -/
def RdS (A : Nat → Nat) (b : Nat) (h0 : AH) (si : Nat) (ta : Nat → Int32) (rn : Nat → Int64) (m n : Nat) (hv pv : Nat → Nat → Int32) (F : Nat → Nat → Int32) (eH eP lo l1 t : Nat) (T : T5) (h : AH) (nx : Nat) : Prop := RdB A b h0 rn m n hv pv F eH eP lo h ∧ lo ≤ l1 ∧ l1 ≤ nx ∧ TkN si ta t h b (A 0) l1 nx ∧ TkE si ta t T ∧ t ≤ si
section PRC
variable {A : Nat → Nat} {I : Nat → Int32} {st : Int32} {ta tb : Nat → Int32} {h h' h0 : AH} {E : bE} {nx nx' si t b m n lo l1 k eH eP q a0 : Nat} {rn : Nat → Int64} {hv pv F : Nat → Nat → Int32} {fa pl lw hg : Int32} {T : T5} {rd : Rw} {x : hE}
theorem s_go (C : RdC A I st ta tb si E.1 b h0) (B : RdB A b h0 rn m n hv pv F eH eP lo h) (K : TkC si ta t h b (A 0)) (TE : TkE si ta t T) (ht : t ≤ si) (hl : lo ≤ nx) : ∃ h' c d T', f_X4_goesOn E h nx b = some ((), h', c, d) ∧ f_X3_go (nI si) ta T.1 T.2.1 T.2.2.1 T.2.2.2.1 T.2.2.2.2 = some T' ∧ RdS A b h0 si ta rn m n hv pv F eH eP lo nx (tNx si ta t) T' h' (nx + c) ∧ (∀ z, z < nx → z ≠ b → h' z = h z) ∧ c ≤ 4 ∧ d ≤ 40 := by
  obtain ⟨h', c, d, e1, e2, e3, e4, e5, e6⟩ := y_go (nx := nx) C B K ht hl
  obtain ⟨T', f1, f2⟩ := m_goT C.2.1 ht TE
  exact ⟨h', c, d, T', e1, f1, ⟨e2, hl, by omega, e3, f2, (tk_ok C.2.1 ht).2.2.1⟩, e4, e5, e6⟩
theorem RdS.put (S : RdS A b h0 si ta rn m n hv pv F eH eP lo l1 t T h nx) (h1 : lo ≤ q) (h2 : q < l1 ∨ nx ≤ q) (hn : nx ≤ nx') : RdS A b h0 si ta rn m n hv pv F eH eP lo l1 t T (hu h q x) nx' := by
  obtain ⟨B, s1, s2, s3, s4, s5⟩ := S
  have h46 := B.l46
  exact ⟨B.keep (Nat.le_refl _) (fun z hz _ => hu_n (by omega)), s1, by omega, (s3.keep (hu_n (by omega)) (fun z hz hz2 => hu_n (by omega))).up hn, s4, s5⟩
theorem RdS.isr (S : RdS A b h0 si ta rn m n hv pv F eH eP lo l1 t T h nx) : isO h b 3 = true := by
  obtain ⟨B, s1, s2, ⟨wd', nu', q, -⟩, s4, s5⟩ := S
  exact (rd0 q).2.2.2.2.2.2.2.2.2.2
theorem s_num (C : RdC A I st ta tb si E.1 b h0) (S : RdS A b h0 si ta rn m n hv pv F eH eP lo l1 t T h nx) (ha : a0 < 390) : (∃ fa' pl', YBad b h0 (f_X4_digits E h nx b lw hg) fa' pl' 1 8 ∧ MBad (f_X3_readNumber (nI si) ta T.1 T.2.1 T.2.2.1 T.2.2.2.1 fa pl T.2.2.2.2 rd (nI a0) lw hg) fa' pl') ∨ ∃ v h' c d T', f_X4_digits E h nx b lw hg = some (.inr v, h', c, d) ∧ f_X3_readNumber (nI si) ta T.1 T.2.1 T.2.2.1 T.2.2.2.1 fa pl T.2.2.2.2 rd (nI a0) lw hg = some (1, T'.1, T'.2.1, T'.2.2.1, T'.2.2.2.1, fa, pl, T'.2.2.2.2, upd rd a0 v) ∧ ir v lw hg = true ∧ RdS A b h0 si ta rn m n hv pv F eH eP lo nx (tNx si ta t) T' h' (nx + c) ∧ t < tNx si ta t ∧ (∀ z, z < nx → z ≠ b → h' z = h z) ∧ c ≤ 4 ∧ d ≤ 40 := by
  have S0 := S
  obtain ⟨B, s1, s2, s3, s4, s5⟩ := S
  have h46 := B.l46
  obtain ⟨wd', nu', q, t2, t3⟩ := id s3
  obtain ⟨r0, r1, r2, r3, r4, r5, r6, r7, r8, r9, r10⟩ := rd0 q
  unfold f_X4_digits f_X3_readNumber
  rw [r3, Option.bind_some]
  by_cases hk : tKd si ta t = nI 3
  · have ek := s4.2.2.1.trans hk
    have enu := s4.2.2.2.1 hk
    have ey := t2 hk
    subst ey
    rw [if_pos (srt_2.mpr hk), if_pos ek, m_from, Option.bind_some]
    unfold f_X4_digits_14
    rw [r10, gdT, c_needs1, Option.bind_some]
    dsimp only [sumc]
    rw [aC00, r4, Option.bind_some, lg_r _ lw hg rfl rfl, Option.bind_some, r10, gdT, enu, Nat.add_zero]
    cases hir : ir (tNu si ta t) lw hg
    · refine Or.inl ⟨_, _, (c_needs0 (k := nI 3) B s3.tc (by omega) (Or.inr (by rw [hk]; decide))).bind _, ?_⟩
      rw [if_pos (show bI false = 0 from rfl), m_bad, Option.bind_some, ek, hk, s4.1]
      exact ⟨_, _, _, _, _, _, rfl⟩
    · obtain ⟨h', c, d, T', e1, e2, e3, e4, e5, e6⟩ := s_go (nx := nx) C B s3.tc s4 s5 (by omega)
      rw [enu] at e2
      refine Or.inr ⟨tNu si ta t, h', c, d, T', ?_, ?_, hir, e3, (tk_ok C.2.1 s5).2.2.2.1 (by rw [hk]; decide), e4, e5, e6⟩
      · rw [show bI true = 1 from rfl, c_needs1, Option.bind_some]
        dsimp only
        rw [aC00, r4, Option.bind_some, r10, gdT, Nat.add_zero, e1, Option.bind_some]
        dsimp only
        rw [aC_some]; rfl
      · rw [if_neg (show ¬ bI true = 0 by decide), gdn ⟨ha, by decide⟩, e2, Option.bind_some, nI_clamp (by omega)]
  · refine Or.inl ⟨bdF (tKd si ta t) (nI 2), tFr si ta t, ?_, ?_⟩
    · rw [if_neg (fun z => hk (srt_2.mp z))]
      unfold f_X4_digits_14
      rw [r10, gdT]
      exact (c_needs0 B s3.tc (by omega) (Or.inl rfl)).bind _
    · rw [if_neg (fun z => hk (s4.2.2.1.symm.trans z)), m_bad, Option.bind_some, s4.2.2.1, s4.1]
      exact ⟨_, _, _, _, _, _, rfl⟩
theorem nm_E (TE : TkE si ta t T) : isNm T.2.2.1 T.2.2.2.2 = isNm (tKd si ta t) (tWd si ta t) := by
  unfold isNm
  rw [TE.2.2.1]
  by_cases hk : tKd si ta t = nI 2
  · rw [TE.2.2.2.2 hk]
  · rw [decide_eq_false hk]; rfl
theorem nm_2 {kd : Int32} {wd : Int64} (H : isNm kd wd = true) : kd = nI 2 := by
  unfold isNm at H
  rw [Bool.and_eq_true] at H
  exact of_decide_eq_true H.1
theorem wd_E (TE : TkE si ta t T) {v : Int64} : (decide (T.2.2.1 = nI 2) && decide (T.2.2.2.2 = v)) = (decide (tKd si ta t = nI 2) && decide (tWd si ta t = v)) := by
  rw [TE.2.2.1]
  by_cases hk : tKd si ta t = nI 2
  · rw [TE.2.2.2.2 hk]
  · rw [decide_eq_false hk]; rfl
theorem s_name (C : RdC A I st ta tb si E.1 b h0) (S : RdS A b h0 si ta rn m n hv pv F eH eP lo l1 t T h nx) (hm : rd 230 = nI m) (hm2 : m ≤ 10) (hn : rd 231 = nI n) (hn2 : n ≤ 8) (ha : a0 < 18) : (∃ fa' pl', YBad b h0 (f_X4_fresh E h nx b) fa' pl' 2 12 ∧ MBad (f_X3_readName (nI si) rd ta T.1 T.2.1 T.2.2.1 T.2.2.2.1 fa pl T.2.2.2.2 rn (nI a0)) fa' pl') ∨ ∃ w s v h' c d T', f_X4_fresh E h nx b = some (.inr w, h', c, d) ∧ f_X3_readName (nI si) rd ta T.1 T.2.1 T.2.2.1 T.2.2.2.1 fa pl T.2.2.2.2 rn (nI a0) = some (1, T'.1, T'.2.1, T'.2.2.1, T'.2.2.2.1, fa, pl, T'.2.2.2.2, vp_updL rn a0 v) ∧ NmH h' w s v ∧ isTk rn m n v = false ∧ lo ≤ w ∧ w < nx ∧ lo ≤ s ∧ s < nx ∧ RdS A b h0 si ta rn m n hv pv F eH eP lo (nx + 1) (tNx si ta t) T' h' (nx + c) ∧ t < tNx si ta t ∧ (∀ z, z < nx → z ≠ b → h' z = h z) ∧ c ≤ 5 ∧ d ≤ 44 := by
  have S0 := S
  obtain ⟨B, s1, s2, s3, s4, s5⟩ := S
  have h46 := B.l46
  obtain ⟨wd', nu', q, t2, t3⟩ := id s3
  obtain ⟨r0, r1, r2, r3, r4, r5, r6, r7, r8, r9, r10⟩ := rd0 q
  unfold f_X4_fresh f_X3_readName
  rw [r10, gdT, c_isName (C.at B) s3, Option.bind_some, gdT, m_isName, nm_E s4, Option.bind_some]
  cases hnm : isNm (tKd si ta t) (tWd si ta t)
  · refine Or.inl ⟨bdF (tKd si ta t) (nI 2), tFr si ta t, ?_, ?_⟩
    · exact ((c_needs0 B s3.tc (by omega) (Or.inl rfl)).bind _).le (by omega) (by omega)
    · rw [if_pos (show bI false = 0 from rfl), m_bad, Option.bind_some, s4.2.2.1, s4.1]
      exact ⟨_, _, _, _, _, _, rfl⟩
  have hk := nm_2 hnm
  obtain ⟨s, N, w1, w2, w3, w4⟩ := t3 hk
  have ewd := s4.2.2.2.2 hk
  obtain ⟨h1, e1, k1⟩ := c_isTaken (E := E) (nx := nx) B hm2 hn2 q N (by omega) ⟨w2, w4⟩
  have B1 := B.keep (Nat.le_refl _) (h' := h1) (fun z hz _ => k1 z (by omega))
  have T1 := s3.keep (h' := h1) (k1 b (by omega)) (fun z hz hz2 => k1 z hz2)
  have q1 := (k1 b (by omega)).trans q
  obtain ⟨-, -, -, -, -, r5', -, -, -, -, r10'⟩ := rd0 q1
  rw [show bI true = 1 from rfl, c_needs1, Option.bind_some]
  dsimp only [sumc]
  rw [aC00, r10, gdT, Nat.add_zero, e1, Option.bind_some, if_neg (show ¬ (1 : Int32) = 0 by decide), m_isTaken hm hm2 hn hn2, ewd, Option.bind_some]
  dsimp only
  cases htk : isTk rn m n (tWd si ta t)
  · obtain ⟨h', c, d, T', f1, f2, f3, f4, f5, f6⟩ := s_go (nx := nx + 1) C B1 T1.tc s4 s5 (by omega)
    rw [ewd] at f2
    refine Or.inr ⟨wd', s, tWd si ta t, h', 1 + c, 4 + d, T', ?_, ?_, N.kept ((f4 _ (by omega) (by omega)).trans (k1 _ w2)) ((f4 _ (by omega) (by omega)).trans (k1 _ w4)), htk, by omega, w2, by omega, w4, ?_, (tk_ok C.2.1 s5).2.2.2.1 (by rw [hk]; decide), fun z hz hz2 => (f4 z (by omega) hz2).trans (k1 z hz), by omega, by omega⟩
    · rw [if_pos (show bI false = 0 from rfl)]
      unfold f_X4_fresh_22
      rw [r10', gdT, c_needs1, Option.bind_some]
      dsimp only [sumc]
      rw [aC00, r5', Option.bind_some, r10', gdT, Nat.add_zero, f1, Option.bind_some]
      dsimp only
      rw [aC_some, aC_some]; rfl
    · rw [if_pos (show bI false = 0 from rfl), gdn ⟨ha, by decide⟩, f2, Option.bind_some, nI_clamp (by omega)]
    · rw [show nx + (1 + c) = nx + 1 + c by omega]; exact f3
  · refine Or.inl ⟨bdF (tKd si ta t) (nI 4), tFr si ta t, ?_, ?_⟩
    · rw [if_neg (show ¬ bI true = 0 by decide)]
      unfold f_X4_fresh_22
      rw [r10', gdT]
      exact (((c_needs0 (nx := nx + 1) B1 T1.tc (by omega) (Or.inr (by rw [hk]; decide))).bind _).aC 1 4).le (by omega) (by omega)
    · rw [if_neg (show ¬ bI true = 0 by decide), m_bad, Option.bind_some, s4.2.2.1, s4.1]
      exact ⟨_, _, _, _, _, _, rfl⟩
end PRC
