/-! print: says, isGone, setLength -/
section PST
variable {A : Nat → Nat} {I : Nat → Int32} {st : Int32} {M : Nat → Prop} {h h' h1 : AH} {E : bE} {nx n0 a v N k n s b i p u eB x mh mp m K r : Nat} {mb : Int32} {T L T' : List Int32} {f : Option (Nat × AH × Nat × Nat)} {g fr : Nat → Int32} {w : Rw} {zs vv : Nat → Nat} {nm : Nat → Int64} {wd : Int64}
theorem SBT.o (S : SBT h a v N mb T) : isO h a 12 = true := sbo S.1
theorem OSt.sx (O : OSt A h1 n0 eB mb T v N h nx) (h13 : A 13 < n0) (B : SBo h (A 13) v N mb nx f T') : ∃ h' v' N' c d, f = some (A 13, h', c, d) ∧ OSt A h1 n0 eB mb T' v' N' h' (nx + c) ∧ (v' = v ∨ nx ≤ v') ∧ N ≤ N' ∧ c ≤ N' - N ∧ d ≤ 2 * (N' - N) ∧ ∀ q, q < nx → q ≠ A 13 → q ≠ v → h' q = h q := by
  obtain ⟨o1, o2, o3, o4, o5, o6⟩ := O
  obtain ⟨h', v', N', c, d, e, S, b1, b2, b3, b4, b5, b6, b7⟩ := B
  refine ⟨h', v', N', c, d, e, ⟨S, ?_, b2, by omega, ?_, fun q hq z1 z2 => (b6 q (by omega) z1 ?_).trans (o6 q hq z1 z2)⟩, b1, b3, b4, b5, b6⟩
  · rcases b1 with z | z
    · rw [z]; exact o2
    · exact Or.inr (by omega)
  · rcases b1 with z | z
    · rw [z]; exact o5
    · omega
  · rcases o2 with z | z
    · rw [z]; exact z2
    · omega
theorem y_says (P : PB A I M w h1 n0 eB zs mh mp nm) (O : OSt A h1 n0 eB mb T v N h nx) (SL : StrL h s b L) (hs : s < nx ∧ s ≠ A 13 ∧ s ≠ v) (hb : b < nx ∧ b ≠ A 13 ∧ b ≠ v) (qr : h r = some (.inl (0, K, .inl fr))) (hr : r < nx ∧ r ≠ A 13 ∧ r ≠ v) (hv : ∀ i, i < K → fr i = nI (vv i) ∧ vv i < 1000) (hK : K ≤ 10) (hT : T.length + L.length + 4 * K ≤ 1291) : ∃ h' v' N' c d, f_X1_says (dE zs m) h nx (A 0) s r = some ((), h', c, d) ∧ OSt A h1 n0 eB mb (T ++ L ++ apN (fun i => nl (vv i)) K) v' N' h' (nx + c) ∧ N ≤ N' ∧ c ≤ N' - N ∧ d ≤ 2 * (N' - N) ∧ (∀ q, q < nx → q ≠ A 13 → q ≠ v → h' q = h q) ∧ (v' = v ∨ nx ≤ v') := by
  have h13 := P.2.2.2.2.1.2.1
  have loop : ∀ (k i j : Nat) (T : List Int32) (v N : Nat) (h : AH) (nx : Nat), i + k = K → OSt A h1 n0 eB mb T v N h nx → h r = some (.inl (0, K, .inl fr)) → (r < nx ∧ r ≠ A 13 ∧ r ≠ v) → T.length + 4 * k ≤ 1291 → ∃ h' v' N' c d, f_X1_says_18 (j + k + 1) (dE zs m) (A 0) r (nI K) (nI i) h nx = some ((), h', c, d) ∧ OSt A h1 n0 eB mb (T ++ apN (fun q => nl (vv (i + q))) k) v' N' h' (nx + c) ∧ N ≤ N' ∧ c ≤ N' - N ∧ d ≤ 2 * (N' - N) ∧ (∀ q, q < nx → q ≠ A 13 → q ≠ v → h' q = h q) ∧ (v' = v ∨ nx ≤ v') := by
    intro k
    induction k with
    | zero =>
      intro i j T v N h nx hi O qr hr hT
      rw [f_X1_says_18, show i = K by omega, if_pos (nI_leR _)]
      refine ⟨h, v, N, 0, 0, rfl, ?_, Nat.le_refl _, by omega, by omega, fun _ _ _ _ => rfl, Or.inl rfl⟩
      show OSt A h1 n0 eB mb (T ++ []) v N h nx
      rw [List.append_nil]; exact O
    | succ k ih =>
      intro i j T v N h nx hi O qr hr hT
      obtain ⟨hv1, hv2⟩ := hv i (by omega)
      have g12 := (P.sn O).g12
      have on := O.2.2.2.1
      obtain ⟨h2, v2, N2, c2, d2, e2, O2, b1, b2, b3, b4, b5⟩ := O.sx h13 (sb_ac (E := dE zs m) (nx := nx) (c := 32) O.1 (by decide) (by omega) (by omega) O.2.2.1 O.2.2.2.2.1)
      have on2 := O2.2.2.2.1
      have ne5 := P.ne O2 P.2.2.2.1.2.1
      have ne6 := P.ne O2 P.2.2.2.1.2.2
      have D2 := P.dg O2
      obtain ⟨h3, v3, N3, c3, d3, e3, O3, c1, c2', c3', c4, c5⟩ := O2.sx h13 (sb_ai (E := dE zs m) (nx := nx + c2) (u := vv i) O2.1 hv2 (by rw [dE_1]; exact D2) (by rw [dE_1]; exact ne5) (by rw [dE_1]; exact ne6) (by rw [List.length_append]; show T.length + 1 + 3 ≤ 1295; omega) (by omega) O2.2.2.1 O2.2.2.2.2.1)
      have rv2 : r ≠ v2 := by
        rcases b1 with z | z
        · rw [z]; exact hr.2.2
        · omega
      have rv3 : r ≠ v3 := by
        rcases c1 with z | z
        · rw [z]; exact rv2
        · omega
      have qr3 : h3 r = some (.inl (0, K, .inl fr)) := by rw [c5 r (by omega) hr.2.1 rv2, b5 r hr.1 hr.2.1 hr.2.2]; exact qr
      have el : (T ++ [nI 32] ++ dg (vv i)).length ≤ T.length + 4 := by
        have := (dg_len (v := vv i)).1
        rw [List.length_append, List.length_append]; show T.length + 1 + _ ≤ _; omega
      obtain ⟨h', v', N', c, d, e4, O4, a1, a2, a3, a4, a5⟩ := ih (i + 1) j _ v3 N3 h3 (nx + c2 + c3) (by omega) O3 qr3 ⟨by omega, hr.2.1, rv3⟩ (by omega)
      refine ⟨h', v', N', c2 + (c3 + c), d2 + (d3 + d), ?_, ?_, by omega, by omega, by omega, fun q z1 z2 z3 => ?_, ?_⟩
      · rw [show j + (k + 1) + 1 = j + k + 1 + 1 by omega, f_X1_says_18, if_neg (nI_ge (by omega) (by omega)), aI_at qr (by omega) (by omega), Option.bind_some, g12, Option.bind_some, O.1.o, gdT, e2, Option.bind_some]
        dsimp only
        rw [O2.1.o, gdT, hv1, e3, Option.bind_some]
        dsimp only
        rw [nI_1, e4, aC_some, aC_some]
      · rw [show nx + (c2 + (c3 + c)) = nx + c2 + c3 + c by omega, apN_at (B := fun q => nl (vv q))]
        have : T ++ [nI 32] ++ dg (vv i) ++ apN (fun q => nl (vv (i + 1 + q))) k = T ++ (nl (vv i) ++ apN (fun q => nl (vv (i + 1 + q))) k) := by unfold nl; simp
        rw [← this]; exact O4
      · rw [a4 q (by omega) z2 ?_, c5 q (by omega) z2 ?_, b5 q z1 z2 z3]
        · rcases b1 with z | z
          · rw [z]; exact z3
          · omega
        · rcases c1 with z | z
          · rw [z]
            rcases b1 with y | y
            · rw [y]; exact z3
            · omega
          · omega
      · rcases a5 with z | z
        · rcases c1 with y | y
          · rcases b1 with t | t
            · exact Or.inl (by rw [z, y, t])
            · exact Or.inr (by omega)
          · exact Or.inr (by omega)
        · exact Or.inr (by omega)
  have g12 := (P.sn O).g12
  obtain ⟨h2, v2, N2, c2, d2, e2, O2, b1, b2, b3, b4, b5⟩ := O.sx h13 (sb_as (E := dE zs m) (nx := nx) O.1 SL (by omega) (by have := O.2.2.2.1; omega) O.2.2.1 O.2.2.2.2.1 hs hb)
  have rv2 : r ≠ v2 := by
    rcases b1 with z | z
    · rw [z]; exact hr.2.2
    · omega
  have qr2 : h2 r = some (.inl (0, K, .inl fr)) := (b5 r hr.1 hr.2.1 hr.2.2).trans qr
  obtain ⟨h', v', N', c, d, e4, O4, a1, a2, a3, a4, a5⟩ := loop K 0 (FU - K - 1) _ v2 N2 h2 (nx + c2) (by omega) O2 qr2 ⟨by omega, hr.2.1, rv2⟩ (by rw [List.length_append]; omega)
  rw [show FU - K - 1 + K + 1 = FU by unfold FU; omega] at e4
  have e4 : f_X1_says_18 FU (dE zs m) (A 0) r (nI K) 0 h2 (nx + c2) = _ := e4
  have ez : (fun q => nl (vv (0 + q))) = fun i => nl (vv i) := funext fun q => by rw [Nat.zero_add]
  rw [ez] at O4
  have hl : aL h2 r = some (nI K) := by simp [aL, qr2]; rfl
  refine ⟨h', v', N', c2 + c, d2 + d, ?_, ?_, by omega, by omega, by omega, fun q z1 z2 z3 => ?_, ?_⟩
  · unfold f_X1_says
    rw [g12, Option.bind_some, O.1.o, gdT, e2, Option.bind_some]
    dsimp only
    rw [hl, Option.bind_some, e4, aC_some]
  · rw [show nx + (c2 + c) = nx + c2 + c by omega]; exact O4
  · rw [a4 q (by omega) z2 ?_, b5 q z1 z2 z3]
    rcases b1 with z | z
    · rw [z]; exact z3
    · omega
  · rcases a5 with z | z
    · rcases b1 with t | t
      · exact Or.inl (by rw [z, t])
      · exact Or.inr (by omega)
    · exact Or.inr (by omega)
theorem c_isGone (S : SN A I M w st h nx) (G : Gd w) (hx : x < nH w) : f_X1_isGone E h (A 0) (nI x) = some (bI (!told w x)) := by
  obtain ⟨Z, C, -⟩ := G
  have S0 := S
  have e1 := Z.gH.2
  have e2 := Z.gP.2
  have q7 := (show ∃ F wk rf sc la oa, RegH h (A 0) (A 1) (A 2) (A 3) F wk rf sc (nL w) la (nO w) oa (A 4) (A 5) ∧ RelF F wk rf w ∧ f_X2_whoIn E h (A 1) (nI x) = some (hF w x 2) by
    obtain ⟨⟨aH, eH, aP, eP, rN, rA, hm, hs_, nh, np, tl, O, Tt, TI, ho, hM⟩, F, wk, rf, sc_, la, oa, R, Q, Ll, Kk, s0_, il, io, hOwn, hno⟩ := id S.1
    exact ⟨F, wk, rf, sc_, la, oa, R, Q, c_whoIn R Q O Tt Z C hx⟩)
  obtain ⟨F, wk, rf, sc, la, oa, R, Q, ew⟩ := q7
  unfold f_X1_isGone told
  rw [S0.g2, Option.bind_some, R.g12, Option.bind_some, R.a12 (by omega), Option.bind_some, (Q.2.2.2.1 x hx).2.1]
  by_cases h6 : hF w x 6 = 0
  · rw [if_pos h6, Option.bind_some, R.o1, gdT, ew, Option.bind_some, decide_eq_true h6, Bool.true_and]
    rcases C.1 x hx with h2 | ⟨p, z1, z2, z3⟩
    · rw [h2, if_pos (by decide), decide_eq_true rfl]; rfl
    · have ep : hN_ w x 2 = p := by unfold hN_; rw [z2, nI_clamp (by omega)]
      rw [z2, if_neg (nI_pos (by omega)), Option.bind_some, R.g13, Option.bind_some, Option.bind_some, R.o1, gdT, ew, z2, Option.bind_some, R.a13 (by omega), Option.bind_some, (Q.2.1 p z1).2.2.2.2.2.2.2.1, ep, decide_eq_false (nI_m1 (by omega)), Bool.false_or]
      unfold isIn_
      by_cases h8 : pF w p 8 = 0
      · rw [if_pos h8, decide_eq_true h8]; rfl
      · rw [if_neg h8, decide_eq_false h8]; rfl
  · rw [if_neg h6, decide_eq_false h6]; rfl
theorem sb_set0 (S : SBT h a v N mb T) (ha : a < nx) : ∃ h' mb', f_J8_setLength E h nx a 0 = some ((), h', 0, 0) ∧ SBT h' a v N mb' [] ∧ ∀ q, q ≠ a → h' q = h q := by
  obtain ⟨q, ⟨f, q2, hf⟩, b1, b2⟩ := S
  have q : h a = some (.inr (.inl (12, [.ref v, .int 0, .int mb, .int (nI T.length)]))) := q
  have hne : v ≠ a := fun e => by rw [e, q] at q2; cases q2
  have ens : f_J7_ensureCapacityInternal E h nx a 0 = some ((), h, 0, 0) := sb_room (k := 0) q q2 (Nat.zero_le _) (by omega)
  have fin : ∀ (h2 : AH) (mb' : Int32), h2 a = some (.inr (.inl (12, [.ref v, .int 0, .int mb', .int (nI T.length)]))) → (∀ q, q ≠ a → h2 q = h q) → ∃ h' mb', f_J7_setLength_76 E a 0 h2 nx = some ((), h', 0, 0) ∧ SBT h' a v N mb' [] ∧ ∀ q, q ≠ a → h' q = h q := fun h2 mb' z1 z2 => by
    unfold f_J7_setLength_76
    rw [wr_at z1 (by show 3 < 4; decide), Option.bind_some]
    exact ⟨_, mb', rfl, ⟨hu_s, ⟨f, ((hu_n hne).trans (z2 _ hne)).trans q2, fun i hi => absurd hi (by simp)⟩, Nat.zero_le _, b2⟩, fun y hy => (hu_n hy).trans (z2 y hy)⟩
  have w1 : wr h a 12 2 (.int 1) = some (hu h a (.inr (.inl (12, [.ref v, .int 0, .int 1, .int (nI T.length)])))) := by
    rw [wr_at q (by show 2 < 4; decide)]; rfl
  unfold f_J8_setLength f_J7_setLength
  rw [sbo q, gdT, if_pos (by decide), gdT, ens, Option.bind_some]
  dsimp only
  rw [sb3 q, Option.bind_some, if_pos (nI_pos' (by omega)), Option.bind_some, Nat.add_zero]
  by_cases h0 : nI T.length ≤ 0
  · rw [if_pos h0]
    obtain ⟨h', mb', e, z1, z2⟩ := fin h mb q (fun _ _ => rfl)
    rw [e, aC00, Option.bind_some]
    exact ⟨h', mb', by simp [aC], z1, z2⟩
  · rw [if_neg h0, w1, Option.bind_some]
    obtain ⟨h', mb', e, z1, z2⟩ := fin _ 1 hu_s (fun z hz => hu_n hz)
    rw [e, aC00, Option.bind_some]
    exact ⟨h', mb', by simp [aC], z1, z2⟩
end PST
