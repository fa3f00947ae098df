/-! lot: both sides -/
def lwN (w : Rw) (x p : Nat) : Nat := if cHv w p x = true then max 1 (wtd w p / 7) else 0
def lotS (w : Rw) (x : Nat) : Nat := smN (lwN w x) (nP w)
def lotL (w : Rw) (x s : Nat) : Nat := (75 * s + 74) % 65537 % lotS w x
def an_lot (w : Rw) (a b : Int32) : Int32 × Int32 := if ir b 0 (nI 65536) = false then (-1, 1) else if isHm w a = false then (-1, nI 2) else tO (fdN (fun p => decide (lotL w a.toNatClampNeg b.toNatClampNeg < smN (lwN w a.toNatClampNeg) (p + 1))) 0 (nP w))
section PLO
variable {w : Rw} {th st ac a b : Int32} {p x i s : Nat}
theorem mx1 {n : Nat} (hn : n < 2 ^ 31) : mx32 1 (nI n) = nI (max 1 n) := by
  unfold mx32
  by_cases h : 1 < n
  · rw [if_pos (show (1 : Int32) < nI n from nI_lt (a := 1) h hn), Nat.max_eq_right (by omega)]
  · rw [if_neg (show ¬ (1 : Int32) < nI n from nI_nlt (b := n) (a := 1) (by omega) (by decide)), Nat.max_eq_left (by omega)]; rfl
theorem smN_ge {f : Nat → Nat} {i : Nat} : ∀ k, i ≤ k → smN f i ≤ smN f k
  | 0, h => by rw [show i = 0 by omega]; exact Nat.le_refl _
  | k + 1, h => by
    by_cases hk : i = k + 1
    · rw [hk]; exact Nat.le_refl _
    · rw [smN_1]; have := smN_ge (f := f) (i := i) k (by omega); omega
theorem wtd7 (Z : Rng w) (hp : p < 8) : wtI w p / nI 7 = nI (wtd w p / 7) ∧ wtd w p / 7 ≤ 1200 := by
  obtain ⟨e1, e2⟩ := wtI_n Z hp
  rw [e1, pk_div (by omega) (by decide) (by decide)]
  exact ⟨rfl, by omega⟩
theorem lwN_le (Z : Rng w) (hp : p < 8) : lwN w x p ≤ 1200 := by
  have := (wtd7 Z hp).2
  unfold lwN
  split <;> omega
theorem lotS_le (Z : Rng w) {k : Nat} (hk : k ≤ nP w) : smN (lwN w x) k ≤ 9600 := by
  have b1 := Z.gP.2
  have := smN_le (f := lwN w x) (m := 1200) k (fun j hj => lwN_le Z (by omega))
  omega
theorem m_weeksWaited (Z : Rng w) (hp : p < 8) : f_X3_weeksWaited w (nI p) = some (nI (max 1 (wtd w p / 7))) := by
  simp only [f_X3_weeksWaited]
  rw [m_of (k := 3) (by omega), Option.bind_some, show nz32 (nI 7) = true by decide, gdT, show ((nI 1000) + ((nI 7) * (w 232))) - pF w p 3 = wtI w p from rfl, (wtd7 Z hp).1, m_max, mx1 (by have := (wtd7 Z hp).2; omega), Option.bind_some]
/-- who gets it: the first at whom the sum passes the lot's number -/
theorem lot_fd {f : Nat → Nat} {L N : Nat} (h : L < smN f N) : ∃ p, fdN (fun p => decide (L < smN f (p + 1))) 0 N = some p ∧ p < N ∧ L < smN f (p + 1) ∧ smN f p ≤ L := by
  cases N with
  | zero => exact absurd h (Nat.not_lt_zero _)
  | succ N =>
    have hs : (fdN (fun p => decide (L < smN f (p + 1))) 0 (N + 1)).isSome = true := fdN_any.mpr ⟨N, by omega, by omega, decide_eq_true h⟩
    cases hf : fdN (fun p => decide (L < smN f (p + 1))) 0 (N + 1) with
    | none => rw [hf] at hs; cases hs
    | some p =>
      obtain ⟨g1, g2, g3, g4⟩ := fdN_some hf
      refine ⟨p, rfl, by omega, of_decide_eq_true g3, ?_⟩
      cases p with
      | zero => exact Nat.zero_le _
      | succ p => have := of_decide_eq_false (g4 p (by omega) (by omega)); omega
theorem m_lot117 (Z : Rng w) (hx : x < 10) {L : Nat} (hL : L < smN (lwN w x) (nP w)) : f_X3_lot_117 FU w (nI (stN (fun p => cHv w p x) (nP w))) (nI L) (-1) th st = rA (tO (fdN (fun p => decide (L < smN (lwN w x) (p + 1))) 0 (nP w))) := by
  have b1 := Z.gP.2
  have b2 := p2_le (N := nP w) (by omega)
  have hT := stN_lt (B := fun p => cHv w p x) (nP w)
  have hS := lotS_le (x := x) Z (Nat.le_refl _)
  obtain ⟨p, e1, e2, e3, e4⟩ := lot_fd hL
  rw [e1]
  have key := lp_sq (fun n i (s : Int32 × Int32) => f_X3_lot_117 n w (nI (stN (fun p => cHv w p x) (nP w))) s.1 s.2 th st) (fun i => (nI L - nI (smN (lwN w x) i), nI i - 1)) (rA (nI p, 0)) (p + 1) ?_ ?_ FU 0 (Nat.zero_le _) (FU_lt (by omega))
  · refine Eq.trans ?_ key
    show _ = f_X3_lot_117 FU w _ (nI L - 0) (-1) th st
    rw [Int32.sub_zero]
  · intro n
    simp only [f_X3_lot_117]
    have := lotS_le (x := x) Z (k := p + 1) (by omega)
    rw [if_pos (pk_sneg (by omega) e3), nI_pred]
    rfl
  · intro n i hi
    have hge := smN_ge (f := lwN w x) (i := i) p (by omega)
    simp only [f_X3_lot_117]
    rw [pk_sub (by omega), if_neg (nI_pos (by omega)), show nI i - 1 + 1 = nI i by grind, btV _ (by omega) i (by omega), stN_tb, decide_eq_true (show i < nP w by omega), Bool.true_and, nI_pred]
    have hsm : smN (lwN w x) (i + 1) = smN (lwN w x) i + lwN w x i := smN_1
    by_cases hc : cHv w i x = true
    · rw [if_pos (show bI (cHv w i x) = 1 by rw [hc]; rfl), m_weeksWaited Z (by omega), Option.bind_some, hsm, show lwN w x i = max 1 (wtd w i / 7) by unfold lwN; rw [if_pos hc], ← nI_add, ← pk_sub (by omega)]
      rw [show ∀ u v z : Int32, u - v - z = u - (v + z) by intros; grind]
    · rw [if_neg (show ¬ bI (cHv w i x) = 1 by rw [bI_1]; exact hc), hsm, show lwN w x i = 0 by unfold lwN; rw [if_neg hc], Nat.add_zero, Int32.sub_zero, ← pk_sub (by omega)]
theorem m_lot (Z : Rng w) : f_X3_lot w th st a b = rA (an_lot w a b) := by
  simp only [f_X3_lot, m_from, m_isHome, f_X3_refuse, Option.bind_some, an_lot, bI_0]
  rw [show ir b 0 (65536 : Int32) = ir b 0 (nI 65536) from rfl]
  by_cases hv : ir b 0 (nI 65536) = false
  · rw [if_pos hv, if_pos hv]; rfl
  rw [if_neg hv, if_neg hv]
  by_cases hh : isHm w a = false
  · rw [if_pos hh, if_pos hh]; rfl
  rw [if_neg hh, if_neg hh]
  obtain ⟨x, hx, rfl⟩ := (hm_t Z).mp (Bool.not_eq_false _ ▸ hh)
  obtain ⟨s, hs, rfl⟩ := (rg_c (by decide)).mp (Bool.not_eq_false _ ▸ hv)
  obtain ⟨e1, b1⟩ := Z.gP
  have b2 := p2_le (N := nP w) (by omega)
  have b3 := Z.gH.2
  have hT := stN_lt (B := fun p => cHv w p x) (nP w)
  have hS := lotS_le (x := x) Z (Nat.le_refl _)
  rw [m_allThatCould Z (by omega), Option.bind_some, nI_clamp (by omega), nI_clamp (by omega)]
  have key := lp_up (fun n i s0 => f_X3_lot_43 n w (nI s) (nI (stN (fun p => cHv w p x) (nP w))) (nI s0) (nI i) th st) (fun s0 => f_X3_lot_43 1 w (nI s) (nI (stN (fun p => cHv w p x) (nP w))) (nI s0) (nI (nP w)) th st) (fun i s0 => s0 + lwN w x i) (nP w) ?_ ?_ FU 0 0 (Nat.zero_le _) (FU_lt (by omega))
  · refine key.trans ?_
    have e0 : flN (fun i s0 => s0 + lwN w x i) 0 (nP w - 0) 0 = lotS w x := rfl
    rw [e0]
    simp only [f_X3_lot_43]
    rw [e1, if_pos (nI_leR _)]
    by_cases h0 : lotS w x = 0
    · rw [h0, if_pos (show nI 0 = 0 from rfl)]
      have : fdN (fun p => decide (lotL w x s < smN (lwN w x) (p + 1))) 0 (nP w) = none := fdN_none.mpr (fun q _ hq => decide_eq_false (by
        have := smN_ge (f := lwN w x) (i := q + 1) (nP w) (by omega)
        unfold lotS at h0
        omega))
      rw [this]
      rfl
    · have hS' : lotS w x ≤ 9600 := hS
      rw [if_neg (nI_ne0 (by omega) (by omega)), show nz32 (65537 : Int32) = true by decide, gdT, show nz32 (nI (lotS w x)) = true from decide_eq_true (nI_ne0 (by omega) (by omega)), gdT]
      unfold bd
      rw [show (65537 : Int32) = nI 65537 from rfl, pk_mul, nI_add, pk_rem (by omega) (by decide) (by decide), pk_rem (by omega) (by omega) (by omega)]
      exact m_lot117 Z (by omega) (Nat.mod_lt _ (by omega))
  · intro n s0
    simp only [f_X3_lot_43]
    rw [e1, if_pos (nI_leR _), if_pos (nI_leR _)]
  · intro n i s0 hi
    simp only [f_X3_lot_43]
    rw [e1, if_neg (nI_ge hi (by omega)), btV _ (by omega) i (by omega), stN_tb, decide_eq_true hi, Bool.true_and, nI_1]
    unfold lwN
    by_cases hc : cHv w i x = true
    · rw [if_pos (show bI (cHv w i x) = 1 by rw [hc]; rfl), if_pos hc, m_weeksWaited Z (by omega), Option.bind_some, nI_add]
    · rw [if_neg (show ¬ bI (cHv w i x) = 1 by rw [bI_1]; exact hc), if_neg hc, iadd0]; rfl
theorem lrem {a d : Nat} (ha : a < 2 ^ 31) (h0 : 0 < d) (hd : d < 2 ^ 31) : lN a - lN a / lN d * lN d = lN (a % d) := by
  have e : lN a / lN d = lN (a / d) := by
    apply Int64.toInt_inj.mp
    rw [lg_ldiv_nonneg (by rw [lN_toInt ha]; omega) (by rw [lN_toInt hd]; omega), lN_toInt ha, lN_toInt hd, lN_toInt (Nat.lt_of_le_of_lt (Nat.div_le_self a d) ha)]
    first | rfl | exact (Int.natCast_ediv _ _).symm
  rw [e, lN_mul, lN_sub (Nat.div_mul_le_self a d)]
  exact congrArg lN (by have := Nat.div_add_mod' a d; omega)
theorem lot64 {s t : Nat} (hs : s ≤ 65536) (h0 : 0 < t) (ht : t ≤ 9600) : (((((75 * (nI s).toInt64) + 74) - ((75 * (nI s).toInt64) + 74) / 65537 * 65537) - (((75 * (nI s).toInt64) + 74) - ((75 * (nI s).toInt64) + 74) / 65537 * 65537) / (nI t).toInt64 * (nI t).toInt64) : Int64).toInt32 = nI ((75 * s + 74) % 65537 % t) := by
  rw [nI_l (by omega), nI_l (by omega), show (75 : Int64) = lN 75 from rfl, show (74 : Int64) = lN 74 from rfl, show (65537 : Int64) = lN 65537 from rfl, lN_mul, lN_add, lrem (by omega) (by decide) (by decide), lrem (by omega) h0 (by omega), lN_i]
end PLO
section PLC
variable {A : Nat → Nat} {I : Nat → Int32} {M : Nat → Prop} {w : Rw} {st : Int32} {h h1 h2 h' : AH} {nx nx' n0 n1 n2 : Nat} {E : bE} {v a b u : Int32} {p x y N k q less : Nat} {f : Option (Int32 × AH × Nat × Nat)} {zs : Nat → Nat} {n : Nat}
theorem c_lotsOf (S : SN A I M w st h nx) (G : Gd w) (hp : p < nP w) (hx : x < nH w) : f_X1_lotsOf E h (A 0) (nI p) (nI x) = some (nI (lwN w x p)) := by
  have b1 := G.1.gP.2
  obtain ⟨⟨aH, eH, aP, eP, rN, rA, hm, hs, nh, np, tl, O, T, TI, ho, hM⟩, F, wk, rf, sc, la, oa, R, Q, L, K, s0, il, io, hOwn, hno⟩ := id S.1
  simp only [f_X1_lotsOf]
  rw [S.g2, Option.bind_some, R.o1, gdT, c_couldHave R Q O T G.1 hp hx, Option.bind_some]
  unfold lwN
  cases hc : cHv w p x
  · rw [if_pos (show bI false = 0 from rfl), if_neg (by nofun)]; rfl
  · rw [if_neg (show ¬ bI true = 0 by decide), if_pos rfl, Option.bind_some, R.o1, gdT, c_waited R Q O T hp, Option.bind_some, show nz32 (nI 7) = true by decide, gdT, (wtd7 G.1 (by omega)).1, m_max, mx1 (by have := (wtd7 G.1 (p := p) (by omega)).2; omega), Option.bind_some]
theorem z_33 (S : SN A I M w st h nx) (G : Gd w) {q : Nat} (hq : h q = some (.inr (.inr (33, [.ref (A 0), .int (nI x)])))) (hp : p < nP w) (hx : x < nH w) : (dE zs (n + 1)).2.2.2 h nx q (nI p) = some (nI (lwN w x p), h, 0, 0) := by
  rw [E_of hq]
  show lL33 (dE zs n) h nx [.ref (A 0), .int (nI x)] (nI p) = _
  simp only [lL33, S.i0, gdT, f_X1_lambda_lot_21, c_lotsOf S G hp hx, Option.bind_some]
theorem y_lot30 (S : SN A I M w st h nx) (G : Gd w) (hx : x < nH w) {s : Nat} (hs65 : s ≤ 65536) : An A I M w h nx (f_X1_lot_30 (dE zs (n + 1)) (A 0) (nI x) (nI s) (A 0) 0 h nx) (tO (fdN (fun p => decide (lotL w x s < smN (lwN w x) (p + 1))) 0 (nP w))) := by
  have Z := G.1
  have b1 := Z.gP.2
  have hS : lotS w x ≤ 9600 := lotS_le (x := x) Z (Nat.le_refl _)
  unfold f_X1_lot_30
  refine An.can0 S (fun h1 S1 q1' => ?_)
  simp only [Nat.add_zero]
  obtain ⟨⟨aH, eH, aP, eP, rN, rA, hm, hs, nh, np, tl, O, T, TI, ho, hM⟩, F, wk, rf, sc, la, oa, R, Q, L, K, s0, il, io, hOwn, hno⟩ := id S1.1
  obtain ⟨h2, e, S2, L2⟩ := y_sum (E := dE zs (n + 1)) (e := .inr (.inr (33, [.ref (A 0), .int (nI x)]))) (g := fun p => nI (lwN w x p)) (N := nP w) S1 (by omega) (fun h' nx' j hj S' hq => ⟨h', z_33 S' G hq hj hx, S'.1, fun _ _ => rfl⟩)
  rw [O.g1, Option.bind_some, T.2.1.o, gdT, T.2.1.size, Option.bind_some, e, sm32_n, Option.bind_some]
  dsimp only
  rw [show smN (fun p => lwN w x p) (nP w) = lotS w x from rfl, aC00, Nat.add_zero]
  by_cases h0 : lotS w x = 0
  · rw [h0, if_pos (show nI 0 = 0 from rfl), S2.i0, gdT, aC_id]
    have hf : fdN (fun p => decide (lotL w x s < smN (lwN w x) (p + 1))) 0 (nP w) = none := fdN_none.mpr (fun q _ hq => decide_eq_false (by
      have := smN_ge (f := lwN w x) (i := q + 1) (nP w) (by omega)
      unfold lotS at h0
      omega))
    rw [hf]
    obtain ⟨h3, e3, S3, q3⟩ := S2.no (dE zs (n + 1)) (nI 5)
    rw [e3, aC_some]
    exact ⟨h3, 1, 2, rfl, S3, L2.qs.trans q3, by omega, by omega⟩
  · rw [if_neg (nI_ne0 (by omega) (by omega)), show nz64 (65537 : Int64) = true by decide, gdT, show nz64 (nI (lotS w x)).toInt64 = true from decide_eq_true (by
      rw [nI_l (by omega), show (0 : Int64) = lN 0 from rfl, lN_eq (by omega) (by decide)]; exact h0), gdT]
    unfold bd
    rw [lot64 hs65 (by omega) hS]
    have hL : lotL w x s < smN (lwN w x) (nP w) := Nat.mod_lt _ (by show 0 < lotS w x; omega)
    have hLd : (75 * s + 74) % 65537 % lotS w x = lotL w x s := rfl
    rw [hLd]
    obtain ⟨p, e1, e2, e3, e4⟩ := lot_fd hL
    rw [e1]
    have hlS : lotL w x s < 9600 := by have : lotL w x s < lotS w x := hL; omega
    have key := lp_sq (fun m i (s : Int32 × Int32) => f_X1_lot_89 m (dE zs (n + 1)) (A 0) (nI x) s.1 s.2 h2 (nx + 1)) (fun i => (nI (lotL w x s) - nI (smN (lwN w x) i), nI i)) (some (nI p, h2, 0, 0)) p ?_ ?_ FU 0 (Nat.zero_le _) (FU_lt (by omega))
    · have k' : f_X1_lot_89 FU (dE zs (n + 1)) (A 0) (nI x) (nI (lotL w x s)) 0 h2 (nx + 1) = some (nI p, h2, 0, 0) := by
        refine Eq.trans ?_ key
        show _ = f_X1_lot_89 FU (dE zs (n + 1)) (A 0) (nI x) (nI (lotL w x s) - 0) (nI 0) h2 (nx + 1)
        rw [Int32.sub_zero]
        rfl
      show An A I M w h1 nx (aC 1 2 (f_X1_lot_89 FU (dE zs (n + 1)) (A 0) (nI x) (nI (lotL w x s)) 0 h2 (nx + 1))) (tO (some p))
      rw [k', aC_some]
      exact ⟨h2, 1, 2, rfl, S2, L2.qs, by omega, by omega⟩
    · intro m
      simp only [f_X1_lot_89]
      have hsm : smN (lwN w x) (p + 1) = smN (lwN w x) p + lwN w x p := smN_1
      rw [S2.i0, gdT, c_lotsOf S2 G e2 hx, Option.bind_some, pk_sub e4, if_pos (nI_lt (by omega) (by have := lwN_le (x := x) Z (p := p) (by omega); omega))]
    · intro m i hi
      have hge := smN_ge (f := lwN w x) (i := i + 1) p (by omega)
      have hsm : smN (lwN w x) (i + 1) = smN (lwN w x) i + lwN w x i := smN_1
      simp only [f_X1_lot_89]
      rw [S2.i0, gdT, c_lotsOf S2 G (p := i) (by omega) hx, Option.bind_some, Option.bind_some, gdT, pk_sub (by omega), if_neg (nI_nlt (by omega) (by omega)), nI_1, hsm]
      have h5 : nI (lotL w x s - smN (lwN w x) i) - nI (lwN w x i) = nI (lotL w x s) - nI (smN (lwN w x) i + lwN w x i) := by
        rw [← nI_add, ← pk_sub (by omega)]
        grind
      rw [h5]
theorem y_lot (S : SN A I M w st h nx) (G : Gd w) : An A I M w h nx (f_X1_lot (dE zs (n + 1)) h nx (A 0) a b) (an_lot w a b) := by
  have Z := G.1
  rw [f_X1_lot, lg_r b 0 (nI 65536) (by decide) (by decide), Option.bind_some, c_isHome S Z, Option.bind_some]
  unfold an_lot
  cases hv : ir b 0 (nI 65536)
  · rw [if_pos (show bI false = 0 from rfl), if_pos (show false = false from rfl)]
    exact An.cn S (by decide)
  rw [if_neg (show ¬ bI true = 0 by decide), if_neg (show ¬ true = false by nofun), S.i0, gdT]
  cases hh : isHm w a
  · rw [if_pos (show bI false = 0 from rfl), if_pos (show false = false from rfl)]
    exact An.cn S (by decide)
  rw [if_neg (show ¬ bI true = 0 by decide), if_neg (show ¬ true = false by nofun)]
  obtain ⟨x, hx, rfl⟩ := (hm_t Z).mp hh
  obtain ⟨s, hs, rfl⟩ := (ir_c (by decide)).mp hv
  have b2 := Z.gH.2
  rw [nI_clamp (by omega), nI_clamp (by omega)]
  exact y_lot30 S G hx hs
end PLC
