/-! order, ahead, top: both sides -/
def an_order (w : Rw) (a b : Int32) : Int32 × Int32 := if b < 0 then (-1, 1) else if isHm w a = false then (-1, nI 2) else tO (ordN (wgt w a.toNatClampNeg) (nP w) b.toNatClampNeg (stN (fun p => iBd w p a.toNatClampNeg) (nP w)))
def ahN (w : Rw) (B : Nat → Bool) (x p : Nat) : Nat := cnN (fun q => B q && decide (wgt w x q < wgt w x p)) (nP w)
def an_ahead (w : Rw) (a b : Int32) : Int32 × Int32 := if (isHs w a && isHm w b) = false then (-1, nI 2) else if (mayH w a.toNatClampNeg && dFit w a.toNatClampNeg b.toNatClampNeg) = false then (-1, nI 5) else (nI (ahN w (fun q => mayH w q && dFit w q b.toNatClampNeg) b.toNatClampNeg a.toNatClampNeg), 0)
def an_top (w : Rw) (a : Int32) : Int32 × Int32 := if isHm w a = false then (-1, nI 2) else tO (am (fun p => cHv w p a.toNatClampNeg) (wgt w a.toNatClampNeg) (nP w))
section PRD4
variable {w : Rw} {th st ac a b : Int32} {p x i : Nat}
theorem rA_tO {o : Option Nat} (ho : ∀ z, o = some z → z < 2 ^ 31) : (if eO o = -1 then (some (-1, 0, nI 5) : Option (Int32 × Int32 × Int32)) else some (eO o, 0, 0)) = rA (tO o) := by
  cases o with
  | none => rfl
  | some z => rw [if_neg (show ¬ eO (some z) = -1 from nI_m1 (ho z rfl))]; rfl
theorem m_order47 (Z : Rng w) (hx : x < 10) {k : Nat} (hk : k < 100) : ∀ (c i m T : Nat), i + c = k → T < 2 ^ nP w → c < pc T → f_X3_order_47 (m + c + 1) w (nI x) (nI k) (nI T) (nI i) th st = rA (tO (ordN (wgt w x) (nP w) c T))
  | 0, i, m, T, hi, hT, hc => by
    have b1 := Z.gP.2
    have b2 := p2_le (N := nP w) (by omega)
    rw [f_X3_order_47, if_pos (nI_le (by omega) (by omega)), m_firstOf Z (by omega) hx, Option.bind_some]
    show rA (eO (pk (wgt w x) (nP w) T), 0) = rA (tO (pk (wgt w x) (nP w) T))
    cases hp : pk (wgt w x) (nP w) T with
    | none => rw [(pk_none (by omega) hT).mp hp, pc_0] at hc; omega
    | some p => rfl
  | c + 1, i, m, T, hi, hT, hc => by
    have b1 := Z.gP.2
    have b2 := p2_le (N := nP w) (by omega)
    rw [show m + (c + 1) + 1 = (m + c + 1) + 1 by omega, f_X3_order_47, if_neg (nI_ge (by omega) (by omega)), m_firstOf Z (by omega) hx, Option.bind_some]
    unfold ordN
    have hpk : am (fun p => T.testBit p) (wgt w x) (nP w) = pk (wgt w x) (nP w) T := rfl
    rw [hpk]
    cases hp : pk (wgt w x) (nP w) T with
    | none => rw [(pk_none (by omega) hT).mp hp, pc_0] at hc; omega
    | some p =>
      have h4 := pk_some (by omega) hT hp
      rw [show eO (some p) = nI p from rfl, cl_n T (by omega) p (by omega), nI_1, m_order47 Z hx hk c (i + 1) m (clr T p) (by omega) h4.2.2.1 (by omega)]
theorem m_order (Z : Rng w) : f_X3_order w th st a b = rA (an_order w a b) := by
  simp only [f_X3_order, m_isHome, f_X3_refuse, Option.bind_some, an_order, bI_0]
  by_cases hb : b < 0
  · rw [if_neg (Int32.not_le.mpr hb), if_pos hb]; rfl
  rw [if_pos (Int32.not_lt.mp hb), if_neg hb]
  by_cases hh : isHm w a = false
  · rw [if_pos hh, if_pos hh]; rfl
  rw [if_neg hh, if_neg hh]
  obtain ⟨x, hx, rfl⟩ := (hm_t Z).mp (Bool.not_eq_false _ ▸ hh)
  obtain ⟨k, hk, rfl⟩ := nI_of hb
  have b1 := Z.gP.2
  have b2 := p2_le (N := nP w) (by omega)
  have b3 := Z.gH.2
  have hT := stN_lt (B := fun p => iBd w p x) (nP w)
  rw [m_biddersOf Z, Option.bind_some, m_bits _ (by omega), Option.bind_some, nI_clamp (by omega), nI_clamp hk]
  have hp := pc_le (stN (fun p => iBd w p x) (nP w))
  by_cases hc : k < pc (stN (fun p => iBd w p x) (nP w))
  · rw [if_pos (nI_lt hc (by omega))]
    have := m_order47 (th := th) (st := st) Z (x := x) (by omega) (k := k) (by omega) k 0 (FU - k - 1) _ (by omega) hT hc
    rw [show FU - k - 1 + k + 1 = FU by unfold FU; omega] at this
    exact this
  · rw [if_neg (fun z => hc ((nI_ltI hk (by omega)).mp z)), (ordN_none (by omega) k _ hT).mpr (by omega)]
    rfl
theorem m_aheadOf (Z : Rng w) {T : Nat} (hT : T < 1024) (hp : p < nP w) (hx : x < 10) : f_X3_aheadOf w (nI p) (nI x) (nI T) = some (nI (ahN w (fun q => T.testBit q) x p)) := by
  obtain ⟨e1, e2⟩ := Z.gP
  refine (lp_up (fun n i s => f_X3_aheadOf_6 n w (nI p) (nI x) (nI T) (nI s) (nI i)) (fun s => some (nI s)) (fun q s => s + if (T.testBit q && decide (wgt w x q < wgt w x p)) = true then 1 else 0) (nP w) ?_ ?_ FU 0 0 (Nat.zero_le _) (FU_lt (by omega)))
  · intro n s
    simp only [f_X3_aheadOf_6]
    rw [e1, if_pos (nI_leR _)]
  · intro n i s hi
    simp only [f_X3_aheadOf_6]
    have l1 := wgt_lt (h := x) Z (p := i) (by omega)
    have l2 := wgt_lt (h := x) Z (p := p) (by omega)
    rw [e1, if_neg (nI_ge hi (by omega)), btV T hT i (by omega), m_weight Z (by omega) hx, m_weight Z (by omega) hx, Option.bind_some, Option.bind_some, nI_1, nI_1, iadd0]
    cases T.testBit i
    · rw [if_neg (by decide)]; simp
    · rw [if_pos (show bI true = 1 from rfl)]
      by_cases hw : wgt w x i < wgt w x p
      · rw [if_neg (nI_ge hw (by omega))]; simp [hw]
      · rw [if_pos (nI_le (by omega) (by omega))]; simp [hw]
theorem m_ahead (Z : Rng w) : f_X3_ahead w th st a b = rA (an_ahead w a b) := by
  simp only [f_X3_ahead, m_areOnes, f_X3_refuse, f_X3_ahead_32, Option.bind_some, an_ahead, bI_0]
  by_cases hv : (isHs w a && isHm w b) = false
  · rw [if_pos hv, if_pos hv]; rfl
  rw [if_neg hv, if_neg hv]
  have hv' := Bool.not_eq_false _ ▸ hv
  rw [Bool.and_eq_true] at hv'
  obtain ⟨p, hp, rfl⟩ := (hs_t Z).mp hv'.1
  obtain ⟨x, hx, rfl⟩ := (hm_t Z).mp hv'.2
  obtain ⟨e1, e2⟩ := Z.gP
  have b3 := Z.gH.2
  rw [m_mayHope (by omega), Option.bind_some, m_doesFit (by omega) (by omega), Option.bind_some, nI_clamp (by omega), nI_clamp (by omega)]
  simp only [bI_0]
  cases h1 : mayH w p
  · rw [if_pos rfl]; rfl
  cases h2 : dFit w p x
  · rw [if_neg (by nofun), if_pos rfl]; rfl
  rw [if_neg (by nofun), if_neg (by nofun), if_neg (by decide)]
  have key := lp_upI (fun n i s => f_X3_ahead_43 n w (nI p) (nI x) (nI s) (nI i) th st) (fun s => rA (nI (ahN w (fun q => s.testBit q) x p), 0)) (fun q s => if (mayH w q && dFit w q x) = true then s ||| 2 ^ q else s) (nP w) (fun i s => i ≤ 8 ∧ s < 1024) ?_ ?_ ?_ FU 0 0 (Nat.zero_le _) (FU_lt (by omega)) ⟨by omega, by omega⟩
  · refine key.1.trans ?_
    have hz : ahN w (fun q => (stN (fun q => mayH w q && dFit w q x) (nP w)).testBit q) x p = ahN w (fun q => mayH w q && dFit w q x) x p := cnN_c _ (fun j hj => by
      dsimp only
      rw [stN_tb, decide_eq_true hj, Bool.true_and])
    exact congrArg (fun z => rA (nI z, 0)) hz
  · intro n s hs
    simp only [f_X3_ahead_43]
    rw [e1, if_pos (nI_leR _), m_aheadOf Z hs.2 hp (by omega)]
    rfl
  · intro n i s hi hs
    simp only [f_X3_ahead_43]
    rw [e1, if_neg (nI_ge hi (by omega)), m_mayHope (by omega), Option.bind_some, m_doesFit (by omega) (by omega), Option.bind_some, or_0, or_n s hs.2 i (by omega), nI_1]
    cases mayH w i <;> cases dFit w i x <;> simp [bI]
  · intro i s hi hs
    refine ⟨by omega, ?_⟩
    show (if (mayH w i && dFit w i x) = true then s ||| 2 ^ i else s) < 1024
    split
    · exact or_lt (m := 10) hs.2 (by omega)
    · exact hs.2
theorem m_allThatCould (Z : Rng w) (hx : x < 10) : f_X3_allThatCould w (nI x) = some (nI (stN (fun p => cHv w p x) (nP w))) := by
  obtain ⟨e1, e2⟩ := Z.gP
  have key := lp_upI (fun n i s => f_X3_allThatCould_4 n w (nI x) (nI s) (nI i)) (fun s => some (nI s)) (fun p s => if cHv w p x = true then s ||| 2 ^ p else s) (nP w) (fun i s => i ≤ 8 ∧ s < 1024) ?_ ?_ ?_ FU 0 0 (Nat.zero_le _) (FU_lt (by omega)) ⟨by omega, by omega⟩
  · exact key.1
  · intro n s _
    simp only [f_X3_allThatCould_4]
    rw [e1, if_pos (nI_leR _)]
  · intro n i s hi hs
    simp only [f_X3_allThatCould_4]
    rw [e1, if_neg (nI_ge hi (by omega)), m_couldHave Z (by omega) (by omega), Option.bind_some, or_0, or_n s hs.2 i (by omega), nI_1]
    by_cases hb : cHv w i x = true <;> simp [hb, bI]
  · intro i s hi hs
    refine ⟨by omega, ?_⟩
    show (if cHv w i x = true then s ||| 2 ^ i else s) < 1024
    split
    · exact or_lt (m := 10) hs.2 (by omega)
    · exact hs.2
theorem am_c {B C : Nat → Bool} {key : Nat → Nat} (N : Nat) (h : ∀ j, j < N → B j = C j) : am B key N = am C key N := flN_c N 0 none (fun j s _ hj => by unfold amF; rw [h j (by omega)])
theorem am_lt {B : Nat → Bool} {key : Nat → Nat} {N z : Nat} (h : am B key N = some z) : z < N := (am_some h).1
theorem m_top (Z : Rng w) : f_X3_top w th st a = rA (an_top w a) := by
  simp only [f_X3_top, m_isHome, f_X3_refuse, f_X3_gives, Option.bind_some, an_top, bI_0]
  by_cases hh : isHm w a = false
  · rw [if_pos hh, if_pos hh]; rfl
  rw [if_neg hh, if_neg hh]
  obtain ⟨x, hx, rfl⟩ := (hm_t Z).mp (Bool.not_eq_false _ ▸ hh)
  have b1 := Z.gP.2
  have b2 := p2_le (N := nP w) (by omega)
  have b3 := Z.gH.2
  have hT := stN_lt (B := fun p => cHv w p x) (nP w)
  rw [m_allThatCould Z (by omega), Option.bind_some, m_firstOf Z (by omega) (by omega), Option.bind_some, nI_clamp (by omega)]
  rw [am_c (C := fun p => cHv w p x) (nP w) (fun j hj => by rw [stN_tb, decide_eq_true hj, Bool.true_and])]
  exact rA_tO (fun z hz => by have := am_lt hz; omega)
end PRD4
section PRC4
variable {A : Nat → Nat} {I : Nat → Int32} {M : Nat → Prop} {w : Rw} {st : Int32} {h h1 h2 h' : AH} {nx nx' n0 n1 n2 : Nat} {E : bE} {v a b u : Int32} {p x y N k q : Nat} {f : Option (Int32 × AH × Nat × Nat)} {zs : Nat → Nat} {n : Nat}
theorem z_32 (S : SN A I M w st h nx) (G : Gd w) {q : Nat} (hq : h q = some (.inr (.inr (32, [.ref (A 0), .int (nI x)])))) (hp : p < nP w) (hx : x < nH w) : (dE zs (n + 1)).2.1 h nx q (nI p) = some (bI (cHv w p x), h, 0, 0) := by
  obtain ⟨⟨aH, eH, aP, eP, rN, rA, hm, hs, nh, np, tl, O, T, TI, ho, hM⟩, F, wk, rf, sc, la, oa, R, Q, L, K, s0, il, io, hOwn, hno⟩ := id S.1
  rw [E_is hq]
  show lL32 (dE zs n) h nx [.ref (A 0), .int (nI x)] (nI p) = _
  simp only [lL32, S.i0, gdT, f_X1_lambda_top_20, S.g2, Option.bind_some, R.o1, c_couldHave R Q O T G.1 hp hx]
theorem y_top (S : SN A I M w st h nx) (G : Gd w) : An A I M w h nx (f_X1_top (dE zs (n + 6)) h nx (A 0) a) (an_top w a) := by
  have Z := G.1
  rw [f_X1_top, S.i0, gdT, c_isHome S Z, Option.bind_some]
  unfold an_top
  cases hh : isHm w a
  · rw [if_pos (show bI false = 0 from rfl), if_pos (show false = false from rfl)]
    exact An.cn S (by decide)
  rw [if_neg (show ¬ bI true = 0 by decide), if_neg (show ¬ true = false by nofun)]
  obtain ⟨x, hx, rfl⟩ := (hm_t Z).mp hh
  have b2 := Z.gH.2
  have b1 := Z.gP.2
  refine An.can0 S (fun h1 S1 q1 => ?_)
  have hne := S1.1.ne
  have o1 : isO (hu h1 nx (.inr (.inr (32, [.ref (A 0), .int (nI x)])))) (A 1) 1 = true := by
    obtain ⟨⟨aH, eH, aP, eP, rN, rA, hm, hs, nh, np, tl, O, T, TI, ho, hM⟩, F, wk, rf, sc, la, oa, R, Q, L, K, s0, il, io, hOwn, hno⟩ := id S1.new.1
    exact R.o1
  obtain ⟨h2, e2, S2, L2⟩ := y_firstFor (zs := zs) (n := n) (q := nx) (e := .inr (.inr (32, [.ref (A 0), .int (nI x)]))) (B := fun p => cHv w p x) (h := hu h1 nx (.inr (.inr (32, [.ref (A 0), .int (nI x)])))) (nx := nx + 1) S1.new G hx hu_s ⟨by omega, by omega⟩ (fun h' nx' j hj S' _ hq => z_32 S' G hq hj hx)
  obtain ⟨h3, e3, S3, q3⟩ := S2.told (dE zs (n + 6)) (o := am (fun p => cHv w p x) (wgt w x) (nP w)) (fun z hz => by have := am_lt hz; omega)
  simp only [Nat.add_zero, nI_clamp (show x < 2 ^ 31 by omega)]
  rw [S1.g2, Option.bind_some, o1, gdT, e2, Option.bind_some]
  dsimp only
  rw [S2.i0, gdT, aC_id, e3, aC_some, aC_some]
  exact ⟨h3, 2, 4, rfl, S3, (Lt.new.trans L2).qs.trans q3, by omega, by omega⟩
theorem c_isAsking (S : SN A I M w st h nx) (Z : Rng w) (hp : p < nP w) (hx : x < nH w) : f_X1_isAsking E h (A 0) (nI p) (nI x) = some (bI (mayH w p && dFit w p x)) := by
  obtain ⟨⟨aH, eH, aP, eP, rN, rA, hm, hs, nh, np, tl, O, T, TI, ho, hM⟩, F, wk, rf, sc, la, oa, R, Q, L, K, s0, il, io, hOwn, hno⟩ := id S.1
  simp only [f_X1_isAsking, S.g2, Option.bind_some, R.o1, gdT, c_isWaiting R Q Z hp, c_isFitting R Q O T Z hp hx, bI_0]
  cases mayH w p <;> cases dFit w p x <;> simp [bI]
theorem z_21 (S : SN A I M w st h nx) (G : Gd w) {q : Nat} (hq : h q = some (.inr (.inr (21, [.ref (A 0), .int (nI p), .int (nI x)])))) (hp : p < nP w) (hy : y < nP w) (hx : x < nH w) : ∃ h'', (dE zs (n + 6)).2.1 h nx q (nI y) = some (bI (mayH w y && dFit w y x && decide (wgt w x y < wgt w x p)), h'', 0, 0) ∧ RA A M w h'' nx ∧ ∀ q, q ≠ A 1 → h'' q = h q := by
  have b1 := G.1.gP.2
  have X := S.1
  obtain ⟨⟨aH, eH, aP, eP, rN, rA, hm, hs, nh, np, tl, O, T, TI, ho, hM⟩, F, wk, rf, sc, la, oa, R, Q, L, K, s0, il, io, hOwn, hno⟩ := id S.1
  rw [E_is (n := n + 5) hq]
  show ∃ h'', lL21 (dE zs (n + 5)) h nx [.ref (A 0), .int (nI p), .int (nI x)] (nI y) = _ ∧ _
  simp only [lL21, S.i0, gdT, f_X1_lambda_ahead_11, c_isAsking S G.1 hy hx, Option.bind_some, S.g2, R.o1, bI_0]
  by_cases hyp : y = p
  · subst hyp
    rw [if_pos rfl]
    exact ⟨h, by simp [bI], X, fun _ _ => rfl⟩
  · rw [if_neg (fun z => hyp ((nI_eq (by omega) (by omega)).mp z))]
    cases hB : (mayH w y && dFit w y x)
    · rw [if_pos rfl]
      exact ⟨h, by simp [bI], X, fun _ _ => rfl⟩
    · rw [if_neg (show ¬ true = false by nofun)]
      obtain ⟨h3, v, g1, g2, g3, g4, g5⟩ := x_compare (zs := zs) (n := n) X G.1 G.2.1 hy hp hx
      rw [g1, Option.bind_some]
      dsimp only
      rw [aC00]
      by_cases hv : v < 0
      · rw [if_neg (Int32.not_le.mpr hv), decide_eq_true (g4.mp hv)]
        exact ⟨h3, rfl, g2, g3⟩
      · rw [if_pos (Int32.not_lt.mp hv), decide_eq_false (fun z => hv (g4.mpr z))]
        exact ⟨h3, rfl, g2, g3⟩
theorem y_ahead (S : SN A I M w st h nx) (G : Gd w) : An A I M w h nx (f_X1_ahead (dE zs (n + 6)) h nx (A 0) a b) (an_ahead w a b) := by
  have Z := G.1
  rw [f_X1_ahead, S.i0, gdT, c_whyBoth S Z, Option.bind_some, gdT]
  unfold an_ahead
  cases hv : (isHs w a && isHm w b)
  · rw [if_neg (show ¬ false = true by nofun), if_neg (show ¬ nI 2 = 0 by decide), if_pos (show false = false from rfl)]
    exact An.cn S (by decide)
  rw [if_pos (show true = true from rfl), if_pos (show (0 : Int32) = 0 from rfl), if_neg (show ¬ true = false by nofun)]
  rw [Bool.and_eq_true] at hv
  obtain ⟨p, hp, rfl⟩ := (hs_t Z).mp hv.1
  obtain ⟨x, hx, rfl⟩ := (hm_t Z).mp hv.2
  have b1 := Z.gP.2
  have b2 := Z.gH.2
  rw [c_isAsking S Z hp hx, Option.bind_some, nI_clamp (by omega), nI_clamp (by omega)]
  cases hB : (mayH w p && dFit w p x)
  · rw [if_pos (show bI false = 0 from rfl), if_pos (show false = false from rfl)]
    exact An.cn S (by decide)
  rw [if_neg (show ¬ bI true = 0 by decide), if_neg (show ¬ true = false by nofun)]
  refine An.can0 S (fun h1 S1 q1 => ?_)
  obtain ⟨⟨aH, eH, aP, eP, rN, rA, hm, hs, nh, np, tl, O, T, TI, ho, hM⟩, F, wk, rf, sc, la, oa, R, Q, L, K, s0, il, io, hOwn, hno⟩ := id S1.1
  simp only [Nat.add_zero, bd]
  obtain ⟨h2, e, S2, L2⟩ := y_count (E := dE zs (n + 6)) (e := .inr (.inr (21, [.ref (A 0), .int (nI p), .int (nI x)]))) (B := fun q => mayH w q && dFit w q x && decide (wgt w x q < wgt w x p)) (N := nP w) S1 (by omega) (fun h' nx' j hj S' hq => z_21 S' G hq hp hj hx)
  rw [O.g1, Option.bind_some, T.2.1.o, gdT, T.2.1.size, Option.bind_some, aC_id, e, aC_some]
  exact An.l1 S1 S2 L2 rfl (by omega)
theorem z_19 (S : SN A I M w st h nx) (G : Gd w) {q q0 D : Nat} {g : Nat → Int32} (hq : h q = some (.inr (.inr (19, [.ref (A 0), .int (nI x), .ref q0])))) (h0 : h q0 = some (.inl (0, 1, .inl g))) (hg : g 0 = nI D) (hD : D < 1024) (hp : p < nP w) : (dE zs (n + 1)).2.1 h nx q (nI p) = some (bI (iBd w p x && !D.testBit p), h, 0, 0) := by
  have b1 := G.1.gP.2
  obtain ⟨⟨aH, eH, aP, eP, rN, rA, hm, hs, nh, np, tl, O, T, TI, ho, hM⟩, F, wk, rf, sc, la, oa, R, Q, L, K, s0, il, io, hOwn, hno⟩ := id S.1
  rw [E_is hq]
  show lL19 (dE zs n) h nx [.ref (A 0), .int (nI x), .ref q0] (nI p) = _
  have ha : aI h q0 0 0 = some (nI D) := by
    simp only [aI, arI, h0, if_true, Option.bind_some]
    rw [show (0 : Int32) = nI 0 from rfl, gdn ⟨by decide, by decide⟩, nI_clamp (by decide), hg]
  simp only [lL19, S.i0, gdT, f_X1_lambda_order_10, S.g2, Option.bind_some, R.o1, c_bidsFor R Q G.1 hp, ha, bI_0, btV D hD p (by omega)]
  cases iBd w p x <;> cases D.testBit p <;> rfl
/-- the loop of order, of so many that are left -/
theorem y_order40 {h0 : AH} (X0 : RA A M w h0 n0) (G : Gd w) (hx : x < nH w) (hk : k < 2 ^ 31) : ∀ (cnt i m T D : Nat) (its : Int32) (h : AH) (nx : Nat) (g : Nat → Int32), pc T = cnt → i ≤ k → i + cnt < 1000 → T < 2 ^ nP w → D < 2 ^ nP w → (∀ p, p < nP w → T.testBit p = (iBd w p x && !D.testBit p)) → SN A I (MR M n0 (n0 + 1)) w 0 h nx → n0 + 1 ≤ nx → h n0 = some (.inl (0, 1, .inl g)) → g 0 = nI D →
    ∃ h' c d, f_X1_order_40 (m + cnt + 2) (dE zs (n + 6)) (A 0) (nI x) (nI k) n0 its (nI i) h nx = some ((tO (ordN (wgt w x) (nP w) (k - i) T)).1, h', c, d) ∧ SN A I (MR M n0 (n0 + 1)) w (tO (ordN (wgt w x) (nP w) (k - i) T)).2 h' (nx + c) ∧ (∀ q, q < n0 → q ≠ A 1 → q ≠ A 0 → h' q = h q) ∧ c ≤ 2 * (cnt + 1) ∧ d ≤ 5 * (cnt + 1) := by
  intro cnt
  induction cnt with
  | zero =>
    intro i m T D its h nx g hc hi hi2 hT hD hTD S hn hg hgD
    have Z := G.1
    have b1 := Z.gP.2
    have b2 := p2_le (N := nP w) (by omega)
    have hne := S.1.ne
    have hne0 := X0.ne
    have o1 : isO (hu h nx (.inr (.inr (19, [.ref (A 0), .int (nI x), .ref n0])))) (A 1) 1 = true := by
      obtain ⟨⟨aH, eH, aP, eP, rN, rA, hm, hs, nh, np, tl, O, T, TI, ho, hM⟩, F, wk, rf, sc, la, oa, R, Q, L, K, s0, il, io, hOwn, hno⟩ := id S.new.1
      exact R.o1
    obtain ⟨h2, e2, S2, L2⟩ := y_firstFor (zs := zs) (n := n) (q := nx) (e := .inr (.inr (19, [.ref (A 0), .int (nI x), .ref n0]))) (B := fun p => iBd w p x && !D.testBit p) (h := hu h nx (.inr (.inr (19, [.ref (A 0), .int (nI x), .ref n0])))) (nx := nx + 1) S.new G hx hu_s ⟨by omega, by omega⟩ (fun h' nx' j hj S' L' hq => z_19 S' G hq (by rw [L'.2 n0 (by omega) (by omega), hu_n (by omega)]; exact hg) hgD (by omega) hj)
    have hpk : am (fun p => iBd w p x && !D.testBit p) (wgt w x) (nP w) = pk (wgt w x) (nP w) T := (am_c (nP w) (fun j hj => hTD j hj)).symm
    have hT0 : pk (wgt w x) (nP w) T = none := by
      cases hp : pk (wgt w x) (nP w) T with
      | none => rfl
      | some p => have := (pk_some (by omega) hT hp).2.2.2; omega
    have hO : ordN (wgt w x) (nP w) (k - i) T = none := (ordN_none (by omega) _ _ hT).mpr (by omega)
    rw [f_X1_order_40, if_neg (nI_nlt hi hk), S.g2, Option.bind_some, o1, gdT, e2, Option.bind_some, hpk, hT0, hO]
    dsimp only
    obtain ⟨h3, e3, S3, q3⟩ := S2.no (dE zs (n + 6)) (nI 5)
    rw [if_neg (show ¬ (0 : Int32) ≤ eO none by decide), S2.i0, gdT, aC_id, e3, aC_some, aC_some]
    refine ⟨h3, 2, 5, rfl, S3, fun q h1 h2 h4 => ?_, by omega, by omega⟩
    rw [q3.2 q (by omega) h2 h4, L2.2 q (by omega) h2, hu_n (by omega)]
  | succ cnt ih =>
    intro i m T D its h nx g hc hi hi2 hT hD hTD S hn hg hgD
    have Z := G.1
    have b1 := Z.gP.2
    have b2 := p2_le (N := nP w) (by omega)
    have hne := S.1.ne
    have hne0 := X0.ne
    have o1 : isO (hu h nx (.inr (.inr (19, [.ref (A 0), .int (nI x), .ref n0])))) (A 1) 1 = true := by
      obtain ⟨⟨aH, eH, aP, eP, rN, rA, hm, hs, nh, np, tl, O, T, TI, ho, hM⟩, F, wk, rf, sc, la, oa, R, Q, L, K, s0, il, io, hOwn, hno⟩ := id S.new.1
      exact R.o1
    obtain ⟨h2, e2, S2, L2⟩ := y_firstFor (zs := zs) (n := n) (q := nx) (e := .inr (.inr (19, [.ref (A 0), .int (nI x), .ref n0]))) (B := fun p => iBd w p x && !D.testBit p) (h := hu h nx (.inr (.inr (19, [.ref (A 0), .int (nI x), .ref n0])))) (nx := nx + 1) S.new G hx hu_s ⟨by omega, by omega⟩ (fun h' nx' j hj S' L' hq => z_19 S' G hq (by rw [L'.2 n0 (by omega) (by omega), hu_n (by omega)]; exact hg) hgD (by omega) hj)
    have hpk : am (fun p => iBd w p x && !D.testBit p) (wgt w x) (nP w) = pk (wgt w x) (nP w) T := (am_c (nP w) (fun j hj => hTD j hj)).symm
    have h2g : h2 n0 = some (.inl (0, 1, .inl g)) := by rw [L2.2 n0 (by omega) (by omega), hu_n (by omega)]; exact hg
    rw [show m + (cnt + 1) + 2 = (m + cnt + 2) + 1 by omega, f_X1_order_40, if_neg (nI_nlt hi hk), S.g2, Option.bind_some, o1, gdT, e2, Option.bind_some, hpk]
    dsimp only
    cases hp : pk (wgt w x) (nP w) T with
    | none => rw [(pk_none (by omega) hT).mp hp, pc_0] at hc; omega
    | some p =>
      have h4 := pk_some (by omega) hT hp
      have ha : aI h2 n0 0 0 = some (nI D) := by
        simp only [aI, arI, h2g, if_true, Option.bind_some]
        rw [show (0 : Int32) = nI 0 from rfl, gdn ⟨by decide, by decide⟩, nI_clamp (by decide), hgD]
      have hs : sI h2 n0 0 0 (nI (D ||| 2 ^ p)) = some (hu h2 n0 (.inl (0, 1, .inl (upd g 0 (nI (D ||| 2 ^ p)))))) := sI_at (i := 0) h2g (by decide) (by decide) _
      rw [if_pos (show (0 : Int32) ≤ eO (some p) from nI_pos' (by omega)), ha, Option.bind_some, show eO (some p) = nI p from rfl, or_n D (by omega) p (by omega), hs, Option.bind_some, nI_1]
      have S4 : SN A I (MR M n0 (n0 + 1)) w 0 (hu h2 n0 (.inl (0, 1, .inl (upd g 0 (nI (D ||| 2 ^ p)))))) (nx + 1 + 1) := S2.wr X0 (fun q hq => hu_n (by omega))
      by_cases hik : i = k
      · subst hik
        rw [show m + cnt + 2 = (m + cnt + 1) + 1 by omega, f_X1_order_40, if_pos (nI_lt (by omega) (by omega)), aC_some, aC_some, Nat.sub_self]
        show ∃ h' c d, _ = some ((tO (pk (wgt w x) (nP w) T)).1, h', c, d) ∧ SN A I (MR M n0 (n0 + 1)) w (tO (pk (wgt w x) (nP w) T)).2 h' (nx + c) ∧ _
        rw [hp]
        refine ⟨_, 2, 5, rfl, S4, fun q h1 h2 h4 => ?_, by omega, by omega⟩
        rw [hu_n (by omega), L2.2 q (by omega) h2, hu_n (by omega)]
      · obtain ⟨h5, c5, d5, e5, S5, q5, b5, b6⟩ := ih (i + 1) m (clr T p) (D ||| 2 ^ p) (nI p) _ (nx + 1 + 1) (upd g 0 (nI (D ||| 2 ^ p))) (by omega) (by omega) (by omega) h4.2.2.1 (or_lt hD (by omega)) (fun z hz => by
          rw [clr_tb (by omega), hTD z hz, or_tb]
          cases iBd w z x <;> cases D.testBit z <;> simp) S4 (by omega) hu_s upd_s
        have hO : ordN (wgt w x) (nP w) (k - i) T = ordN (wgt w x) (nP w) (k - (i + 1)) (clr T p) := by
          rw [show k - i = (k - (i + 1)) + 1 by omega]
          show (match pk (wgt w x) (nP w) T with | none => none | some p => ordN (wgt w x) (nP w) (k - (i + 1)) (clr T p)) = _
          rw [hp]
        rw [e5, aC_some, aC_some, hO]
        refine ⟨h5, _, _, rfl, by rw [show nx + (1 + (1 + c5)) = nx + 1 + 1 + c5 by omega]; exact S5, fun q h1 h2 h4 => ?_, by omega, by omega⟩
        rw [q5 q h1 h2 h4, hu_n (by omega), L2.2 q (by omega) h2, hu_n (by omega)]
theorem An.off {an : Int32 × Int32} (S1 : SN A I M w 0 h1 nx) {c d e : Nat} (S2 : SN A I (MR M nx (nx + e)) w an.2 h2 (nx + c)) (hq : ∀ q, q < nx → q ≠ A 1 → q ≠ A 0 → h2 q = h1 q) (hf : f = some (an.1, h2, c, d)) (hc : c ≤ 2000) (hd : d ≤ 8000) : An A I M w h1 nx f an :=
  ⟨h2, c, d, hf, S2.back S1.1, ⟨by omega, hq⟩, hc, hd⟩
theorem y_order (S : SN A I M w st h nx) (G : Gd w) : An A I M w h nx (f_X1_order (dE zs (n + 6)) h nx (A 0) a b) (an_order w a b) := by
  have Z := G.1
  unfold f_X1_order an_order
  by_cases hb : b < 0
  · rw [if_neg (Int32.not_le.mpr hb), if_pos hb]
    exact An.cn S (by decide)
  rw [if_pos (Int32.not_lt.mp hb), if_neg hb, S.i0, gdT, c_isHome S Z, Option.bind_some]
  cases hh : isHm w a
  · rw [if_pos (show bI false = 0 from rfl), if_pos (show false = false from rfl)]
    exact An.cn S (by decide)
  rw [if_neg (show ¬ bI true = 0 by decide), if_neg (show ¬ true = false by nofun)]
  obtain ⟨x, hx, rfl⟩ := (hm_t Z).mp hh
  obtain ⟨k, hk, rfl⟩ := nI_of hb
  have b2 := Z.gH.2
  have b1 := Z.gP.2
  have hT := stN_lt (B := fun p => iBd w p x) (nP w)
  have hp := pc_le (stN (fun p => iBd w p x) (nP w))
  refine An.can0 S (fun h1 S1 q1 => ?_)
  simp only [Nat.add_zero, nI_clamp (show x < 2 ^ 31 by omega), nI_clamp hk]
  obtain ⟨h2, c, d, e, S2, q2, c1, c2⟩ := y_order40 (zs := zs) (n := n) (n0 := nx) (x := x) (k := k) S1.1 G hx hk _ 0 (FU - pc (stN (fun p => iBd w p x) (nP w)) - 2) (stN (fun p => iBd w p x) (nP w)) 0 (-1) (hu h1 nx (.inl (0, 1, .inl (fun _ => 0)))) (nx + 1) (fun _ => 0) rfl (by omega) (by omega) hT (Nat.two_pow_pos _) (fun p hp => by rw [stN_tb, decide_eq_true hp]; simp) (S1.reg (fun q hq => hu_n (by omega)) (by omega)) (by omega) hu_s rfl
  rw [show FU - pc (stN (fun p => iBd w p x) (nP w)) - 2 + pc (stN (fun p => iBd w p x) (nP w)) + 2 = FU by unfold FU; omega] at e
  exact An.off (h2 := h2) (c := 1 + c) (d := 1 + d) (e := 1) S1 (by rw [← Nat.add_assoc]; exact S2) (fun q h1 h2 h3 => by rw [q2 q h1 h2 h3, hu_n (by omega)]) (congrArg (aC 1 1) e) (by omega) (by omega)
end PRC4
