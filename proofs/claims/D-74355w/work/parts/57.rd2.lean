/-! let, offer, tally, lack: both sides -/
def an_let (w : Rw) (a b : Int32) : Int32 × Int32 := if ir b 0 (nI 7) = false then (-1, 1) else if ir a 0 (w 233 - 1) = false then (-1, nI 2) else if b = nI 5 then (lF w a.toNatClampNeg 5 &&& 1, 0) else (lF w a.toNatClampNeg b.toNatClampNeg, 0)
def an_offer (w : Rw) (a b : Int32) : Int32 × Int32 := if ir b 0 (nI 2) = false then (-1, 1) else if ir a 0 (w 299 - 1) = false then (-1, nI 2) else (w (300 + 3 * a.toNatClampNeg + b.toNatClampNeg), 0)
def tyB (w : Rw) (i : Nat) : Bool := decide (pF w (lN_ w i 0) 2 = hF w (lN_ w i 1) 1)
def an_tally (w : Rw) (a : Int32) : Int32 × Int32 := if ir a 0 (nI 4) = false then (-1, 1) else if a = 0 then (gr32 (fun i => lF w i 3) (nL w), 0) else if a = nI 2 then (nI (lvd w), 0) else if a = nI 4 then (sm32 (fun p => pF w p 9) (nP w), 0) else if a = 1 then (nI (cnN (fun i => decide (lF w i 3 = 1)) (nL w)), 0) else (nI (cnN (tyB w) (nL w)), 0)
def an_lack (w : Rw) (a : Int32) : Int32 × Int32 := if ir a 1 (nI 4) = false then (-1, 1) else (nI (cnN (fun p => isIn_ w p && decide (pF w p 1 = a)) (nP w)) - nI (cnN (fun x => isFr w x && decide (hF w x 0 = a)) (nH w)), 0)
section PRD2
variable {w : Rw} {th st ac a b : Int32} {p x i : Nat}
theorem ir_t {n : Nat} (hn : n < 2 ^ 31) {v : Int32} : ir v 0 (nI n - 1) = true ↔ ∃ x, x < n ∧ v = nI x := rg_t hn
theorem m_let (Z : Rng w) : f_X3_let w th st a b = rA (an_let w a b) := by
  simp only [f_X3_let, m_from, f_X3_gives, f_X3_refuse, Option.bind_some, an_let, rA, bI_0, f_X3_let_63]
  by_cases hv : ir b 0 (nI 7) = false
  · rw [if_pos hv, if_pos hv]
  rw [if_neg hv, if_neg hv]
  by_cases hh : ir a 0 (w 233 - 1) = false
  · rw [if_pos hh, if_pos hh]
  rw [if_neg hh, if_neg hh]
  obtain ⟨k, hk, rfl⟩ := (rg_c (by decide)).mp (Bool.not_eq_false _ ▸ hv)
  have b1 := Z.gL
  rw [b1.1] at hh
  obtain ⟨i, hi, rfl⟩ := (ir_t (by omega)).mp (Bool.not_eq_false _ ▸ hh)
  rw [m_l0 (k := 5) (by omega), m_l0 (k := k) (by omega), nI_clamp (by omega), nI_clamp (by omega)]
  simp only [Option.bind_some]
  by_cases h5 : nI k = nI 5
  · rw [if_pos h5, if_pos h5]
  · rw [if_neg h5, if_neg h5]
theorem m_offer (Z : Rng w) : f_X3_offer w th st a b = rA (an_offer w a b) := by
  simp only [f_X3_offer, m_from, f_X3_gives, f_X3_refuse, Option.bind_some, an_offer, rA, bI_0]
  by_cases hv : ir b 0 (nI 2) = false
  · rw [if_pos hv, if_pos hv]
  rw [if_neg hv, if_neg hv]
  by_cases hh : ir a 0 (w 299 - 1) = false
  · rw [if_pos hh, if_pos hh]
  rw [if_neg hh, if_neg hh]
  obtain ⟨k, hk, rfl⟩ := (rg_c (by decide)).mp (Bool.not_eq_false _ ▸ hv)
  have b1 := Z.gO
  rw [b1.1] at hh
  obtain ⟨i, hi, rfl⟩ := (ir_t (by omega)).mp (Bool.not_eq_false _ ▸ hh)
  rw [pk_mul, nI_add, nI_add, gdn ⟨by omega, by decide⟩, nI_clamp (by omega), nI_clamp (by omega), nI_clamp (by omega)]
theorem m_allPassed (Z : Rng w) : f_X3_allPassed w = some (sm32 (fun p => pF w p 9) (nP w)) := by
  obtain ⟨e1, e2⟩ := Z.gP
  refine (lp_up (fun n i s => f_X3_allPassed_4 n w s (nI i)) (fun s => some s) (fun i s => s + pF w i 9) (nP w) ?_ ?_ FU 0 0 (Nat.zero_le _) (FU_lt (by omega)))
  · intro n s
    simp only [f_X3_allPassed_4]
    rw [e1, if_pos (nI_leR _)]
  · intro n i s hi
    simp only [f_X3_allPassed_4]
    rw [e1, if_neg (nI_ge hi (by omega)), m_of (by omega), Option.bind_some, nI_1]
theorem m_greatestChain (Z : Rng w) : f_X3_greatestChain w = some (gr32 (fun i => lF w i 3) (nL w)) := by
  obtain ⟨e1, e2⟩ := Z.gL
  refine (lp_up (fun n i s => f_X3_greatestChain_4 n w s (nI i)) (fun s => some s) (fun i s => mx32 s (lF w i 3)) (nL w) ?_ ?_ FU 0 0 (Nat.zero_le _) (FU_lt (by omega)))
  · intro n s
    simp only [f_X3_greatestChain_4]
    rw [e1, if_pos (nI_leR _)]
  · intro n i s hi
    simp only [f_X3_greatestChain_4]
    rw [e1, if_neg (nI_ge hi (by omega)), m_l0 (by omega), Option.bind_some, m_max, Option.bind_some, nI_1]
theorem m_tally60 (Z : Rng w) {B : Nat → Bool} {k : Nat} (hk : (nI k = 1 ∧ B = fun i => decide (lF w i 3 = 1)) ∨ (¬ nI k = 1 ∧ B = tyB w)) : f_X3_tally_60 FU w (nI k) 0 0 th st = rA (nI (cnN B (nL w)), 0) := by
  obtain ⟨e1, e2⟩ := Z.gL
  refine (lp_up (fun n i s => f_X3_tally_60 n w (nI k) (nI s) (nI i) th st) (fun s => rA (nI s, 0)) (fun i s => s + if B i = true then 1 else 0) (nL w) ?_ ?_ FU 0 0 (Nat.zero_le _) (FU_lt (by omega)))
  · intro n s
    simp only [f_X3_tally_60]
    rw [e1, if_pos (nI_leR _)]
    rfl
  · intro n i s hi
    simp only [f_X3_tally_60]
    rw [e1, if_neg (nI_ge hi (by omega)), nI_1, nI_1, iadd0]
    rcases hk with ⟨h1, rfl⟩ | ⟨h1, rfl⟩
    · rw [if_pos h1, m_l0 (by omega), Option.bind_some]
      by_cases hb : lF w i 3 = 1 <;> simp [hb]
    · rw [if_neg h1, m_l00 (by omega), Option.bind_some, (Z.l0 (i := i) (by omega)).1, m_of (by have := (Z.l0 (i := i) (by omega)).2; omega), Option.bind_some, m_l01 (by omega), Option.bind_some, (Z.l1 (i := i) (by omega)).1, m_h01 (by have := (Z.l1 (i := i) (by omega)).2; omega), Option.bind_some]
      unfold tyB
      by_cases hb : pF w (lN_ w i 0) 2 = hF w (lN_ w i 1) 1 <;> simp [hb]
theorem m_tally (Z : Rng w) : f_X3_tally w th st a = rA (an_tally w a) := by
  simp only [f_X3_tally, m_from, f_X3_gives, f_X3_refuse, Option.bind_some, an_tally, bI_0, m_greatestChain Z, m_livedLets Z, m_allPassed Z]
  by_cases hv : ir a 0 (nI 4) = false
  · rw [if_pos hv, if_pos hv]; rfl
  rw [if_neg hv, if_neg hv]
  by_cases h0_ : a = 0
  · rw [if_pos h0_, if_pos h0_] <;> rfl
  rw [if_neg h0_, if_neg h0_]
  by_cases h1_ : a = nI 2
  · rw [if_pos h1_, if_pos h1_] <;> rfl
  rw [if_neg h1_, if_neg h1_]
  by_cases h2_ : a = nI 4
  · rw [if_pos h2_, if_pos h2_] <;> rfl
  rw [if_neg h2_, if_neg h2_]
  obtain ⟨k, hk, rfl⟩ := (rg_c (by decide)).mp (Bool.not_eq_false _ ▸ hv)
  by_cases h1 : nI k = 1
  · rw [if_pos h1]; exact m_tally60 Z (Or.inl ⟨h1, rfl⟩)
  · rw [if_neg h1]; exact m_tally60 Z (Or.inr ⟨h1, rfl⟩)
theorem m_lack (Z : Rng w) : f_X3_lack w th st a = rA (an_lack w a) := by
  obtain ⟨e1, e2⟩ := Z.gP
  obtain ⟨e3, e4⟩ := Z.gH
  simp only [f_X3_lack, m_from, f_X3_refuse, Option.bind_some, an_lack, bI_0]
  by_cases hv : ir a 1 (nI 4) = false
  · rw [if_pos hv, if_pos hv]; rfl
  rw [if_neg hv, if_neg hv]
  have two : ∀ c : Int32, f_X3_lack_65 FU w a c 0 th st = rA (c - nI (cnN (fun x => isFr w x && decide (hF w x 0 = a)) (nH w)), 0) := by
    intro c
    have := lp_up (fun n i s => f_X3_lack_65 n w a (c - nI s) (nI i) th st) (fun s => rA (c - nI s, 0)) (fun i s => s + if (isFr w i && decide (hF w i 0 = a)) = true then 1 else 0) (nH w) ?_ ?_ FU 0 0 (Nat.zero_le _) (FU_lt (by omega))
    · rw [show f_X3_lack_65 FU w a c 0 th st = f_X3_lack_65 FU w a (c - nI 0) (nI 0) th st by rw [show c - nI 0 = c by rw [nI_0]; grind]; rfl]
      exact this
    · intro n s
      simp only [f_X3_lack_65]
      rw [e3, if_pos (nI_leR _)]
      rfl
    · intro n i s hi
      simp only [f_X3_lack_65]
      rw [e3, if_neg (nI_ge hi (by omega)), m_isFree (by omega), Option.bind_some, m_h00 (by omega), Option.bind_some, nI_1, show c - nI s - 0 = c - nI s by grind, show c - nI s - 1 = c - nI (s + 1) by rw [← nI_1]; grind]
      cases hb : isFr w i
      · simp [bI]
      · by_cases hr : hF w i 0 = a <;> simp [hr, bI]
  refine (lp_up (fun n i s => f_X3_lack_19 n w a (nI s) (nI i) th st) (fun s => rA (nI s - nI (cnN (fun x => isFr w x && decide (hF w x 0 = a)) (nH w)), 0)) (fun i s => s + if (isIn_ w i && decide (pF w i 1 = a)) = true then 1 else 0) (nP w) ?_ ?_ FU 0 0 (Nat.zero_le _) (FU_lt (by omega)))
  · intro n s
    simp only [f_X3_lack_19]
    rw [e1, if_pos (nI_leR _), two]
  · intro n i s hi
    simp only [f_X3_lack_19]
    rw [e1, if_neg (nI_ge hi (by omega)), m_isIn (by omega), Option.bind_some, m_of1 (by omega), Option.bind_some, nI_1, nI_1, iadd0]
    cases hb : isIn_ w i
    · simp [bI]
    · by_cases hr : pF w i 1 = a <;> simp [hr, bI]
end PRD2
section PRC3
variable {A : Nat → Nat} {I : Nat → Int32} {M : Nat → Prop} {w : Rw} {st : Int32} {h h1 h2 h' : AH} {nx nx' n1 n2 : Nat} {E : bE} {v a b u : Int32} {p x y N k : Nat} {f : Option (Int32 × AH × Nat × Nat)} {zs : Nat → Nat} {n : Nat}
theorem y_let (S : SN A I M w st h nx) (G : Gd w) : An A I M w h nx (f_X1_let E h nx (A 0) a b) (an_let w a b) := by
  have Z := G.1
  have b1 := Z.gL
  obtain ⟨⟨aH, eH, aP, eP, rN, rA, hm, hs, nh, np, tl, O, T, TI, ho, hM⟩, F, wk, rf, sc, la, oa, R, Q, L, K, s0, il, io, hOwn, hno⟩ := id S.1
  rw [f_X1_let, lg_r b 0 (nI 7) (by decide) (by decide), Option.bind_some]
  unfold an_let
  cases hv : ir b 0 (nI 7)
  · rw [if_pos (show bI false = 0 from rfl), if_pos (show false = false from rfl)]
    exact An.cn S (by decide)
  rw [if_neg (show ¬ bI true = 0 by decide), if_neg (show ¬ true = false by nofun), S.g2, Option.bind_some, R.g15, Option.bind_some, R.2.2.1.o, gdT, R.2.2.1.size, Option.bind_some, lg_r a 0 (nI (nL w) - 1) (by decide) rfl, Option.bind_some, b1.1]
  cases hh : ir a 0 (nI (nL w) - 1)
  · rw [if_pos (show bI false = 0 from rfl), if_pos (show false = false from rfl)]
    exact An.cn S (by decide)
  rw [if_neg (show ¬ bI true = 0 by decide), if_neg (show ¬ true = false by nofun)]
  obtain ⟨k, hk, rfl⟩ := (ir_c (by decide)).mp hv
  obtain ⟨i, hi, rfl⟩ := (ir_t (by omega)).mp hh
  refine An.can0 S (fun h1 S1 q1 => ?_)
  clear R Q O T L K
  obtain ⟨⟨aH, eH, aP, eP, rN, rA, hm, hs, nh, np, tl, O, T, TI, ho, hM⟩, F, wk, rf, sc, la, oa, R, Q, L, K, s0, il, io, hOwn, hno⟩ := id S1.1
  have hl := L.2 i hi
  have l4 := (b01 (Z.2.2.1 i 4 (by omega) (by decide))).1
  have l5 : lF w i 5 &&& 1 = bI (!decide (lF w i 5 &&& 1 = 0)) := by
    obtain ⟨z1, z2⟩ := Z.l5 (i := i) (by omega)
    rw [z1]
    have : ∀ m, m ≤ 3 → nI m &&& 1 = bI (!decide (nI m &&& 1 = 0)) := by decide +kernel
    exact this _ z2
  dsimp only
  rw [S1.g2, Option.bind_some, R.g15, Option.bind_some, R.2.2.1.o, gdT, R.2.2.1.get hi, Option.bind_some, show isO h1 (la i) 7 = true by simp [isO, hl], gdT, nI_clamp (by omega), nI_clamp (by omega)]
  have gg : ∀ j (u : Int32), [Value.int (lF w i 0), .int (lF w i 1), .int (lF w i 2), .int (lF w i 3), .int (lF w i 6), .int (lF w i 7), .int (lF w i 4), .int (lF w i 5 &&& 1), .int (lF w i 5 >>> (1 &&& 31)), .int (bI (decide (pF w (lN_ w i 0) 2 = hF w (lN_ w i 1) 1)))][j]? = some (.int u) → gI h1 (la i) 7 j = some u := by
    intro j u hj
    simp only [gI, rd, hl, if_true]
    rw [hj]
    rfl
  have hx' : k = 0 ∨ k = 1 ∨ k = 2 ∨ k = 3 ∨ k = 4 ∨ k = 5 ∨ k = 6 ∨ k = 7 := by omega
  rcases hx' with rfl | rfl | rfl | rfl | rfl | rfl | rfl | rfl
  · simp (decide := true) only [if_true, if_false]
    rw [gg 0 _ rfl]
    exact An.rd S1 rfl
  · simp (decide := true) only [if_true, if_false]
    rw [gg 1 _ rfl]
    exact An.rd S1 rfl
  · simp (decide := true) only [if_true, if_false]
    rw [gg 2 _ rfl]
    exact An.rd S1 rfl
  · simp (decide := true) only [if_true, if_false]
    rw [gg 3 _ rfl]
    exact An.rd S1 rfl
  · simp (decide := true) only [if_true, if_false]
    rw [gg 6 _ rfl, Option.bind_some, l4, one_b]
    exact An.rd S1 rfl
  · simp (decide := true) only [if_true, if_false]
    rw [gg 7 _ rfl, Option.bind_some, l5, one_b]
    exact An.rd S1 rfl
  · simp (decide := true) only [if_true, if_false]
    rw [gg 4 _ rfl]
    exact An.rd S1 rfl
  · simp (decide := true) only [if_true, if_false]
    rw [gg 5 _ rfl]
    exact An.rd S1 rfl
theorem y_offer (S : SN A I M w st h nx) (G : Gd w) : An A I M w h nx (f_X1_offer E h nx (A 0) a b) (an_offer w a b) := by
  have Z := G.1
  have b1 := Z.gO
  obtain ⟨⟨aH, eH, aP, eP, rN, rA, hm, hs, nh, np, tl, O, T, TI, ho, hM⟩, F, wk, rf, sc, la, oa, R, Q, L, K, s0, il, io, hOwn, hno⟩ := id S.1
  rw [f_X1_offer, lg_r b 0 (nI 2) (by decide) (by decide), Option.bind_some]
  unfold an_offer
  cases hv : ir b 0 (nI 2)
  · rw [if_pos (show bI false = 0 from rfl), if_pos (show false = false from rfl)]
    exact An.cn S (by decide)
  rw [if_neg (show ¬ bI true = 0 by decide), if_neg (show ¬ true = false by nofun), S.g2, Option.bind_some, R.g16, Option.bind_some, R.2.2.2.1.o, gdT, R.2.2.2.1.size, Option.bind_some, lg_r a 0 (nI (nO w) - 1) (by decide) rfl, Option.bind_some, b1.1]
  cases hh : ir a 0 (nI (nO w) - 1)
  · rw [if_pos (show bI false = 0 from rfl), if_pos (show false = false from rfl)]
    exact An.cn S (by decide)
  rw [if_neg (show ¬ bI true = 0 by decide), if_neg (show ¬ true = false by nofun)]
  obtain ⟨k, hk, rfl⟩ := (ir_c (by decide)).mp hv
  obtain ⟨i, hi, rfl⟩ := (ir_t (by omega)).mp hh
  refine An.can0 S (fun h1 S1 q1 => ?_)
  clear R Q O T L K
  obtain ⟨⟨aH, eH, aP, eP, rN, rA, hm, hs, nh, np, tl, O, T, TI, ho, hM⟩, F, wk, rf, sc, la, oa, R, Q, L, K, s0, il, io, hOwn, hno⟩ := id S1.1
  obtain ⟨g, hg, g0, g1, g2⟩ := K.2 i hi
  dsimp only
  rw [S1.g2, Option.bind_some, R.g16, Option.bind_some, R.2.2.2.1.o, gdT, R.2.2.2.1.get hi, Option.bind_some, show isA h1 (oa i) 0 = true by simp [isA, hg], gdT, nI_clamp (by omega), nI_clamp (by omega)]
  have ga : aI h1 (oa i) 0 (nI k) = some (g k) := by
    simp only [aI, arI, hg, if_true, Option.bind_some]
    rw [gdn ⟨by omega, by decide⟩, nI_clamp (by omega)]
  have gk : g k = w (300 + 3 * i + k) := by
    have hx' : k = 0 ∨ k = 1 ∨ k = 2 := by omega
    rcases hx' with rfl | rfl | rfl
    · exact g0
    · exact g1
    · exact g2
  rw [ga, gk]
  exact An.rd S1 rfl
theorem z_23 (S : SN A I M w st h nx) {q : Nat} (hq : h q = some (.inr (.inr (23, [.ref (A 1 + 16)])))) (hp : p < nL w) : (dE zs (n + 1)).2.1 h nx q (nI p) = some (bI (decide (lF w p 3 = 1)), h, 0, 0) := by
  obtain ⟨⟨aH, eH, aP, eP, rN, rA, hm, hs, nh, np, tl, O, T, TI, ho, hM⟩, F, wk, rf, sc, la, oa, R, Q, L, K, s0, il, io, hOwn, hno⟩ := id S.1
  rw [E_is hq]
  show lL23 (dE zs n) h nx [.ref (A 1 + 16)] (nI p) = _
  have hl := L.2 p hp
  simp only [lL23, f_X1_lambda_tally_12, R.2.2.1.o, gdT, R.2.2.1.get hp, Option.bind_some]
  rw [show isO h (la p) 7 = true by simp [isO, hl], gdT, show gI h (la p) 7 3 = some (lF w p 3) by simp [gI, rd, hl, vI], Option.bind_some, bI_ite]
  rfl
theorem z_24 (S : SN A I M w st h nx) {q : Nat} (hq : h q = some (.inr (.inr (24, [.ref (A 1 + 16)])))) (hp : p < nL w) : (dE zs (n + 1)).2.1 h nx q (nI p) = some (bI (tyB w p), h, 0, 0) := by
  obtain ⟨⟨aH, eH, aP, eP, rN, rA, hm, hs, nh, np, tl, O, T, TI, ho, hM⟩, F, wk, rf, sc, la, oa, R, Q, L, K, s0, il, io, hOwn, hno⟩ := id S.1
  rw [E_is hq]
  show lL24 (dE zs n) h nx [.ref (A 1 + 16)] (nI p) = _
  have hl := L.2 p hp
  simp only [lL24, f_X1_lambda_tally_13, R.2.2.1.o, gdT, R.2.2.1.get hp, Option.bind_some]
  rw [show isO h (la p) 7 = true by simp [isO, hl], gdT, show gI h (la p) 7 9 = some (bI (tyB w p)) by simp [gI, rd, hl, vI, tyB], Option.bind_some, show isB (bI (tyB w p)) = true by cases tyB w p <;> rfl, gdT]
  rfl
theorem y_tally (S : SN A I M w st h nx) (G : Gd w) : An A I M w h nx (f_X1_tally (dE zs (n + 1)) h nx (A 0) a) (an_tally w a) := by
  have Z := G.1
  rw [f_X1_tally, lg_r a 0 (nI 4) (by decide) (by decide), Option.bind_some]
  unfold an_tally
  cases hv : ir a 0 (nI 4)
  · rw [if_pos (show bI false = 0 from rfl), if_pos (show false = false from rfl)]
    exact An.cn S (by decide)
  rw [if_neg (show ¬ bI true = 0 by decide), if_neg (show ¬ true = false by nofun)]
  obtain ⟨k, hk, rfl⟩ := (ir_c (by decide)).mp hv
  refine An.can0 S (fun h1 S1 q1 => ?_)
  have X1 := S1.1
  obtain ⟨⟨aH, eH, aP, eP, rN, rA, hm, hs, nh, np, tl, O, T, TI, ho, hM⟩, F, wk, rf, sc, la, oa, R, Q, L, K, s0, il, io, hOwn, hno⟩ := id S1.1
  have b3 := Z.gL.2
  simp only [Nat.add_zero]
  rw [S1.g2, Option.bind_some, R.g15, Option.bind_some]
  have hx' : k = 0 ∨ k = 1 ∨ k = 2 ∨ k = 3 ∨ k = 4 := by omega
  rcases hx' with rfl | rfl | rfl | rfl | rfl
  · simp (decide := true) only [if_true, if_false]
    rw [Option.bind_some, S1.i0, gdT, aC_id]
    obtain ⟨h2, e, X2, L2⟩ := y_chain (zs := zs) (n := n) X1 G
    rw [e]
    exact An.l1 S1 (S1.lt X2 L2) L2 rfl (by omega)
  · simp (decide := true) only [if_true, if_false]
    rw [R.2.2.1.o, gdT, R.2.2.1.size, Option.bind_some, aC_id]
    obtain ⟨h2, e, S2, L2⟩ := y_count (E := dE zs (n + 1)) (e := .inr (.inr (23, [.ref (A 1 + 16)]))) (B := fun i => decide (lF w i 3 = 1)) (N := nL w) S1 (by omega) (fun h' nx' j hj S' hq => ⟨h', z_23 S' hq hj, S'.1, fun _ _ => rfl⟩)
    rw [e, aC_some]
    exact An.l1 S1 S2 L2 rfl (by omega)
  · simp (decide := true) only [if_true, if_false]
    rw [Option.bind_some, R.o1, gdT, c_movedMany R Z L]
    exact An.rd S1 rfl
  · simp (decide := true) only [if_true, if_false]
    rw [R.2.2.1.o, gdT, R.2.2.1.size, Option.bind_some, aC_id]
    obtain ⟨h2, e, S2, L2⟩ := y_count (E := dE zs (n + 1)) (e := .inr (.inr (24, [.ref (A 1 + 16)]))) (B := tyB w) (N := nL w) S1 (by omega) (fun h' nx' j hj S' hq => ⟨h', z_24 S' hq hj, S'.1, fun _ _ => rfl⟩)
    rw [e, aC_some]
    exact An.l1 S1 S2 L2 rfl (by omega)
  · simp (decide := true) only [if_true, if_false]
    rw [Option.bind_some, S1.i0, gdT, aC_id]
    obtain ⟨h2, e, X2, L2⟩ := y_passedBy (zs := zs) (n := n) X1 G
    rw [e]
    exact An.l1 S1 (S1.lt X2 L2) L2 rfl (by omega)
theorem z_26 (S : SN A I M w st h nx) (G : Gd w) {q : Nat} (hq : h q = some (.inr (.inr (26, [.ref (A 0), .int a])))) (hp : p < nP w) : (dE zs (n + 1)).2.1 h nx q (nI p) = some (bI (isIn_ w p && decide (pF w p 1 = a)), h, 0, 0) := by
  obtain ⟨⟨aH, eH, aP, eP, rN, rA, hm, hs, nh, np, tl, O, T, TI, ho, hM⟩, F, wk, rf, sc, la, oa, R, Q, L, K, s0, il, io, hOwn, hno⟩ := id S.1
  have b1 := G.1.gP.2
  obtain ⟨w0, w1, w2, w3, w4, w5, w6, w7, w8⟩ := Q.2.1 p hp
  rw [E_is hq]
  show lL26 (dE zs n) h nx [.ref (A 0), .int a] (nI p) = _
  simp only [lL26, S.i0, gdT, f_X1_lambda_lack_14, S.g2, Option.bind_some, R.g13, R.g10]
  rw [R.a13 (by omega), Option.bind_some, w7, R.a10 (by omega), Option.bind_some, w6]
  unfold isIn_
  by_cases h8 : pF w p 8 = 0 <;> by_cases ha : pF w p 1 = a <;> simp [h8, ha, bI]
theorem z_27 (S : SN A I M w st h nx) (G : Gd w) {q : Nat} (hq : h q = some (.inr (.inr (27, [.ref (A 0), .int a])))) (hx : x < nH w) : (dE zs (n + 1)).2.1 h nx q (nI x) = some (bI (isFr w x && decide (hF w x 0 = a)), h, 0, 0) := by
  obtain ⟨⟨aH, eH, aP, eP, rN, rA, hm, hs, nh, np, tl, O, T, TI, ho, hM⟩, F, wk, rf, sc, la, oa, R, Q, L, K, s0, il, io, hOwn, hno⟩ := id S.1
  rw [E_is hq]
  show lL27 (dE zs n) h nx [.ref (A 0), .int a] (nI x) = _
  simp only [lL27, S.i0, gdT, f_X1_lambda_lack_15, S.g2, Option.bind_some, R.o1, c_isFree R Q O T G.1 G.2.1 hx, T.homeAt O hx, T.rooms hx, bI_0]
  cases isFr w x <;> by_cases ha : hF w x 0 = a <;> simp [ha, bI]
theorem y_lack (S : SN A I M w st h nx) (G : Gd w) : An A I M w h nx (f_X1_lack (dE zs (n + 1)) h nx (A 0) a) (an_lack w a) := by
  have Z := G.1
  rw [f_X1_lack, lg_r a 1 (nI 4) (by decide) (by decide), Option.bind_some]
  unfold an_lack
  cases hv : ir a 1 (nI 4)
  · rw [if_pos (show bI false = 0 from rfl), if_pos (show false = false from rfl)]
    exact An.cn S (by decide)
  rw [if_neg (show ¬ bI true = 0 by decide), if_neg (show ¬ true = false by nofun)]
  refine An.can0 S (fun h1 S1 q1 => ?_)
  have b1 := Z.gP.2
  have b2 := Z.gH.2
  obtain ⟨⟨aH, eH, aP, eP, rN, rA, hm, hs, nh, np, tl, O, T, TI, ho, hM⟩, F, wk, rf, sc, la, oa, R, Q, L, K, s0, il, io, hOwn, hno⟩ := id S1.1
  simp only [Nat.add_zero]
  rw [O.g1, Option.bind_some, T.2.1.o, gdT, T.2.1.size, Option.bind_some]
  obtain ⟨h2, e, S2, L2⟩ := y_count (E := dE zs (n + 1)) (e := .inr (.inr (26, [.ref (A 0), .int a]))) (B := fun p => isIn_ w p && decide (pF w p 1 = a)) (N := nP w) S1 (by omega) (fun h' nx' j hj S' hq => ⟨h', z_26 S' G hq hj, S'.1, fun _ _ => rfl⟩)
  rw [e, Option.bind_some]
  dsimp only
  clear O T R Q L K
  obtain ⟨⟨aH, eH, aP, eP, rN, rA, hm, hs, nh, np, tl, O, T, TI, ho, hM⟩, F, wk, rf, sc, la, oa, R, Q, L, K, s0, il, io, hOwn, hno⟩ := id S2.1
  obtain ⟨h3, e3, S3, L3⟩ := y_count (E := dE zs (n + 1)) (e := .inr (.inr (27, [.ref (A 0), .int a]))) (B := fun x => isFr w x && decide (hF w x 0 = a)) (N := nH w) S2 (by omega) (fun h' nx' j hj S' hq => ⟨h', z_27 S' G hq hj, S'.1, fun _ _ => rfl⟩)
  simp only [Nat.add_zero, bd]
  rw [O.g0, Option.bind_some, T.1.o, gdT, T.1.size, Option.bind_some, e3, Option.bind_some]
  exact ⟨h3, 2, 4, rfl, S3, (L2.trans L3).qs, by omega, by omega⟩
end PRC3
