/-! envy: both sides -/
def raB (w : Rw) (p x y : Nat) : Bool := match wsh w p x with
  | none => false
  | some k => dFit w p x && (match wsh w p y with
    | none => true
    | some j => decide (k < j))
def evB (w : Rw) (p q : Nat) : Bool := !decide (pF w p 4 = -1) && !decide (pF w q 4 = -1) && raB w p (pN w q 4) (pN w p 4) && raB w q (pN w p 4) (pN w q 4)
def evF (w : Rw) (p q : Nat) (s : Int32 × Int32) : Int32 × Int32 := if evB w p q = true then (s.1 + 1, if s.1 = 0 then nI (8 * p + q) else s.2) else s
def evI (w : Rw) (p : Nat) (s : Int32 × Int32) : Int32 × Int32 := flN (evF w p) (p + 1) (nP w - (p + 1)) s
def evS (w : Rw) : Int32 × Int32 := flN (evI w) 0 (nP w) (0, -1)
def an_envy (w : Rw) (a : Int32) : Int32 × Int32 := if ir a 0 (nI 2) = false then (-1, 1) else if a = 0 then ((evS w).1, 0) else if (evS w).1 = 0 then (-1, nI 5) else if a = 1 then ((evS w).2 / nI 8, 0) else ((evS w).2 - (evS w).2 / nI 8 * nI 8, 0)
section PEV
variable {w : Rw} {th st ac a b : Int32} {p q x y i s : Nat}
theorem m_isRather (Z : Rng w) (hp : p < 8) (hx : x < 10) (h4 : pF w p 4 = nI y) : f_X3_isRather w (nI p) (nI x) = some (bI (raB w p x y)) := by
  have h11 := Z.p11 (p := p) hp
  simp only [f_X3_isRather]
  rw [m_wishOf Z hp, Option.bind_some, m_of (by omega), Option.bind_some, h4, m_wishOf Z hp, Option.bind_some, m_doesFit (by omega) (by omega), Option.bind_some]
  unfold raB
  cases h1 : wsh w p x with
  | none => rw [if_pos (show eO none = -1 from rfl)]; rfl
  | some k =>
    have hk := wsh_lt h1
    rw [if_neg (show ¬ eO (some k) = -1 from nI_m1 (by omega))]
    dsimp only
    cases hd : dFit w p x
    · rw [if_pos (show bI false = 0 from rfl)]; rfl
    rw [if_neg (show ¬ bI true = 0 by decide)]
    cases h2 : wsh w p y with
    | none => rw [if_pos (show eO none = -1 from rfl)]; rfl
    | some j =>
      have hj := wsh_lt h2
      rw [if_neg (show ¬ eO (some j) = -1 from nI_m1 (by omega))]
      dsimp only
      by_cases hkj : k < j
      · rw [if_neg (show ¬ eO (some j) ≤ eO (some k) from nI_ge hkj (by omega)), decide_eq_true hkj]; rfl
      · rw [if_pos (show eO (some j) ≤ eO (some k) from nI_le (by omega) (by omega)), decide_eq_false hkj]; rfl
theorem m_envy41 (Z : Rng w) (hp : p < nP w) (k22 : Int32 → Int32 → Int32 → Int32 → Int32 → Int32 → Option (Int32 × Int32 × Int32)) (s : Int32 × Int32) : f_X3_envy_41 FU k22 w a s.1 s.2 (nI p) (nI (p + 1)) th st = k22 a (evI w p s).1 (evI w p s).2 (nI (p + 1)) th st := by
  obtain ⟨e1, b1⟩ := Z.gP
  refine lp_up (fun n i (s : Int32 × Int32) => f_X3_envy_41 n k22 w a s.1 s.2 (nI p) (nI i) th st) (fun s => k22 a s.1 s.2 (nI (p + 1)) th st) (evF w p) (nP w) ?_ ?_ FU (p + 1) s (by omega) (FU_lt (by omega))
  · intro n s
    simp only [f_X3_envy_41]
    rw [e1, if_pos (nI_leR _), nI_1]
  · intro n i s hi
    simp only [f_X3_envy_41]
    rw [e1, if_neg (nI_ge hi (by omega)), m_of (k := 4) (by omega), Option.bind_some, nI_1, m_of (p := i) (k := 4) (by omega), Option.bind_some, Option.bind_some, Option.bind_some]
    unfold evF
    rcases Z.p4 (p := p) (by omega) with h1 | ⟨h1, h1'⟩
    · rw [if_pos h1, if_neg (by unfold evB; rw [decide_eq_true h1]; simp)]
    rw [if_neg (by rw [h1]; exact nI_m1 (by omega))]
    rcases Z.p4 (p := i) (by omega) with h2 | ⟨h2, h2'⟩
    · rw [if_pos h2, if_neg (by unfold evB; rw [decide_eq_true h2]; simp)]
    rw [if_neg (by rw [h2]; exact nI_m1 (by omega)), h2, m_isRather Z (by omega) h2' h1, Option.bind_some, h1, m_isRather Z (by omega) h1' h2, Option.bind_some]
    have hB : evB w p i = (raB w p (pN w i 4) (pN w p 4) && raB w i (pN w p 4) (pN w i 4)) := by
      unfold evB
      rw [decide_eq_false (by rw [h1]; exact nI_m1 (by omega)), decide_eq_false (by rw [h2]; exact nI_m1 (by omega))]
      rfl
    rw [hB]
    cases raB w p (pN w i 4) (pN w p 4)
    · rw [if_pos (show bI false = 0 from rfl)]; rfl
    rw [if_neg (show ¬ bI true = 0 by decide)]
    cases raB w i (pN w p 4) (pN w i 4)
    · rw [if_pos (show bI false = 0 from rfl)]; rfl
    rw [if_neg (show ¬ bI true = 0 by decide), if_pos (show (true && true) = true from rfl), pk_mul, nI_add]
    by_cases hs : s.1 = 0
    · rw [if_pos hs, if_pos hs]
    · rw [if_neg hs, if_neg hs]
theorem m_envy (Z : Rng w) : f_X3_envy w th st a = rA (an_envy w a) := by
  obtain ⟨e1, b1⟩ := Z.gP
  simp only [f_X3_envy, m_from, f_X3_refuse, Option.bind_some, an_envy, bI_0]
  by_cases hv : ir a 0 (nI 2) = false
  · rw [if_pos hv, if_pos hv]; rfl
  rw [if_neg hv, if_neg hv]
  have key := lp_up (fun n i (s : Int32 × Int32) => f_X3_envy_22 n w a s.1 s.2 (nI i) th st) (fun s => if a = 0 then rA (s.1, 0) else if s.1 = 0 then rA (-1, nI 5) else if a = 1 then rA (s.2 / nI 8, 0) else rA (s.2 - s.2 / nI 8 * nI 8, 0)) (evI w) (nP w) ?_ ?_ FU 0 (0, -1) (Nat.zero_le _) (FU_lt (by omega))
  · refine key.trans ?_
    show (if a = 0 then rA ((evS w).1, 0) else if (evS w).1 = 0 then rA (-1, nI 5) else if a = 1 then rA ((evS w).2 / nI 8, 0) else rA ((evS w).2 - (evS w).2 / nI 8 * nI 8, 0)) = _
    by_cases h0 : a = 0
    · rw [if_pos h0, if_pos h0]
    rw [if_neg h0, if_neg h0]
    by_cases h2 : (evS w).1 = 0
    · rw [if_pos h2, if_pos h2]
    rw [if_neg h2, if_neg h2]
    by_cases h1 : a = 1
    · rw [if_pos h1, if_pos h1]
    · rw [if_neg h1, if_neg h1]
  · intro n s
    simp only [f_X3_envy_22]
    rw [e1, if_pos (nI_leR _), show nz32 (nI 8) = true by decide, gdT, gdT]
    rfl
  · intro n i s hi
    simp only [f_X3_envy_22]
    rw [e1, if_neg (nI_ge hi (by omega)), nI_1]
    exact m_envy41 Z hi _ s
end PEV
section PEC
variable {A : Nat → Nat} {I : Nat → Int32} {M : Nat → Prop} {w : Rw} {st : Int32} {h h1 h2 h' : AH} {nx nx' n0 n1 n2 : Nat} {E : bE} {v a b u : Int32} {p x y N k q less : Nat} {f : Option (Int32 × AH × Nat × Nat)} {zs : Nat → Nat} {n : Nat}
theorem c_dearness (S : SN A I M w st h nx) (G : Gd w) (hp : p < nP w) (hx : x < nH w) : f_X1_dearness E h (A 0) (nI p) (nI x) = some (nI (dea w p x)) := by
  have b1 := G.1.gP.2
  have b2 := G.1.gH.2
  have h11 := G.1.p11 (p := p) (by omega)
  obtain ⟨⟨aH, eH, aP, eP, rN, rA, hm, hs, nh, np, tl, O, T, TI, ho, hM⟩, F, wk, rf, sc, la, oa, R, Q, L, K, s0, il, io, hOwn, hno⟩ := id S.1
  obtain ⟨w0, w1, w2, w3, w4, w5, w6, w7, w8⟩ := Q.2.1 p hp
  refine Eq.trans (lp_fd (fun m i => f_X1_dearness_2 m E h (A 0) (nI p) (nI x) (nI i)) (fun j => some (nI j)) (some (nI x)) (fun k => decide (pF w p (12 + k) = nI x)) (pN w p 11) ?_ ?_ FU 0 (Nat.zero_le _) (FU_lt (by omega))) ?_
  · intro m
    simp only [f_X1_dearness_2]
    rw [S.g2, Option.bind_some, R.g6, Option.bind_some, R.a6 (by omega), Option.bind_some, w5, h11.1, if_pos (nI_leR _)]
  · intro m i hi
    simp only [f_X1_dearness_2]
    rw [S.g2, Option.bind_some, R.g6, Option.bind_some, R.a6 (by omega), Option.bind_some, w5, h11.1, if_neg (nI_ge hi (by omega)), Option.bind_some, R.o1, gdT, c_wishAt R Q G.1 hp hi, Option.bind_some, nI_1]
    by_cases hw : pF w p (12 + i) = nI x
    · rw [if_pos hw, if_pos (decide_eq_true hw)]
    · rw [if_neg hw, if_neg (fun z => hw (of_decide_eq_true z))]
  · unfold dea wsh
    rw [Nat.sub_zero]
    cases fdN (fun k => decide (pF w p (12 + k) = nI x)) 0 (pN w p 11) <;> rfl
def wofN (w : Rw) (p x : Nat) : Nat := match wsh w p x with
  | some k => k
  | none => 6
theorem c_wishOf (S : SN A I M w st h nx) (G : Gd w) (hp : p < nP w) (hx : x < nH w) : f_X1_wishOf E h (A 0) (nI p) (nI x) = some (nI (wofN w p x)) := by
  obtain ⟨⟨aH, eH, aP, eP, rN, rA, hm, hs, nh, np, tl, O, T, TI, ho, hM⟩, F, wk, rf, sc, la, oa, R, Q, L, K, s0, il, io, hOwn, hno⟩ := id S.1
  simp only [f_X1_wishOf]
  rw [S.g2, Option.bind_some, R.o1, gdT, c_isWish R Q G.1 hp, Option.bind_some, S.i0, gdT, c_dearness S G hp hx, Option.bind_some]
  unfold wofN dea
  cases wsh w p x with
  | none => rw [if_pos (show bI (Option.isSome none) = 0 from rfl)]
  | some k => rw [if_neg (show ¬ bI (Option.isSome (some k)) = 0 from by show ¬ (1 : Int32) = 0; decide)]
theorem c_wouldRather (S : SN A I M w st h nx) (G : Gd w) (hp : p < nP w) (hq : q < nP w) : f_X1_wouldRather E h (A 0) (nI p) (nI q) = some (bI (!decide (pF w p 4 = -1) && !decide (pF w q 4 = -1) && raB w p (pN w q 4) (pN w p 4))) := by
  have b1 := G.1.gP.2
  have b2 := G.1.gH.2
  obtain ⟨⟨aH, eH, aP, eP, rN, rA, hm, hs, nh, np, tl, O, T, TI, ho, hM⟩, F, wk, rf, sc, la, oa, R, Q, L, K, s0, il, io, hOwn, hno⟩ := id S.1
  simp only [f_X1_wouldRather]
  rw [S.g2, Option.bind_some, R.g1, Option.bind_some, R.a1 (by omega), Option.bind_some, Option.bind_some, R.g1, Option.bind_some, R.a1 (by omega), Option.bind_some, (Q.2.1 p hp).1, (Q.2.1 q hq).1]
  rcases G.2.1.2.1 p hp with h1 | ⟨y, hy, h1, -⟩
  · rw [h1, if_pos (show (-1 : Int32) < 0 by decide)]
    rfl
  rcases G.2.1.2.1 q hq with h2 | ⟨x, hx, h2, -⟩
  · rw [h2, h1, if_neg (nI_pos (by omega)), if_pos (show (-1 : Int32) < 0 by decide)]
    simp [bI]
  have e1 : pN w p 4 = y := by show (pF w p 4).toNatClampNeg = y; rw [h1, nI_clamp (by omega)]
  have e2 : pN w q 4 = x := by show (pF w q 4).toNatClampNeg = x; rw [h2, nI_clamp (by omega)]
  rw [e1, e2, h1, h2, if_neg (nI_pos (by omega)), if_neg (nI_pos (by omega)), decide_eq_false (nI_m1 (by omega)), decide_eq_false (nI_m1 (by omega)), Option.bind_some, R.o1, gdT, c_isFitting R Q O T G.1 hp hx, Option.bind_some, S.i0, gdT, c_wishOf S G hp hx, Option.bind_some, gdT, c_wishOf S G hp hy, Option.bind_some]
  have h11 := G.1.p11 (p := p) (by omega)
  unfold raB wofN
  cases g1 : wsh w p x with
  | none =>
    dsimp only
    have : ∀ o : Option Nat, (∀ z, o = some z → z < pN w p 11) → nI (match o with | some k => k | none => 6) ≤ nI 6 := fun o ho => by
      cases o with
      | none => exact nI_leR _
      | some z =>
        show nI z ≤ nI 6
        exact nI_le (by have := ho z rfl; omega) (by decide)
    have h3 := this (wsh w p y) (fun z hz => wsh_lt hz)
    cases hd : dFit w p x
    · rw [if_pos (show bI false = 0 from rfl)]; rfl
    · rw [if_neg (show ¬ bI true = 0 by decide), if_pos h3]; rfl
  | some k =>
    have hk := wsh_lt g1
    dsimp only
    cases hd : dFit w p x
    · rw [if_pos (show bI false = 0 from rfl)]; rfl
    rw [if_neg (show ¬ bI true = 0 by decide)]
    cases g2 : wsh w p y with
    | none => dsimp only; rw [if_neg (nI_ge (by omega) (by decide))]; rfl
    | some j =>
      have hj := wsh_lt g2
      dsimp only
      by_cases hkj : k < j
      · rw [if_neg (nI_ge hkj (by omega)), decide_eq_true hkj]; rfl
      · rw [if_pos (nI_le (by omega) (by omega)), decide_eq_false hkj]; rfl
theorem y_envy51 (S : SN A I M w st h nx) (G : Gd w) (hp : p < nP w) (k33 : Nat → Int32 → Int32 → Int32 → Int32 → AH → Nat → Option (Int32 × AH × Nat × Nat)) (s : Int32 × Int32) : f_X1_envy_51 FU k33 E (A 0) a s.1 s.2 (nI p) (nI (p + 1)) h nx = k33 (A 0) a (evI w p s).1 (evI w p s).2 (nI (p + 1)) h nx := by
  have b1 := G.1.gP.2
  obtain ⟨⟨aH, eH, aP, eP, rN, rA, hm, hs, nh, np, tl, O, T, TI, ho, hM⟩, F, wk, rf, sc, la, oa, R, Q, L, K, s0, il, io, hOwn, hno⟩ := id S.1
  refine lp_up (fun m i (s : Int32 × Int32) => f_X1_envy_51 m k33 E (A 0) a s.1 s.2 (nI p) (nI i) h nx) (fun s => k33 (A 0) a s.1 s.2 (nI (p + 1)) h nx) (evF w p) (nP w) ?_ ?_ FU (p + 1) s (by omega) (FU_lt (by omega))
  · intro m s
    simp only [f_X1_envy_51]
    rw [O.g1, Option.bind_some, T.2.1.o, gdT, T.2.1.size, Option.bind_some, if_pos (nI_leR _), nI_1]
  · intro m i s hi
    simp only [f_X1_envy_51]
    rw [O.g1, Option.bind_some, T.2.1.o, gdT, T.2.1.size, Option.bind_some, if_neg (nI_ge hi (by omega)), S.i0, gdT, c_wouldRather S G hp hi, Option.bind_some, gdT, c_wouldRather S G hi hp, Option.bind_some, nI_1, pk_mul, nI_add]
    unfold evF evB
    cases g1 : decide (pF w p 4 = -1) <;> cases g2 : decide (pF w i 4 = -1) <;> cases g3 : raB w p (pN w i 4) (pN w p 4) <;> cases g4 : raB w i (pN w p 4) (pN w i 4) <;> simp [bI]
    by_cases hs : s.1 = 0 <;> simp [hs]
theorem y_envy (S : SN A I M w st h nx) (G : Gd w) : An A I M w h nx (f_X1_envy E h nx (A 0) a) (an_envy w a) := by
  have Z := G.1
  have b1 := Z.gP.2
  rw [f_X1_envy, lg_r a 0 (nI 2) (by decide) (by decide), Option.bind_some]
  unfold an_envy f_X1_envy_18
  cases hv : ir a 0 (nI 2)
  · rw [if_pos (show bI false = 0 from rfl), if_pos (show false = false from rfl)]
    exact An.cn S (by decide)
  rw [if_neg (show ¬ bI true = 0 by decide), if_neg (show ¬ true = false by nofun)]
  refine An.can0 S (fun h1 S1 q1' => ?_)
  simp only [Nat.add_zero]
  have key := lp_up (fun m i (s : Int32 × Int32) => f_X1_envy_33 m E (A 0) a s.1 s.2 (nI i) h1 nx) (fun s => if a = 0 then some (s.1, h1, 0, 0) else if s.1 = 0 then f_X1_none E h1 nx (A 0) (nI 5) else if a = 1 then some (s.2 / nI 8, h1, 0, 0) else some (s.2 - s.2 / nI 8 * nI 8, h1, 0, 0)) (evI w) (nP w) ?_ ?_ FU 0 (0, -1) (Nat.zero_le _) (FU_lt (by omega))
  · have k' : f_X1_envy_33 FU E (A 0) a 0 (-1) 0 h1 nx = (if a = 0 then some ((evS w).1, h1, 0, 0) else if (evS w).1 = 0 then f_X1_none E h1 nx (A 0) (nI 5) else if a = 1 then some ((evS w).2 / nI 8, h1, 0, 0) else some ((evS w).2 - (evS w).2 / nI 8 * nI 8, h1, 0, 0)) := key
    rw [k']
    by_cases h0 : a = 0
    · rw [if_pos h0, if_pos h0]; exact An.rd S1 rfl
    rw [if_neg h0, if_neg h0]
    by_cases h2 : (evS w).1 = 0
    · rw [if_pos h2, if_pos h2]
      obtain ⟨h2, e2, S2, q2⟩ := S1.no E (nI 5)
      exact An.at S2 q2 e2
    rw [if_neg h2, if_neg h2]
    by_cases h1 : a = 1
    · rw [if_pos h1, if_pos h1]; exact An.rd S1 rfl
    · rw [if_neg h1, if_neg h1]; exact An.rd S1 rfl
  · intro m s
    obtain ⟨⟨aH, eH, aP, eP, rN, rA, hm, hs, nh, np, tl, O, T, TI, ho, hM⟩, F, wk, rf, sc, la, oa, R, Q, L, K, s0, il, io, hOwn, hno⟩ := id S1.1
    simp only [f_X1_envy_33]
    rw [O.g1, Option.bind_some, T.2.1.o, gdT, T.2.1.size, Option.bind_some, if_pos (nI_leR _), show nz32 (nI 8) = true by decide, gdT, gdT, S1.i0, gdT, aC_id]
  · intro m i s hi
    have h51 := y_envy51 (E := E) (a := a) S1 G hi (f_X1_envy_33 m E) s
    obtain ⟨⟨aH, eH, aP, eP, rN, rA, hm, hs, nh, np, tl, O, T, TI, ho, hM⟩, F, wk, rf, sc, la, oa, R, Q, L, K, s0, il, io, hOwn, hno⟩ := id S1.1
    simp only [f_X1_envy_33]
    rw [O.g1, Option.bind_some, T.2.1.o, gdT, T.2.1.size, Option.bind_some, if_neg (nI_ge hi (by omega)), nI_1]
    exact h51
end PEC
