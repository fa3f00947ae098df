/-! THE COMPONENT's side: lets, turns, the order -/
def LetsH (h : AH) (nl : Nat) (la : Nat → Nat) (w : Rw) : Prop := nl = nL w ∧ ∀ i, i < nL w → h (la i) = some (.inr (.inl (7, [.int (lF w i 0), .int (lF w i 1), .int (lF w i 2), .int (lF w i 3), .int (lF w i 6), .int (lF w i 7), .int (lF w i 4), .int (lF w i 5 &&& 1), .int (lF w i 5 >>> (1 &&& 31)), .int (bI (decide (pF w (lN_ w i 0) 2 = hF w (lN_ w i 1) 1)))])))
def tdB (w : Rw) (x p : Nat) : Bool := lcl w x && decide (pF w p 2 = hF w x 1)
def mvB (w : Rw) (p : Nat) : Bool := qta w && !decide (pF w p 4 < 0)
def btI (w : Rw) (lf lb : Int32) (p : Nat) : Int32 := bnI w p - (if nI p = lf then lb else 0)
def plI (w : Rw) (lf lb : Int32) (a b : Nat) : Int32 := if btI w lf lb a - btI w lf lb b = 0 then (if pF w a 3 - pF w b 3 = 0 then (if nI a - nI b = 0 then 0 else nI a - nI b) else pF w a 3 - pF w b 3) else btI w lf lb a - btI w lf lb b
def cmI (w : Rw) (lf lb : Int32) (x a b : Nat) : Int32 := if bI (tdB w x b) - bI (tdB w x a) = 0 then (if bI (mvB w b) - bI (mvB w a) = 0 then (if plI w lf lb a b = 0 then 0 else plI w lf lb a b) else bI (mvB w b) - bI (mvB w a)) else bI (tdB w x b) - bI (tdB w x a)
theorem one_b (b : Bool) : f_X1_one (bI b) = some (bI b) := by cases b <;> rfl
section PCM
variable {w : Rw} {p x i k a b : Nat} {E : bE}
variable {h : AH} {o r eL eO_ : Nat} {F : Nat → Nat → Int32} {wk rf : Int32} {sc : Int32 × Int32 × Int32 × Int32} {nl : Nat} {la : Nat → Nat} {no : Nat} {oa : Nat → Nat} {cL cO : Nat} {aH eH aP eP rN rA : Nat} {hm hs nh np tl : Nat → Nat}
theorem c_letsIn (R : RegH h o r eL eO_ F wk rf sc nl la no oa cL cO) (O : ObjO h o aH aP rN rA) (T : Told h aH eH aP eP hm hs nh np tl w) (Z : Rng w) (C : Con w) (L : LetsH h nl la w) {d : Int32} : f_X2_letsIn E h r d = some (nI (lcN w d)) := by
  obtain ⟨e1, e2⟩ := Z.gL
  have RL := R.2.2.1
  rw [L.1] at RL
  refine (lp_up (fun n i s => f_X2_letsIn_4 n E h r d (nI s) (nI i)) (fun s => some (nI s)) (fun i s => s + if decide (hF w (lN_ w i 1) 1 = d) = true then 1 else 0) (nL w) ?_ ?_ FU 0 0 (Nat.zero_le _) (FU_lt (by omega)))
  · intro n s
    simp only [f_X2_letsIn_4, R.g15, Option.bind_some, RL.o, gdT, RL.size]
    rw [if_pos (nI_leR _)]
  · intro n i s hi
    have h1 := L.2 i hi
    have c1 := C.2.2.2.2.1 i hi
    have g7 : isO h (la i) 7 = true := by simp [isO, h1]
    have g1 : gI h (la i) 7 1 = some (lF w i 1) := by simp [gI, rd, h1, vI]
    simp only [f_X2_letsIn_4, R.g15, R.g26, Option.bind_some, RL.o, gdT, RL.size, RL.get hi, g7, g1, O.i0]
    rw [if_neg (nI_ge hi (by omega)), (Z.l1 (i := i) (by omega)).1, T.homeAt O c1.2.1, Option.bind_some, T.ward c1.2.1, Option.bind_some]
    simp only [f_X2_letsIn_49]
    by_cases hb : hF w (lN_ w i 1) 1 = d
    · rw [if_pos hb, decide_eq_true hb]; simp [f_X1_one, nI_1]
    · rw [if_neg hb, decide_eq_false hb]; simp [f_X1_one, nI_1]
theorem c_isLocalTurn (R : RegH h o r eL eO_ F wk rf sc nl la no oa cL cO) (Q : RelF F wk rf w) (O : ObjO h o aH aP rN rA) (T : Told h aH eH aP eP hm hs nh np tl w) (Z : Rng w) (C : Con w) (L : LetsH h nl la w) (hx : x < nH w) : f_X2_isLocalTurn E h r (nI x) = some (bI (lcl w x)) := by
  obtain ⟨e1, e2⟩ := Z.gLo
  simp only [f_X2_isLocalTurn, R.g0, R.g26, R.o1, Option.bind_some, O.i0, gdT, T.homeAt O hx, T.ward hx, c_letsIn R O T Z C L]
  rw [R.a0 (by decide), Option.bind_some, Q.1 2 (by decide), Option.bind_some]
  unfold lcl
  by_cases h0 : w 226 = 0
  · rw [if_pos (by rw [h0]; exact Int32.le_refl _), decide_eq_true h0]; rfl
  · have h1 : ¬ w 226 ≤ 0 := by
      rw [e1] at h0 ⊢
      exact nI_nle (by rcases Nat.eq_zero_or_pos (wN w 226) with z | z; (rw [z] at h0; exact absurd rfl h0); exact z) (by omega)
    rw [if_neg h1, decide_eq_false h0, gd_e (show nz32 (w 226) = true from decide_eq_true h0), nI_1]
    exact bI_ite _
theorem c_movedMany (R : RegH h o r eL eO_ F wk rf sc nl la no oa cL cO) (Z : Rng w) (L : LetsH h nl la w) : f_X2_movedMany E h r = some (nI (lvd w)) := by
  obtain ⟨e1, e2⟩ := Z.gL
  have RL := R.2.2.1
  rw [L.1] at RL
  refine (lp_up (fun n i s => f_X2_movedMany_4 n E h r (nI s) (nI i)) (fun s => some (nI s)) (fun i s => s + if lvb w i = true then 1 else 0) (nL w) ?_ ?_ FU 0 0 (Nat.zero_le _) (FU_lt (by omega)))
  · intro n s
    simp only [f_X2_movedMany_4, R.g15, Option.bind_some, RL.o, gdT, RL.size]
    rw [if_pos (nI_leR _)]
  · intro n i s hi
    have h1 := L.2 i hi
    have g7 : isO h (la i) 7 = true := by simp [isO, h1]
    have g1 : gI h (la i) 7 8 = some (lF w i 5 >>> (1 &&& 31)) := by simp [gI, rd, h1, vI]
    simp only [f_X2_movedMany_4, R.g15, Option.bind_some, RL.o, gdT, RL.size, RL.get hi, g7, g1]
    rw [if_neg (nI_ge hi (by omega)), nI_1]
    unfold f_X1_one lvb
    by_cases hb : lF w i 5 >>> (1 &&& 31) = 0
    · rw [if_pos hb, decide_eq_true hb]; simp
    · rw [if_neg hb, decide_eq_false hb]; simp [nI_1]
theorem c_isQuotaTurn (R : RegH h o r eL eO_ F wk rf sc nl la no oa cL cO) (Q : RelF F wk rf w) (Z : Rng w) (L : LetsH h nl la w) : f_X2_isQuotaTurn E h r = some (bI (qta w)) := by
  obtain ⟨e1, e2⟩ := Z.gL
  have RL := R.2.2.1
  rw [L.1] at RL
  simp only [f_X2_isQuotaTurn, R.o1, gdT, c_movedMany R Z L, Option.bind_some, R.g0, R.g15, RL.o, RL.size]
  rw [R.a0 (by decide), Option.bind_some, Q.1 3 (by decide), ← e1]
  unfold qta
  by_cases hb : w 227 * w 233 ≤ nI 100 * nI (lvd w)
  · rw [if_pos hb, decide_eq_false (Int32.not_lt.mpr hb)]; rfl
  · rw [if_neg hb, decide_eq_true (Int32.not_le.mp hb)]; rfl
theorem c_hasTie (R : RegH h o r eL eO_ F wk rf sc nl la no oa cL cO) (O : ObjO h o aH aP rN rA) (T : Told h aH eH aP eP hm hs nh np tl w) (hp : p < nP w) (hx : x < nH w) : f_X2_hasTie E h r (nI p) (nI x) = some (bI (decide (pF w p 2 = hF w x 1))) := by
  simp only [f_X2_hasTie, R.g26, Option.bind_some, O.i0, gdT, T.houseAt O hp, T.o6 hp, T.tie hp, T.homeAt O hx, T.ward hx]
  exact bI_ite _
theorem c_isTied (R : RegH h o r eL eO_ F wk rf sc nl la no oa cL cO) (Q : RelF F wk rf w) (O : ObjO h o aH aP rN rA) (T : Told h aH eH aP eP hm hs nh np tl w) (Z : Rng w) (C : Con w) (L : LetsH h nl la w) (hp : p < nP w) (hx : x < nH w) (hsc : sc.1 = nI x) : f_X2_isTied E h r (nI p) = some (bI (tdB w x p)) := by
  simp only [f_X2_isTied, R.g19, hsc, R.o1, gdT, Option.bind_some, c_isLocalTurn R Q O T Z C L hx, c_hasTie R O T hp hx, bI_0, tdB]
  cases lcl w x <;> cases decide (pF w p 2 = hF w x 1) <;> simp [bI]
theorem c_isMoving (R : RegH h o r eL eO_ F wk rf sc nl la no oa cL cO) (Q : RelF F wk rf w) (Z : Rng w) (L : LetsH h nl la w) (hp : p < nP w) : f_X2_isMoving E h r (nI p) = some (bI (mvB w p)) := by
  have e2 := Z.gP.2
  simp only [f_X2_isMoving, R.o1, gdT, c_isQuotaTurn R Q Z L, Option.bind_some, R.g1, bI_0, mvB]
  rw [R.a1 (by omega), Option.bind_some, (Q.2.1 p hp).1]
  cases qta w <;> by_cases h1 : pF w p 4 < 0 <;> simp [h1, bI]
theorem c_bandThought (R : RegH h o r eL eO_ F wk rf sc nl la no oa cL cO) (Q : RelF F wk rf w) (O : ObjO h o aH aP rN rA) (T : Told h aH eH aP eP hm hs nh np tl w) (Z : Rng w) (hp : p < nP w) : f_X2_bandThought E h r (nI p) = some (btI w sc.2.1 sc.2.2.1 p) := by
  simp only [f_X2_bandThought, R.o1, gdT, c_bandNow R Q O T Z hp, Option.bind_some, R.g20, R.g21, btI]
  split <;> rfl
theorem c_dayOf (R : RegH h o r eL eO_ F wk rf sc nl la no oa cL cO) (O : ObjO h o aH aP rN rA) (T : Told h aH eH aP eP hm hs nh np tl w) (hp : p < nP w) : f_X2_dayOf E h r (nI p) = some (pF w p 3) := by
  simp only [f_X2_dayOf, R.g26, Option.bind_some, O.i0, gdT, T.houseAt O hp, T.o6 hp, T.day hp]
/-! through the interfaces -/
variable {zs : Nat → Nat} {n nx : Nat}
theorem E_is {q k : Nat} {vs : List Value} {v : Int32} (hq : h q = some (.inr (.inr (k, vs)))) : (dE zs (n + 1)).2.1 h nx q v = dISk (dE zs n) h nx k vs v := by simp [dE, dIS, hq]
theorem E_of {q k : Nat} {vs : List Value} {v : Int32} (hq : h q = some (.inr (.inr (k, vs)))) : (dE zs (n + 1)).2.2.2 h nx q v = dOFk (dE zs n) h nx k vs v := by simp [dE, dOF, hq]
theorem E_by {q k : Nat} {vs : List Value} {v v2 : Int32} (hq : h q = some (.inr (.inr (k, vs)))) : (dE zs (n + 1)).2.2.1 h nx q v v2 = dBYk (dE zs n) h nx k vs v v2 := by simp [dE, dBY, hq]
theorem RegH.kk (R : RegH h o r eL eO_ F wk rf sc nl la no oa cL cO) (i : Nat) (h1 : 20 ≤ i) (h2 : i < 41) : h (r + i) = some (rK r i) := R.2.2.2.2.1 i h1 h2
theorem c_of6 (R : RegH h o r eL eO_ F wk rf sc nl la no oa cL cO) (Q : RelF F wk rf w) (O : ObjO h o aH aP rN rA) (T : Told h aH eH aP eP hm hs nh np tl w) (Z : Rng w) (hp : p < nP w) : (dE zs (n + 1)).2.2.2 h nx (r + 28) (nI p) = some (btI w sc.2.1 sc.2.2.1 p, h, 0, 0) := by
  rw [E_of (R.kk 28 (by decide) (by decide))]
  show lL6 (dE zs n) h nx [.ref r] (nI p) = _
  simp only [lL6, R.o1, gdT, c_bandThought R Q O T Z hp, Option.bind_some]
theorem c_of8 (R : RegH h o r eL eO_ F wk rf sc nl la no oa cL cO) (O : ObjO h o aH aP rN rA) (T : Told h aH eH aP eP hm hs nh np tl w) (hp : p < nP w) : (dE zs (n + 1)).2.2.2 h nx (r + 30) (nI p) = some (pF w p 3, h, 0, 0) := by
  rw [E_of (R.kk 30 (by decide) (by decide))]
  show lL8 (dE zs n) h nx [.ref r] (nI p) = _
  simp only [lL8, R.o1, gdT, c_dayOf R O T hp, Option.bind_some]
theorem c_of9 (R : RegH h o r eL eO_ F wk rf sc nl la no oa cL cO) : (dE zs (n + 1)).2.2.2 h nx (r + 32) (nI p) = some (nI p, h, 0, 0) := by
  rw [E_of (R.kk 32 (by decide) (by decide))]
  show lL9 (dE zs n) h nx [.ref r] (nI p) = _
  simp only [lL9, R.o1, gdT, f_X2_numberOf, Option.bind_some]
theorem aC0 {α : Type} (v : α × AH × Nat × Nat) : aC 0 0 (some v) = some v := by simp [aC]
theorem aC00 {α : Type} (o : Option (α × AH × Nat × Nat)) : aC 0 0 o = o := by cases o <;> simp [aC]
theorem c_by6 (R : RegH h o r eL eO_ F wk rf sc nl la no oa cL cO) (Q : RelF F wk rf w) (O : ObjO h o aH aP rN rA) (T : Told h aH eH aP eP hm hs nh np tl w) (Z : Rng w) (ha : a < nP w) (hb : b < nP w) : (dE zs (n + 2)).2.2.1 h nx (r + 29) (nI a) (nI b) = some (btI w sc.2.1 sc.2.2.1 a - btI w sc.2.1 sc.2.2.1 b, h, 0, 0) := by
  rw [E_by (R.kk 29 (by decide) (by decide))]
  show lL7 (dE zs (n + 1)) h nx [.ref (r + 28)] (nI a) (nI b) = _
  simp only [lL7, f_X1_lambda_rising_1, c_of6 R Q O T Z ha, c_of6 R Q O T Z hb, Option.bind_some, aC00]
theorem c_by8 (R : RegH h o r eL eO_ F wk rf sc nl la no oa cL cO) (O : ObjO h o aH aP rN rA) (T : Told h aH eH aP eP hm hs nh np tl w) (ha : a < nP w) (hb : b < nP w) : (dE zs (n + 2)).2.2.1 h nx (r + 31) (nI a) (nI b) = some (pF w a 3 - pF w b 3, h, 0, 0) := by
  rw [E_by (R.kk 31 (by decide) (by decide))]
  show lL7 (dE zs (n + 1)) h nx [.ref (r + 30)] (nI a) (nI b) = _
  simp only [lL7, f_X1_lambda_rising_1, c_of8 R O T ha, c_of8 R O T hb, Option.bind_some, aC00]
theorem c_by9 (R : RegH h o r eL eO_ F wk rf sc nl la no oa cL cO) : (dE zs (n + 2)).2.2.1 h nx (r + 33) (nI a) (nI b) = some (nI a - nI b, h, 0, 0) := by
  rw [E_by (R.kk 33 (by decide) (by decide))]
  show lL7 (dE zs (n + 1)) h nx [.ref (r + 32)] (nI a) (nI b) = _
  simp only [lL7, f_X1_lambda_rising_1, c_of9 R, Option.bind_some, aC00]
/-- a row of three steps -/
theorem c_turn3 {E1 : bE} {q q0 q1 q2 : Nat} {v v2 d0 d1 d2 : Int32} {m : Nat} {g : Nat → Option Nat} (hq : h q = some (.inl (6, 3, .inr (.inr (.inr (.inr g)))))) (g0 : g 0 = some q0) (g1 : g 1 = some q1) (g2 : g 2 = some q2)
    (e0 : E1.2.2.1 h nx q0 v v2 = some (d0, h, 0, 0)) (e1 : E1.2.2.1 h nx q1 v v2 = some (d1, h, 0, 0)) (e2 : E1.2.2.1 h nx q2 v v2 = some (d2, h, 0, 0)) :
    f_X1_lambda_inTurn_0 E1 h nx q v v2 = some (if d0 = 0 then (if d1 = 0 then (if d2 = 0 then 0 else d2) else d1) else d0, h, 0, 0) := by
  have hl : aL h q = some (nI 3) := by simp [aL, hq]; rfl
  have ha : ∀ j qj, g j = some qj → j < 3 → aR h q 6 (nI j) = some qj := by
    intro j qj hg hj
    simp only [aR, arR, hq, if_true, Option.bind_some]
    rw [gdn ⟨hj, by decide⟩, nI_clamp (by omega)]
    exact hg
  simp only [f_X1_lambda_inTurn_0, hl, Option.bind_some]
  have stp : ∀ (m j qj : Nat) (dj : Int32), g j = some qj → j < 3 → E1.2.2.1 h nx qj v v2 = some (dj, h, 0, 0) → f_X1_lambda_inTurn_0_9 (m + 1) E1 v v2 q (nI 3) (nI j) h nx = if dj = 0 then f_X1_lambda_inTurn_0_9 m E1 v v2 q (nI 3) (nI (j + 1)) h nx else some (dj, h, 0, 0) := by
    intro m j qj dj hg hj he
    simp only [f_X1_lambda_inTurn_0_9]
    rw [if_neg (nI_ge hj (by decide)), ha j qj hg hj, Option.bind_some, he, Option.bind_some, aC00, nI_1]
    rfl
  show f_X1_lambda_inTurn_0_9 (9996 + 4) E1 v v2 q (nI 3) (nI 0) h nx = _
  rw [stp _ 0 q0 d0 g0 (by decide) e0, stp _ 1 q1 d1 g1 (by decide) e1, stp _ 2 q2 d2 g2 (by decide) e2]
  have fin : ∀ m : Nat, f_X1_lambda_inTurn_0_9 (m + 1) E1 v v2 q (nI 3) (nI (2 + 1)) h nx = some (0, h, 0, 0) := by
    intro m
    simp only [f_X1_lambda_inTurn_0_9]
    rw [if_pos (nI_le (by decide) (by decide))]
  rw [fin 9996]
  by_cases h0 : d0 = 0 <;> by_cases h1 : d1 = 0 <;> by_cases h2 : d2 = 0 <;> simp [h0, h1, h2]
theorem c_plain (R : RegH h o r eL eO_ F wk rf sc nl la no oa cL cO) (Q : RelF F wk rf w) (O : ObjO h o aH aP rN rA) (T : Told h aH eH aP eP hm hs nh np tl w) (Z : Rng w) (ha : a < nP w) (hb : b < nP w) : (dE zs (n + 3)).2.2.1 h nx (r + 34) (nI a) (nI b) = some (plI w sc.2.1 sc.2.2.1 a b, h, 0, 0) := by
  rw [E_by (R.kk 34 (by decide) (by decide))]
  show lL10 (dE zs (n + 2)) h nx [.ref (r + 27)] (nI a) (nI b) = _
  simp only [lL10]
  exact c_turn3 (m := 0) (R.kk 27 (by decide) (by decide)) rfl rfl rfl (c_by6 R Q O T Z ha hb) (c_by8 R O T ha hb) (c_by9 R)
theorem c_is11 (R : RegH h o r eL eO_ F wk rf sc nl la no oa cL cO) (Q : RelF F wk rf w) (O : ObjO h o aH aP rN rA) (T : Told h aH eH aP eP hm hs nh np tl w) (Z : Rng w) (C : Con w) (L : LetsH h nl la w) (hp : p < nP w) (hx : x < nH w) (hsc : sc.1 = nI x) : (dE zs (n + 1)).2.1 h nx (r + 36) (nI p) = some (bI (tdB w x p), h, 0, 0) := by
  rw [E_is (R.kk 36 (by decide) (by decide))]
  show lL11 (dE zs n) h nx [.ref r] (nI p) = _
  simp only [lL11, R.o1, gdT, c_isTied R Q O T Z C L hp hx hsc, Option.bind_some]
theorem c_is13 (R : RegH h o r eL eO_ F wk rf sc nl la no oa cL cO) (Q : RelF F wk rf w) (Z : Rng w) (L : LetsH h nl la w) (hp : p < nP w) : (dE zs (n + 1)).2.1 h nx (r + 38) (nI p) = some (bI (mvB w p), h, 0, 0) := by
  rw [E_is (R.kk 38 (by decide) (by decide))]
  show lL13 (dE zs n) h nx [.ref r] (nI p) = _
  simp only [lL13, R.o1, gdT, c_isMoving R Q Z L hp, Option.bind_some]
theorem c_order (R : RegH h o r eL eO_ F wk rf sc nl la no oa cL cO) (Q : RelF F wk rf w) (O : ObjO h o aH aP rN rA) (T : Told h aH eH aP eP hm hs nh np tl w) (Z : Rng w) (C : Con w) (L : LetsH h nl la w) (ha : a < nP w) (hb : b < nP w) (hx : x < nH w) (hsc : sc.1 = nI x) : (dE zs (n + 5)).2.2.1 h nx (r + 40) (nI a) (nI b) = some (cmI w sc.2.1 sc.2.2.1 x a b, h, 0, 0) := by
  rw [E_by (R.kk 40 (by decide) (by decide))]
  show lL10 (dE zs (n + 4)) h nx [.ref (r + 35)] (nI a) (nI b) = _
  simp only [lL10]
  refine c_turn3 (m := 0) (R.kk 35 (by decide) (by decide)) rfl rfl rfl ?_ ?_ (c_plain R Q O T Z (n := n + 1) ha hb)
  · rw [E_by (R.kk 37 (by decide) (by decide))]
    show lL12 (dE zs (n + 3)) h nx [.ref (r + 36)] (nI a) (nI b) = _
    simp only [lL12, f_X1_lambda_sooner_2, c_is11 R Q O T Z C L ha hx hsc, c_is11 R Q O T Z C L hb hx hsc, Option.bind_some, aC00, one_b]
  · rw [E_by (R.kk 39 (by decide) (by decide))]
    show lL12 (dE zs (n + 3)) h nx [.ref (r + 38)] (nI a) (nI b) = _
    simp only [lL12, f_X1_lambda_sooner_2, c_is13 R Q Z L ha, c_is13 R Q Z L hb, Option.bind_some, aC00, one_b]
end PCM
