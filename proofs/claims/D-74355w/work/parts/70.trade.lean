/-! trade, trades: what both compute, the reference's side -/
def cls (n m : Nat) : Nat := n &&& (1023 ^^^ m)
def lkB (w : Rw) (L p k : Nat) : Bool := !decide (hF w (pN w p (12 + k)) 2 = -1) && L.testBit (hN_ w (pN w p (12 + k)) 2) && dFit w p (pN w p (12 + k))
def lkI (w : Rw) (L p : Nat) : Option Nat := fdN (lkB w L p) 0 (pN w p 11)
def lk (w : Rw) (L p : Nat) : Nat := match lkI w L p with
  | some k => hN_ w (pN w p (12 + k)) 2
  | none => p
def gtV (w : Rw) (L p : Nat) : Int32 := pF w (lk w L p) 4
def itN (w : Rw) (L : Nat) : Nat → Nat → Nat
  | 0, p => p
  | k + 1, p => itN w L k (lk w L p)
def crc (w : Rw) (L : Nat) : Nat → Nat → Nat → (Nat → Int32) → Nat × (Nat → Int32)
  | 0, _, c, g => (c, g)
  | n + 1, p, c, g => if c.testBit p = true then (c, g) else crc w L n (lk w L p) (c ||| 2 ^ p) (upd g p (gtV w L p))
def tz (n : Nat) : Nat := match fdN (fun i => n.testBit i) 0 10 with
  | some j => j
  | none => 0
abbrev tS : Type := Int32 × Int32 × (Nat → Int32)
def trC (w : Rw) (L : Nat) (g : Nat → Int32) : Nat × (Nat → Int32) := crc w L 9 (itN w L 8 (tz L)) 0 g
def trS (w : Rw) : Nat → Nat → tS → tS
  | 0, _, s => s
  | n + 1, L, s => if L = 0 then s else trS w n (cls L (trC w L s.2.2).1) (s.1 + (if pc (trC w L s.2.2).1 ≤ 1 then 0 else 1), mx32 s.2.1 (nI (pc (trC w L s.2.2).1)), (trC w L s.2.2).2)
def lvP (w : Rw) (p : Nat) : Bool := !decide (pF w p 4 = -1)
def liv (w : Rw) : Nat := stN (lvP w) (nP w)
def trR (w : Rw) : tS := trS w 300 (liv w) (0, 0, fun _ => -1)
def an_trade (w : Rw) (a : Int32) : Int32 × Int32 := if isHs w a = false then (-1, nI 2) else if pF w a.toNatClampNeg 4 = -1 then (-1, nI 5) else ((trR w).2.2 a.toNatClampNeg, 0)
def an_trades (w : Rw) (a : Int32) : Int32 × Int32 := if ir a 0 (nI 2) = false then (-1, 1) else if a = 0 then (nI (cnN (fun p => !decide ((trR w).2.2 p = pF w p 4)) (nP w)), 0) else if a = 1 then ((trR w).1, 0) else ((trR w).2.1, 0)
section PTR
variable {w : Rw} {th st ac a b : Int32} {p q x y i s d g k L c : Nat} {gt : Nat → Int32}
theorem m_tz : ∀ n, n < 256 → n ≠ 0 → f_J5_numberOfTrailingZeros (nI n) = some (nI (tz n)) ∧ tz n < 8 ∧ n.testBit (tz n) = true := by decide +kernel
theorem cls_tb {n m j : Nat} (hn : n < 1024) : (cls n m).testBit j = (n.testBit j && !m.testBit j) := by
  unfold cls
  rw [Nat.testBit_and, Nat.testBit_xor]
  by_cases hj : j < 10
  · rw [show (1023 : Nat).testBit j = true by
      have : ∀ j, j < 10 → (1023 : Nat).testBit j = true := by decide
      exact this j hj]
    cases m.testBit j <;> simp
  · rw [show n.testBit j = false from Nat.testBit_lt_two_pow (Nat.lt_of_lt_of_le hn (Nat.pow_le_pow_right (n := 2) (i := 10) (by decide) (by omega)))]
    rfl
theorem cls_n {n m : Nat} (hn : n < 1024) (hm : m < 1024) : nI n &&& (nI m ^^^ (-1)) = nI (cls n m) := by
  have hb : ∀ (a i : Nat), (nI a).toBitVec.getLsbD i = (decide (i < 32) && a.testBit i) := fun a i => by
    show (BitVec.ofNat 32 a).getLsbD i = _
    rw [BitVec.getLsbD_ofNat]
  apply Int32.toBitVec_inj.mp
  apply BitVec.eq_of_getLsbD_eq
  intro i hi
  rw [Int32.toBitVec_and, Int32.toBitVec_xor, BitVec.getLsbD_and, BitVec.getLsbD_xor, hb, hb, hb, cls_tb hn, show (-1 : Int32).toBitVec = BitVec.allOnes 32 by decide, BitVec.getLsbD_allOnes]
  cases n.testBit i <;> cases m.testBit i <;> simp [hi]
theorem cls_lt {n m j : Nat} (hn : n < 1024) (h1 : n.testBit j = true) (h2 : m.testBit j = true) : cls n m < n := by
  have hle : cls n m ≤ n := Nat.and_le_left
  rcases Nat.lt_or_eq_of_le hle with h | h
  · exact h
  · have := cls_tb (n := n) (m := m) (j := j) hn
    rw [h, h1, h2] at this
    cases this
/-- a set of houses that live in homes -/
def LvS (w : Rw) (L : Nat) : Prop := ∀ p, L.testBit p = true → p < nP w ∧ lvP w p = true
theorem lv_x (C : Con w) (hp : p < nP w) (hl : lvP w p = true) : ∃ x, x < nH w ∧ pF w p 4 = nI x ∧ hF w x 2 = nI p := by
  unfold lvP at hl
  rw [Bool.not_eq_true', decide_eq_false_iff_not] at hl
  rcases C.2.1 p hp with h | h
  · exact absurd h hl
  · exact h
theorem LvS.lt (V : LvS w L) (hP : nP w ≤ 8) : L < 256 := by
  apply Nat.lt_of_not_le
  intro h
  obtain ⟨j, h1, h2⟩ := Nat.exists_ge_and_testBit_of_ge_two_pow (n := 8) (x := L) h
  have := (V j h2).1
  omega
theorem LvS.cls (V : LvS w L) (hL : L < 1024) : LvS w (cls L c) := fun p hp => by
  rw [cls_tb hL, Bool.and_eq_true] at hp
  exact V p hp.1
theorem liv_S : LvS w (liv w) := fun p hp => by
  unfold liv at hp
  rw [stN_tb, Bool.and_eq_true] at hp
  exact ⟨of_decide_eq_true hp.1, hp.2⟩
/-- whom one looks at is of the set -/
theorem lk_in (Z : Rng w) (C : Con w) (V : LvS w L) (hp : L.testBit p = true) : L.testBit (lk w L p) = true ∧ gtV w L p = (match lkI w L p with
    | some k => pF w p (12 + k)
    | none => pF w p 4) := by
  have b1 := Z.gP.2
  have b3 := Z.gH.2
  have hp1 := (V p hp).1
  have h11 := Z.p11 (p := p) (by omega)
  unfold gtV lk
  cases h : lkI w L p with
  | none => exact ⟨hp, rfl⟩
  | some k =>
    obtain ⟨h1, h2, h3, -⟩ := fdN_some h
    unfold lkB at h3
    rw [Bool.and_eq_true, Bool.and_eq_true, Bool.not_eq_true', decide_eq_false_iff_not] at h3
    dsimp only
    refine ⟨h3.1.2, ?_⟩
    have hx := C.2.2.1 p k hp1 (by omega)
    rcases C.1 _ hx with z | ⟨q, hq, z1, z2⟩
    · exact absurd z h3.1.1
    · have : hN_ w (pN w p (12 + k)) 2 = q := by show (hF w _ 2).toNatClampNeg = q; rw [z1, nI_clamp (by omega)]
      rw [this, z2, ← (Z.pw (p := p) (k := k) (by omega) (by omega)).1]
theorem m_looksAt (Z : Rng w) (C : Con w) (V : LvS w L) (hp : L.testBit p = true) : ∃ x, x < 10 ∧ f_X3_looksAt w (nI p) (nI L) = some (nI x) ∧ gtV w L p = nI x ∧ hF w x 2 = nI (lk w L p) := by
  have b1 := Z.gP.2
  have b3 := Z.gH.2
  have hL := V.lt b1
  obtain ⟨hp1, hp2⟩ := V p hp
  have h11 := Z.p11 (p := p) (by omega)
  obtain ⟨x0, y1, y2, y3⟩ := lv_x C hp1 hp2
  have key : f_X3_looksAt w (nI p) (nI L) = match lkI w L p with
      | some k => some (pF w p (12 + k))
      | none => some (pF w p 4) := by
    refine Eq.trans (lp_fd (fun n i => f_X3_looksAt_2 n w (nI p) (nI L) (nI i)) (fun k => some (pF w p (12 + k))) (some (pF w p 4)) (lkB w L p) (pN w p 11) ?_ ?_ FU 0 (Nat.zero_le _) (FU_lt (by omega))) ?_
    · intro n
      simp only [f_X3_looksAt_2]
      rw [m_of (k := 11) (by omega), Option.bind_some, h11.1, if_pos (nI_leR _), m_of (k := 4) (by omega), Option.bind_some]
    · intro n i hi
      have hx := C.2.2.1 p i hp1 hi
      have hw := (Z.pw (p := p) (k := i) (by omega) (by omega)).1
      simp only [f_X3_looksAt_2]
      rw [m_of (k := 11) (by omega), Option.bind_some, h11.1, if_neg (nI_ge hi (by omega)), nI_add, m_of (by omega), Option.bind_some, hw, m_h0 (k := 2) (by omega), Option.bind_some, nI_1, m_doesFit (by omega) (by omega), Option.bind_some]
      unfold lkB
      rcases C.1 _ hx with z | ⟨q, hq, z1, z2⟩
      · rw [if_pos z, z]; rfl
      · have e : hN_ w (pN w p (12 + i)) 2 = q := by show (hF w _ 2).toNatClampNeg = q; rw [z1, nI_clamp (by omega)]
        rw [z1, if_neg (nI_m1 (by omega)), btV L (by omega) q (by omega), decide_eq_false (nI_m1 (by omega)), e]
        cases hb : L.testBit q
        · rw [if_neg (show ¬ bI false = 1 by decide)]; rfl
        · rw [if_pos (show bI true = 1 from rfl)]
          cases dFit w p (pN w p (12 + i))
          · rw [if_pos (show bI false = 0 from rfl)]; rfl
          · rw [if_neg (show ¬ bI true = 0 by decide)]; rfl
    · rw [Nat.sub_zero]; rfl
  have hin := lk_in Z C V hp
  rw [key, hin.2]
  unfold lk
  cases h : lkI w L p with
  | none => exact ⟨x0, by omega, congrArg some y2, y2, y3⟩
  | some k =>
    obtain ⟨h1, h2, h3, -⟩ := fdN_some h
    unfold lkB at h3
    rw [Bool.and_eq_true, Bool.and_eq_true, Bool.not_eq_true', decide_eq_false_iff_not] at h3
    have hx := C.2.2.1 p k hp1 (by omega)
    have hw := (Z.pw (p := p) (k := k) (by omega) (by omega)).1
    refine ⟨pN w p (12 + k), by omega, congrArg some hw, hw, ?_⟩
    rcases C.1 _ hx with z | ⟨q, hq, z1, z2⟩
    · exact absurd z h3.1.1
    · rw [z1]
      show nI q = nI (hN_ w (pN w p (12 + k)) 2)
      have : hN_ w (pN w p (12 + k)) 2 = q := by show (hF w _ 2).toNatClampNeg = q; rw [z1, nI_clamp (by omega)]
      rw [this]
theorem itN_in (Z : Rng w) (C : Con w) (V : LvS w L) : ∀ k p, L.testBit p = true → L.testBit (itN w L k p) = true
  | 0, p, h => h
  | k + 1, p, h => itN_in Z C V k _ (lk_in Z C V h).1
def unN (w : Rw) (c : Nat) : Nat := cnN (fun i => !c.testBit i) (nP w)
theorem un_or (hp : p < nP w) (h : c.testBit p = false) : unN w c = unN w (c ||| 2 ^ p) + 1 := by
  refine cnN_up (q := p) (nP w) hp ?_ ?_ (fun j hj hne => ?_)
  · rw [or_tb]; simp
  · rw [h]; rfl
  · rw [or_tb]; simp [hne]
theorem m_tr89 (Z : Rng w) (C : Con w) (V : LvS w L) (k52 : Int32 → Int32 → Int32 → (Nat → Int32) → Option (Int32 × Int32 × (Nat → Int32))) (ci gr : Int32) : ∀ (n m p c : Nat) (gt : Nat → Int32), unN w c ≤ n → L.testBit p = true → c < 256 → f_X3_laysTrades_89 (m + n + 1) k52 w (nI L) (nI p) (nI c) ci gr gt = k52 (nI (cls L (crc w L n p c gt).1)) (ci + (if pc (crc w L n p c gt).1 ≤ 1 then 0 else 1)) (mx32 gr (nI (pc (crc w L n p c gt).1))) (crc w L n p c gt).2 := by
  have b1 := Z.gP.2
  have hL := V.lt b1
  have stop : ∀ (m p c : Nat) (gt : Nat → Int32), p < 8 → c.testBit p = true → c < 256 → f_X3_laysTrades_89 (m + 1) k52 w (nI L) (nI p) (nI c) ci gr gt = k52 (nI (cls L c)) (ci + (if pc c ≤ 1 then 0 else 1)) (mx32 gr (nI (pc c))) gt := by
    intro m p c gt hp hb hc
    have hpc := pc_le c
    simp only [f_X3_laysTrades_89, f_X3_laysTrades_148]
    rw [btV c (by omega) p (by omega), hb, if_neg (show ¬ bI true = 0 by decide), m_bits c (by omega), Option.bind_some]
    by_cases h1 : pc c ≤ 1
    · rw [if_pos (show nI (pc c) ≤ 1 from nI_le (b := 1) h1 (by decide)), if_pos h1, Option.bind_some, m_max, Option.bind_some, cls_n (by omega) (by omega)]
    · rw [if_neg (show ¬ nI (pc c) ≤ 1 from nI_ge (a := 1) (by omega) (by omega)), if_neg h1, Option.bind_some, m_max, Option.bind_some, cls_n (by omega) (by omega)]
  intro n
  induction n with
  | zero =>
    intro m p c gt hn hp hc
    have hp1 := (V p hp).1
    have hb : c.testBit p = true := by
      cases hb : c.testBit p with
      | true => rfl
      | false => have := un_or hp1 hb; omega
    exact stop m p c gt (by omega) hb hc
  | succ n ih =>
    intro m p c gt hn hp hc
    have hp1 := (V p hp).1
    rw [show m + (n + 1) + 1 = (m + n + 1) + 1 by omega]
    cases hb : c.testBit p with
    | true =>
      have e : crc w L (n + 1) p c gt = (c, gt) := by unfold crc; rw [if_pos hb]
      rw [e]
      exact stop (m + n + 1) p c gt (by omega) hb hc
    | false =>
      have e : crc w L (n + 1) p c gt = crc w L n (lk w L p) (c ||| 2 ^ p) (upd gt p (gtV w L p)) := by
        show (if c.testBit p = true then (c, gt) else crc w L n (lk w L p) (c ||| 2 ^ p) (upd gt p (gtV w L p))) = _
        rw [if_neg (by rw [hb]; nofun)]
      have hu := un_or hp1 hb
      obtain ⟨x, x1, x2, x3, x4⟩ := m_looksAt Z C V hp
      rw [e, ← ih m (lk w L p) (c ||| 2 ^ p) (upd gt p (gtV w L p)) (by omega) (lk_in Z C V hp).1 (or_lt (m := 8) hc (by omega))]
      simp only [f_X3_laysTrades_89]
      rw [btV c (by omega) p (by omega), hb, if_pos (show bI false = 0 from rfl), x2, Option.bind_some, gdn ⟨by omega, by decide⟩, gdn ⟨by omega, by decide⟩, nI_clamp (by omega), upd_s, m_h0 (k := 2) (by omega), Option.bind_some, x4, or_n c (by omega) p (by omega), x3]
theorem m_tr63 (Z : Rng w) (C : Con w) (V : LvS w L) (hp : L.testBit p = true) (k52 : Int32 → Int32 → Int32 → (Nat → Int32) → Option (Int32 × Int32 × (Nat → Int32))) (ci gr : Int32) : f_X3_laysTrades_63 FU k52 w (nI L) (nI p) 0 ci gr gt = f_X3_laysTrades_89 FU k52 w (nI L) (nI (itN w L 8 p)) 0 ci gr gt := by
  have b1 := Z.gP.2
  have hL := V.lt b1
  have key : ∀ (k j m p : Nat), j + k = 8 → L.testBit p = true → f_X3_laysTrades_63 (m + k + 1) k52 w (nI L) (nI p) (nI j) ci gr gt = f_X3_laysTrades_89 FU k52 w (nI L) (nI (itN w L k p)) 0 ci gr gt := by
    intro k
    induction k with
    | zero =>
      intro j m p hj hp
      simp only [f_X3_laysTrades_63]
      rw [if_pos (nI_le (by omega) (by omega))]
      rfl
    | succ k ih =>
      intro j m p hj hp
      obtain ⟨x, x1, x2, x3, x4⟩ := m_looksAt Z C V hp
      rw [show m + (k + 1) + 1 = (m + k + 1) + 1 by omega]
      rw [f_X3_laysTrades_63, if_neg (nI_ge (by omega) (by decide)), x2, Option.bind_some, m_h0 (k := 2) (by omega), Option.bind_some, x4, nI_1, ih (j + 1) m _ (by omega) (lk_in Z C V hp).1]
      rfl
  exact key 8 0 9991 p (by omega) hp
theorem unN_le : unN w c ≤ nP w := cnN_le _
theorem crc_bits (Z : Rng w) (C : Con w) (V : LvS w L) : ∀ (n p c : Nat) (gt : Nat → Int32), L.testBit p = true → (∀ q, c.testBit q = true → L.testBit q = true) → (∀ q, (crc w L n p c gt).1.testBit q = true → L.testBit q = true) ∧ (∀ q, c.testBit q = true → (crc w L n p c gt).1.testBit q = true) ∧ (0 < n → (crc w L n p c gt).1.testBit p = true)
  | 0, p, c, gt, hp, hc => ⟨hc, fun _ h => h, fun h => absurd h (by omega)⟩
  | n + 1, p, c, gt, hp, hc => by
    cases hb : c.testBit p with
    | true =>
      have e : crc w L (n + 1) p c gt = (c, gt) := by unfold crc; rw [if_pos hb]
      rw [e]
      exact ⟨hc, fun _ h => h, fun _ => hb⟩
    | false =>
      have e : crc w L (n + 1) p c gt = crc w L n (lk w L p) (c ||| 2 ^ p) (upd gt p (gtV w L p)) := by
        show (if c.testBit p = true then (c, gt) else crc w L n (lk w L p) (c ||| 2 ^ p) (upd gt p (gtV w L p))) = _
        rw [if_neg (by rw [hb]; nofun)]
      obtain ⟨g1, g2, g3⟩ := crc_bits Z C V n (lk w L p) (c ||| 2 ^ p) (upd gt p (gtV w L p)) (lk_in Z C V hp).1 (fun q hq => by
        rw [or_tb, Bool.or_eq_true] at hq
        rcases hq with z | z
        · exact hc q z
        · rw [of_decide_eq_true z]; exact hp)
      rw [e]
      exact ⟨g1, fun q hq => g2 q (by rw [or_tb, hq]; rfl), fun _ => g2 p (by rw [or_tb]; simp)⟩
theorem bits_lt (V : LvS w L) (hP : nP w ≤ 8) (h : ∀ q, c.testBit q = true → L.testBit q = true) : c < 256 := by
  apply Nat.lt_of_not_le
  intro hc
  obtain ⟨j, h1, h2⟩ := Nat.exists_ge_and_testBit_of_ge_two_pow (n := 8) (x := c) hc
  have := (V j (h j h2)).1
  omega
theorem m_tr52 (Z : Rng w) (C : Con w) : ∀ (n m L : Nat) (s : tS), LvS w L → L < n → f_X3_laysTrades_52 (m + n) w (nI L) s.1 s.2.1 s.2.2 = some (trS w n L s) := by
  have b1 := Z.gP.2
  intro n
  induction n with
  | zero => intro m L s _ h; exact absurd h (by omega)
  | succ n ih =>
    intro m L s V hn
    have hL := V.lt b1
    rw [show m + (n + 1) = (m + n) + 1 by omega]
    simp only [f_X3_laysTrades_52]
    by_cases h0 : L = 0
    · rw [if_pos (by rw [h0]; rfl)]
      unfold trS
      rw [if_pos h0]
    · obtain ⟨t1, t2, t3⟩ := m_tz L hL h0
      have hin := itN_in Z C V 8 (tz L) t3
      rw [if_neg (nI_ne0 (by omega) (by omega)), t1, Option.bind_some, m_tr63 Z C V t3]
      have h89 := m_tr89 Z C V (f_X3_laysTrades_52 (m + n) w) s.1 s.2.1 9 (FU - 10) (itN w L 8 (tz L)) 0 s.2.2 (Nat.le_trans unN_le (by omega)) hin (by decide)
      rw [show FU - 10 + 9 + 1 = FU by unfold FU; omega] at h89
      obtain ⟨g1, g2, g3⟩ := crc_bits Z C V 9 (itN w L 8 (tz L)) 0 s.2.2 hin (fun q hq => by rw [Nat.zero_testBit] at hq; cases hq)
      have hlt := cls_lt (n := L) (m := (trC w L s.2.2).1) (by omega) (g1 _ (g3 (by decide))) (g3 (by decide))
      have e0 : f_X3_laysTrades_89 FU (f_X3_laysTrades_52 (m + n) w) w (nI L) (nI (itN w L 8 (tz L))) 0 s.1 s.2.1 s.2.2 = _ := h89
      rw [e0]
      unfold trS
      rw [if_neg h0]
      exact ih m (cls L (trC w L s.2.2).1) (s.1 + (if pc (trC w L s.2.2).1 ≤ 1 then 0 else 1), mx32 s.2.1 (nI (pc (trC w L s.2.2).1)), (trC w L s.2.2).2) (V.cls (by omega)) (by omega)
theorem m_laysTrades (Z : Rng w) (C : Con w) {ci gr : Int32} : f_X3_laysTrades w ci gr gt = some (trS w 300 (liv w) (0, 0, gt)) := by
  obtain ⟨e1, b1⟩ := Z.gP
  have key := lp_upI (fun n i s => f_X3_laysTrades_14 n w (nI s) (nI i) 0 0 gt) (fun s => f_X3_laysTrades_52 FU w (nI s) 0 0 gt) (fun i s => if lvP w i = true then s ||| 2 ^ i else s) (nP w) (fun i s => s < 1024) ?_ ?_ ?_ FU 0 0 (Nat.zero_le _) (FU_lt (by omega)) (by decide)
  · refine key.1.trans ?_
    have := m_tr52 Z C 300 (FU - 300) (liv w) (0, 0, gt) liv_S (by have := liv_S (w := w) |>.lt b1; omega)
    rw [show FU - 300 + 300 = FU by unfold FU; omega] at this
    exact this
  · intro n s hs
    simp only [f_X3_laysTrades_14]
    rw [e1, if_pos (nI_leR _)]
  · intro n i s hi hs
    simp only [f_X3_laysTrades_14]
    rw [e1, if_neg (nI_ge hi (by omega)), m_of (k := 4) (by omega), Option.bind_some, or_0, or_n s hs i (by omega), nI_1]
    unfold lvP
    by_cases h : pF w i 4 = -1
    · rw [if_pos h, decide_eq_true h]; rfl
    · rw [if_neg h, decide_eq_false h]; rfl
  · intro i s hi hs
    show (if lvP w i = true then s ||| 2 ^ i else s) < 1024
    split
    · exact or_lt (m := 10) hs (by omega)
    · exact hs
/-- what is written doesn't hang on what stood there -/
theorem crc_g : ∀ (n p c : Nat) (g1 g2 : Nat → Int32), (crc w L n p c g1).1 = (crc w L n p c g2).1 ∧ (∀ q, (c.testBit q = true → g1 q = g2 q) → (crc w L n p c g1).1.testBit q = true → (crc w L n p c g1).2 q = (crc w L n p c g2).2 q) ∧ ∀ q, ((crc w L n p c g1).1.testBit q = false ∨ c.testBit q = true) → (crc w L n p c g1).2 q = g1 q ∧ (crc w L n p c g2).2 q = g2 q
  | 0, p, c, g1, g2 => ⟨rfl, fun q h1 h2 => h1 h2, fun q _ => ⟨rfl, rfl⟩⟩
  | n + 1, p, c, g1, g2 => by
    cases hb : c.testBit p with
    | true =>
      have e : ∀ g, crc w L (n + 1) p c g = (c, g) := fun g => by unfold crc; rw [if_pos hb]
      rw [e, e]
      exact ⟨rfl, fun q h1 h2 => h1 h2, fun q _ => ⟨rfl, rfl⟩⟩
    | false =>
      have e : ∀ g, crc w L (n + 1) p c g = crc w L n (lk w L p) (c ||| 2 ^ p) (upd g p (gtV w L p)) := fun g => by
        show (if c.testBit p = true then (c, g) else crc w L n (lk w L p) (c ||| 2 ^ p) (upd g p (gtV w L p))) = _
        rw [if_neg (by rw [hb]; nofun)]
      rw [e, e]
      obtain ⟨h1, h2, h3⟩ := crc_g n (lk w L p) (c ||| 2 ^ p) (upd g1 p (gtV w L p)) (upd g2 p (gtV w L p))
      refine ⟨h1, fun q hq hr => h2 q (fun hz => ?_) hr, fun q hq => ?_⟩
      · by_cases hqp : q = p
        · rw [hqp, upd_s, upd_s]
        · rw [or_tb, decide_eq_false hqp, Bool.or_false] at hz
          rw [upd_n hqp, upd_n hqp]
          exact hq hz
      · by_cases hqp : q = p
        · subst hqp
          rcases hq with z | z
          · have h4 := (h3 q (Or.inr (by rw [or_tb]; simp))).1
            exfalso
            have : ∀ (n p c : Nat) (g : Nat → Int32) (q : Nat), c.testBit q = true → (crc w L n p c g).1.testBit q = true := by
              intro n
              induction n with
              | zero => intro p c g q h; exact h
              | succ n ih =>
                intro p c g q h
                show (if c.testBit p = true then (c, g) else crc w L n (lk w L p) (c ||| 2 ^ p) (upd g p (gtV w L p))).1.testBit q = true
                split
                · exact h
                · exact ih _ _ _ q (by rw [or_tb, h]; rfl)
            rw [this n (lk w L q) (c ||| 2 ^ q) (upd g1 q (gtV w L q)) q (by rw [or_tb]; simp)] at z
            cases z
          · rw [hb] at z; cases z
        · have h4 := h3 q (by
            rcases hq with z | z
            · exact Or.inl z
            · exact Or.inr (by rw [or_tb, z]; rfl))
          rw [upd_n hqp, upd_n hqp] at h4
          exact h4
/-- values of houses that live: those of homes -/
def gtO (w : Rw) (v : Int32) : Prop := ∃ x, x < 10 ∧ v = nI x
theorem crc_v (Z : Rng w) (C : Con w) (V : LvS w L) : ∀ (n p c : Nat) (g : Nat → Int32), L.testBit p = true → (∀ q, c.testBit q = true → gtO w (g q)) → ∀ q, (crc w L n p c g).1.testBit q = true → gtO w ((crc w L n p c g).2 q)
  | 0, p, c, g, hp, hc, q, hq => hc q hq
  | n + 1, p, c, g, hp, hc, q, hq => by
    cases hb : c.testBit p with
    | true =>
      have e : crc w L (n + 1) p c g = (c, g) := by unfold crc; rw [if_pos hb]
      rw [e] at hq ⊢
      exact hc q hq
    | false =>
      have e : crc w L (n + 1) p c g = crc w L n (lk w L p) (c ||| 2 ^ p) (upd g p (gtV w L p)) := by
        show (if c.testBit p = true then (c, g) else crc w L n (lk w L p) (c ||| 2 ^ p) (upd g p (gtV w L p))) = _
        rw [if_neg (by rw [hb]; nofun)]
      rw [e] at hq ⊢
      refine crc_v Z C V n _ _ _ (lk_in Z C V hp).1 (fun z hz => ?_) q hq
      by_cases hzp : z = p
      · subst hzp
        rw [upd_s]
        obtain ⟨x, x1, -, x3, -⟩ := m_looksAt Z C V hp
        exact ⟨x, x1, x3⟩
      · rw [or_tb, decide_eq_false hzp, Bool.or_false] at hz
        rw [upd_n hzp]
        exact hc z hz
theorem trS_g (Z : Rng w) (C : Con w) : ∀ (n L : Nat) (s1 s2 : tS), LvS w L → L < n → s1.1 = s2.1 → s1.2.1 = s2.2.1 → (∀ p, lvP w p = true → p < nP w → L.testBit p = false → s1.2.2 p = s2.2.2 p ∧ gtO w (s1.2.2 p)) → (trS w n L s1).1 = (trS w n L s2).1 ∧ (trS w n L s1).2.1 = (trS w n L s2).2.1 ∧ (∀ p, lvP w p = true → p < nP w → (trS w n L s1).2.2 p = (trS w n L s2).2.2 p ∧ gtO w ((trS w n L s1).2.2 p)) ∧ ∀ p, lvP w p = false → (trS w n L s1).2.2 p = s1.2.2 p := by
  have b1 := Z.gP.2
  intro n
  induction n with
  | zero => intro L s1 s2 _ h; exact absurd h (by omega)
  | succ n ih =>
    intro L s1 s2 V hn e1 e2 e3
    have hL := V.lt b1
    unfold trS
    by_cases h0 : L = 0
    · rw [if_pos h0, if_pos h0]
      exact ⟨e1, e2, fun p h1 h2 => e3 p h1 h2 (by rw [h0, Nat.zero_testBit]), fun _ _ => rfl⟩
    · rw [if_neg h0, if_neg h0]
      obtain ⟨t1, t2, t3⟩ := m_tz L hL h0
      have hin := itN_in Z C V 8 (tz L) t3
      obtain ⟨g1, g2, g3⟩ := crc_bits Z C V 9 (itN w L 8 (tz L)) 0 s1.2.2 hin (fun q hq => by rw [Nat.zero_testBit] at hq; cases hq)
      obtain ⟨h1, h2, h3⟩ := crc_g (w := w) (L := L) 9 (itN w L 8 (tz L)) 0 s1.2.2 s2.2.2
      have hv := crc_v Z C V 9 (itN w L 8 (tz L)) 0 s1.2.2 hin (fun q hq => by rw [Nat.zero_testBit] at hq; cases hq)
      have hlt := cls_lt (n := L) (m := (trC w L s1.2.2).1) (by omega) (g1 _ (g3 (by decide))) (g3 (by decide))
      have h1' : (trC w L s2.2.2).1 = (trC w L s1.2.2).1 := h1.symm
      rw [h1']
      obtain ⟨k1, k2, k3, k4⟩ := ih (cls L (trC w L s1.2.2).1) (s1.1 + (if pc (trC w L s1.2.2).1 ≤ 1 then 0 else 1), mx32 s1.2.1 (nI (pc (trC w L s1.2.2).1)), (trC w L s1.2.2).2) (s2.1 + (if pc (trC w L s1.2.2).1 ≤ 1 then 0 else 1), mx32 s2.2.1 (nI (pc (trC w L s1.2.2).1)), (trC w L s2.2.2).2) (V.cls (by omega)) (by omega) (by dsimp only; rw [e1]) (by dsimp only; rw [e2]) (fun p hp hpP hb => by
        rw [cls_tb (by omega)] at hb
        dsimp only
        cases hc : (trC w L s1.2.2).1.testBit p with
        | true => exact ⟨h2 p (fun hz => by rw [Nat.zero_testBit] at hz; cases hz) hc, hv p hc⟩
        | false =>
          rw [hc, Bool.not_false, Bool.and_true] at hb
          obtain ⟨z1, z2⟩ := h3 p (Or.inl hc)
          have := e3 p hp hpP hb
          refine ⟨z1.trans (this.1.trans z2.symm), ?_⟩
          have z1' : (trC w L s1.2.2).2 p = s1.2.2 p := z1
          rw [z1']
          exact this.2)
      refine ⟨k1, k2, k3, fun p hp => ?_⟩
      rw [k4 p hp]
      refine (h3 p (Or.inl ?_)).1
      cases hc : (crc w L 9 (itN w L 8 (tz L)) 0 s1.2.2).1.testBit p with
      | false => rfl
      | true =>
        have := (V p (g1 p hc)).2
        rw [hp] at this; cases this
theorem tr_eq (Z : Rng w) (C : Con w) : (trS w 300 (liv w) (0, 0, gt)).1 = (trR w).1 ∧ (trS w 300 (liv w) (0, 0, gt)).2.1 = (trR w).2.1 ∧ (∀ p, p < nP w → lvP w p = true → (trS w 300 (liv w) (0, 0, gt)).2.2 p = (trR w).2.2 p ∧ gtO w ((trR w).2.2 p)) ∧ ∀ p, lvP w p = false → (trR w).2.2 p = -1 := by
  have b1 := Z.gP.2
  have hl := liv_S (w := w) |>.lt b1
  have hb : ∀ p, lvP w p = true → p < nP w → (liv w).testBit p = false → False := fun p h1 h2 h3 => by
    unfold liv at h3
    rw [stN_tb, decide_eq_true h2, h1] at h3
    cases h3
  obtain ⟨k1, k2, k3, k4⟩ := trS_g Z C 300 (liv w) (0, 0, fun _ => -1) (0, 0, gt) liv_S (by omega) rfl rfl (fun p h1 h2 h3 => (hb p h1 h2 h3).elim)
  exact ⟨k1.symm, k2.symm, fun p hp hv => ⟨(k3 p hv hp).1.symm, (k3 p hv hp).2⟩, k4⟩
theorem m_trade (Z : Rng w) (C : Con w) {ci gr : Int32} : ∃ ci' gr' gt', f_X3_trade w th st ci gr gt a = some ((an_trade w a).1, 0, (an_trade w a).2, ci', gr', gt') := by
  have b1 := Z.gP.2
  simp only [f_X3_trade, m_isHouse, f_X3_refuse, f_X3_gives, Option.bind_some, an_trade, bI_0, m_laysTrades Z C]
  by_cases hh : isHs w a = false
  · rw [if_pos hh, if_pos hh]; exact ⟨_, _, _, rfl⟩
  rw [if_neg hh, if_neg hh]
  obtain ⟨p, hp, rfl⟩ := (hs_t Z).mp (Bool.not_eq_false _ ▸ hh)
  rw [m_of (k := 4) (by omega), Option.bind_some, nI_clamp (by omega)]
  by_cases h4 : pF w p 4 = -1
  · rw [if_pos h4, if_pos h4]; exact ⟨_, _, _, rfl⟩
  rw [if_neg h4, if_neg h4, gdn ⟨by omega, by decide⟩]
  exact ⟨(trS w 300 (liv w) (0, 0, gt)).1, (trS w 300 (liv w) (0, 0, gt)).2.1, (trS w 300 (liv w) (0, 0, gt)).2.2, by rw [((tr_eq (gt := gt) Z C).2.2.1 p hp (by unfold lvP; rw [decide_eq_false h4]; rfl)).1]⟩
theorem m_trades (Z : Rng w) (C : Con w) {ci gr : Int32} : ∃ ci' gr' gt', f_X3_trades w th st ci gr gt a = some ((an_trades w a).1, 0, (an_trades w a).2, ci', gr', gt') := by
  obtain ⟨e1, b1⟩ := Z.gP
  simp only [f_X3_trades, m_from, f_X3_refuse, f_X3_gives, f_X3_trades_40, Option.bind_some, an_trades, bI_0, m_laysTrades Z C]
  by_cases hv : ir a 0 (nI 2) = false
  · rw [if_pos hv, if_pos hv]; exact ⟨_, _, _, rfl⟩
  rw [if_neg hv, if_neg hv]
  obtain ⟨k, hk, rfl⟩ := (rg_c (by decide)).mp (Bool.not_eq_false _ ▸ hv)
  obtain ⟨t1, t2, t3, t4⟩ := tr_eq (gt := gt) Z C
  by_cases h0 : k = 0
  · subst h0
    rw [if_pos (show nI 0 ≤ 0 by decide), if_pos (show nI 0 = 0 from rfl)]
    refine ⟨(trS w 300 (liv w) (0, 0, gt)).1, (trS w 300 (liv w) (0, 0, gt)).2.1, (trS w 300 (liv w) (0, 0, gt)).2.2, ?_⟩
    refine lp_up (fun n i s => f_X3_trades_48 n w (nI s) (nI i) th st (trS w 300 (liv w) (0, 0, gt)).1 (trS w 300 (liv w) (0, 0, gt)).2.1 (trS w 300 (liv w) (0, 0, gt)).2.2) (fun s => some (nI s, 0, 0, (trS w 300 (liv w) (0, 0, gt)).1, (trS w 300 (liv w) (0, 0, gt)).2.1, (trS w 300 (liv w) (0, 0, gt)).2.2)) (fun i s => s + if (!decide ((trR w).2.2 i = pF w i 4)) = true then 1 else 0) (nP w) ?_ ?_ FU 0 0 (Nat.zero_le _) (FU_lt (by omega))
    · intro n s
      simp only [f_X3_trades_48]
      rw [e1, if_pos (nI_leR _)]
      rfl
    · intro n i s hi
      simp only [f_X3_trades_48]
      rw [e1, if_neg (nI_ge hi (by omega)), m_of (k := 4) (by omega), Option.bind_some, nI_1, nI_1, iadd0, gdn ⟨by omega, by decide⟩, Option.bind_some, nI_clamp (by omega)]
      by_cases h4 : pF w i 4 = -1
      · rw [if_pos h4, t4 i (by unfold lvP; rw [decide_eq_true h4]; rfl), h4]
        rfl
      · rw [if_neg h4, (t3 i hi (by unfold lvP; rw [decide_eq_false h4]; rfl)).1]
        by_cases he : (trR w).2.2 i = pF w i 4
        · rw [if_pos he, decide_eq_true he]; rfl
        · rw [if_neg he, decide_eq_false he]; rfl
  · rw [if_neg (show ¬ nI k ≤ 0 from nI_nle (by omega) (by omega)), if_neg (show ¬ nI k = 0 from nI_ne0 (by omega) (by omega)), t1, t2]
    by_cases h1 : nI k = 1
    · rw [if_pos h1, if_pos h1]; exact ⟨_, _, _, rfl⟩
    · rw [if_neg h1, if_neg h1]; exact ⟨_, _, _, rfl⟩
end PTR
