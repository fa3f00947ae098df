/-! longest: the moves as states; the reference's side -/
/-- the row now and its homes, how many the best one has, its row, its homes -/
abbrev MvS := (Nat → Int32) × (Nat → Int32) × Nat × (Nat → Int32) × (Nat → Int32)
def rcd (n : Nat) (s : MvS) : MvS := if s.2.2.1 < n + 1 then (s.1, s.2.1, n + 1, (fun k => if k ≤ n then s.1 k else s.2.2.2.1 k), fun k => if k ≤ n then s.2.1 k else s.2.2.2.2 k) else s
def stR (n p h : Nat) (s : MvS) : MvS := (upd s.1 n (nI p), upd s.2.1 n (nI h), s.2.2)
def mvF (w : Rw) (rec : Nat → Nat → Nat → MvS → MvS) (h n gone p : Nat) (s : MvS) : MvS := if gone.testBit p = true then s else if cHv w p h = false then s else if pF w p 4 = -1 then rcd n (stR n p h s) else rec (pN w p 4) (n + 1) (gone ||| 2 ^ p) (rcd n (stR n p h s))
def mvD (w : Rw) : Nat → Nat → Nat → Nat → MvS → MvS
  | 0, _, _, _, s => s
  | d + 1, h, n, gone, s => flN (mvF w (mvD w d) h n gone) 0 (nP w) s
def mvA (w : Rw) (s : MvS) : MvS := flN (fun h s => if isFr w h = true then mvD w 9 h 0 0 s else s) 0 (nH w) s
section PLG
variable {w W : Rw} {th st ac a b c v : Int32} {p q x y i d K r h n m gone : Nat} {P : Nat → Rw}
theorem pc_8 : ∀ n, n < 256 → pc n ≤ 8 := by decide +kernel
theorem rcd_b {s : MvS} (hs : s.2.2.1 ≤ 8) (hn : n < 8) : (rcd n s).2.2.1 ≤ 8 := by
  unfold rcd
  split
  · show n + 1 ≤ 8; omega
  · exact hs
theorem gone_n (hp : p < nP w) (Z : Rng w) (hg : gone < 2 ^ nP w) (hn : pc gone = n) (ht : gone.testBit p = false) : gone ||| 2 ^ p < 2 ^ nP w ∧ pc (gone ||| 2 ^ p) = n + 1 ∧ n < 8 := by
  have b1 := Z.gP.2
  have h1 : gone ||| 2 ^ p < 2 ^ nP w := or_lt hg hp
  have h2 : pc (gone ||| 2 ^ p) = n + 1 := by rw [pc_or (by omega) ht, hn]
  have h3 : gone ||| 2 ^ p < 256 := Nat.lt_of_lt_of_le h1 (Nat.pow_le_pow_right (n := 2) (by decide) b1)
  have := pc_8 _ h3
  exact ⟨h1, h2, by omega⟩
theorem m_mv74 {k114 : Int32 → Int32 → Int32 → Int32 → Int32 → (Nat → Int32) → (Nat → Int32) → (Nat → Int32) → (Nat → Int32) → Option (Int32 × (Nat → Int32) × (Nat → Int32) × (Nat → Int32) × (Nat → Int32))} {self : Int32 → (Nat → Int32) → (Nat → Int32) → (Nat → Int32) → (Nat → Int32) → Int32 → Int32 → Int32 → Option (Int32 × (Nat → Int32) × (Nat → Int32) × (Nat → Int32) × (Nat → Int32))} {x1 x3 x4 lm : Int32} {rw_ rh : Nat → Int32} (hn : n < 8) : ∀ (k i m : Nat) (lg lh : Nat → Int32), i + k = n + 1 → f_X3_movesOn_74 (m + k + 1) k114 self w x1 (nI n) x3 x4 (nI i) lm rw_ rh lg lh = k114 x1 (nI n) x3 x4 lm rw_ rh (fun j => if i ≤ j ∧ j ≤ n then rw_ j else lg j) (fun j => if i ≤ j ∧ j ≤ n then rh j else lh j)
  | 0, i, m, lg, lh, hi => by
    rw [f_X3_movesOn_74, if_pos (nI_lt (by omega) (by omega))]
    congr 1
    · funext j; rw [if_neg (by omega)]
    · funext j; rw [if_neg (by omega)]
  | k + 1, i, m, lg, lh, hi => by
    rw [show m + (k + 1) + 1 = (m + k + 1) + 1 by omega, f_X3_movesOn_74, if_neg (nI_nlt (by omega) (by omega)), gdn ⟨by omega, by decide⟩, gdn ⟨by omega, by decide⟩, gdn ⟨by omega, by decide⟩, gdn ⟨by omega, by decide⟩, nI_1, nI_clamp (by omega), m_mv74 hn k (i + 1) m _ _ (by omega)]
    congr 1
    · funext j
      by_cases hj : j = i
      · subst hj; rw [if_neg (by omega), if_pos (by omega), upd_s]
      · by_cases h2 : i + 1 ≤ j ∧ j ≤ n
        · rw [if_pos h2, if_pos (by omega)]
        · rw [if_neg h2, if_neg (by omega), upd_n hj]
    · funext j
      by_cases hj : j = i
      · subst hj; rw [if_neg (by omega), if_pos (by omega), upd_s]
      · by_cases h2 : i + 1 ≤ j ∧ j ≤ n
        · rw [if_pos h2, if_pos (by omega)]
        · rw [if_neg h2, if_neg (by omega), upd_n hj]
def mvO (s : MvS) : Int32 × (Nat → Int32) × (Nat → Int32) × (Nat → Int32) × (Nat → Int32) := (nI s.2.2.1, s.1, s.2.1, s.2.2.2.1, s.2.2.2.2)
theorem mvF_1 {rec : Nat → Nat → Nat → MvS → MvS} {s : MvS} (ht : gone.testBit p = true) : mvF w rec h n gone p s = s := if_pos ht
theorem mvF_2 {rec : Nat → Nat → Nat → MvS → MvS} {s : MvS} (hc : cHv w p h = false) : mvF w rec h n gone p s = s := by
  unfold mvF
  by_cases ht : gone.testBit p = true
  · rw [if_pos ht]
  · rw [if_neg ht, if_pos hc]
theorem mvF_3 {rec : Nat → Nat → Nat → MvS → MvS} {s : MvS} (ht : gone.testBit p = false) (hc : cHv w p h = true) : mvF w rec h n gone p s = if pF w p 4 = -1 then rcd n (stR n p h s) else rec (pN w p 4) (n + 1) (gone ||| 2 ^ p) (rcd n (stR n p h s)) := by
  unfold mvF
  rw [if_neg (by rw [ht]; nofun), if_neg (by rw [hc]; nofun)]
theorem m_moves (Z : Rng w) (C : Con w) : ∀ (d h n gone : Nat) (s : MvS), 9 ≤ d + n → h < nH w → gone < 2 ^ nP w → pc gone = n → s.2.2.1 ≤ 8 → f_X3_movesOn d w (nI s.2.2.1) s.1 s.2.1 s.2.2.2.1 s.2.2.2.2 (nI h) (nI n) (nI gone) = some (mvO (mvD w d h n gone s)) ∧ (mvD w d h n gone s).2.2.1 ≤ 8
  | 0, h, n, gone, s, hd, hh, hg, hn, hs => by
    have b1 := Z.gP.2
    have := pc_8 gone (Nat.lt_of_lt_of_le hg (Nat.pow_le_pow_right (n := 2) (by decide) b1))
    omega
  | d + 1, h, n, gone, s, hd, hh, hg, hn, hs => by
    have b1 := Z.gP.2
    have b2 := Z.gH.2
    have hg2 : gone < 1024 := Nat.lt_of_lt_of_le hg (Nat.le_trans (Nat.pow_le_pow_right (n := 2) (by decide) b1) (by decide))
    have key := lp_upI (fun n' i (s : MvS) => f_X3_movesOn_3 n' (f_X3_movesOn d w) w (nI h) (nI n) (nI gone) (nI i) (nI s.2.2.1) s.1 s.2.1 s.2.2.2.1 s.2.2.2.2) (fun s => some (mvO s)) (mvF w (mvD w d) h n gone) (nP w) (fun _ s => s.2.2.1 ≤ 8) (fun n' s _ => ?_) (fun n' i s hi hs => ?_) (fun i s hi hs => ?_) FU 0 s (Nat.zero_le _) (FU_lt (by omega)) hs
    · exact key
    · simp only [f_X3_movesOn_3]
      rw [Z.gP.1, if_pos (nI_leR _)]
      rfl
    · simp only [f_X3_movesOn_3]
      rw [Z.gP.1, if_neg (nI_ge hi (by omega)), btV gone hg2 i (by omega)]
      cases ht : gone.testBit i
      case true => rw [if_pos (show bI true = 1 from rfl), mvF_1 ht, nI_1]
      case false =>
        obtain ⟨g1, g2, g3⟩ := gone_n hi Z hg hn ht
        rw [if_neg (show ¬ bI false = 1 by decide), m_couldHave Z (by omega) (by omega), Option.bind_some]
        cases hc : cHv w i h
        case false => rw [if_pos (show bI false = 0 from rfl), mvF_2 hc, nI_1]
        case true =>
          rw [mvF_3 ht hc, if_neg (show ¬ bI true = 0 by decide), gdn ⟨by omega, by decide⟩, gdn ⟨by omega, by decide⟩, nI_clamp (by omega), nI_1]
          have fin : ∀ (lm : Int32) (lg lh : Nat → Int32) (t : MvS), t = (upd s.1 n (nI i), upd s.2.1 n (nI h), t.2.2.1, lg, lh) → lm = nI t.2.2.1 → t.2.2.1 ≤ 8 → f_X3_movesOn_114 (f_X3_movesOn_3 n' (f_X3_movesOn d w) w) (f_X3_movesOn d w) w (nI h) (nI n) (nI gone) (nI i) lm (upd s.1 n (nI i)) (upd s.2.1 n (nI h)) lg lh = (fun (s : MvS) => f_X3_movesOn_3 n' (f_X3_movesOn d w) w (nI h) (nI n) (nI gone) (nI (i + 1)) (nI s.2.2.1) s.1 s.2.1 s.2.2.2.1 s.2.2.2.2) (if pF w i 4 = -1 then t else mvD w d (pN w i 4) (n + 1) (gone ||| 2 ^ i) t) := fun lm lg lh t ht hl hb => by
            obtain ⟨t1, t2, t3, t4, t5⟩ := t
            obtain ⟨rfl, rfl, -, rfl, rfl⟩ : t1 = upd s.1 n (nI i) ∧ t2 = upd s.2.1 n (nI h) ∧ True ∧ t4 = lg ∧ t5 = lh := by
              simp only [Prod.mk.injEq] at ht
              exact ⟨ht.1, ht.2.1, trivial, ht.2.2.2.1, ht.2.2.2.2⟩
            subst hl
            unfold f_X3_movesOn_114
            rw [m_of (by omega), Option.bind_some]
            by_cases h4 : pF w i 4 = -1
            · rw [if_pos h4, if_pos h4, nI_1]
            · rw [if_neg h4, if_neg h4, Option.bind_some, nI_1, or_n gone hg2 i (by omega)]
              rcases C.2.1 i hi with z | ⟨y, hy, z, -⟩
              · exact absurd z h4
              · have ey : pN w i 4 = y := by show (pF w i 4).toNatClampNeg = y; rw [z, nI_clamp (by omega)]
                obtain ⟨e1, -⟩ := m_moves Z C d y (n + 1) (gone ||| 2 ^ i) (upd s.1 n (nI i), upd s.2.1 n (nI h), t3, t4, t5) (by omega) hy g1 g2 hb
                rw [z, ey]
                have e1' : f_X3_movesOn d w (nI t3) (upd s.1 n (nI i)) (upd s.2.1 n (nI h)) t4 t5 (nI y) (nI (n + 1)) (nI (gone ||| 2 ^ i)) = _ := e1
                rw [e1', Option.bind_some, nI_1]
                rfl
          have hst : (stR n i h s).2.2.1 = s.2.2.1 := rfl
          by_cases hr : s.2.2.1 < n + 1
          · rw [if_neg (nI_ge hr (by omega)), show (0 : Int32) = nI 0 from rfl, show FU = (FU - (n + 1) - 1) + (n + 1) + 1 by unfold FU; omega, m_mv74 (by omega) (n + 1) 0 _ _ _ (by omega)]
            have er : rcd n (stR n i h s) = (upd s.1 n (nI i), upd s.2.1 n (nI h), n + 1, (fun k => if k ≤ n then upd s.1 n (nI i) k else s.2.2.2.1 k), fun k => if k ≤ n then upd s.2.1 n (nI h) k else s.2.2.2.2 k) := if_pos hr
            rw [er]
            refine (fin (nI (n + 1)) _ _ (upd s.1 n (nI i), upd s.2.1 n (nI h), n + 1, (fun k => if k ≤ n then upd s.1 n (nI i) k else s.2.2.2.1 k), fun k => if k ≤ n then upd s.2.1 n (nI h) k else s.2.2.2.2 k) ?_ rfl (by show n + 1 ≤ 8; omega))
            congr 4
            · funext k; congr 1; simp
            · funext k; congr 1; simp
          · rw [if_pos (nI_le (by omega) (by omega))]
            have er : rcd n (stR n i h s) = stR n i h s := if_neg hr
            rw [er]
            exact fin (nI s.2.2.1) _ _ (stR n i h s) rfl rfl hs
    · cases ht : gone.testBit i
      case true => rw [mvF_1 ht]; exact hs
      case false =>
        obtain ⟨g1, g2, g3⟩ := gone_n hi Z hg hn ht
        cases hc : cHv w i h
        case false => rw [mvF_2 hc]; exact hs
        case true =>
          rw [mvF_3 ht hc]
          have h8 : (rcd n (stR n i h s)).2.2.1 ≤ 8 := rcd_b hs g3
          by_cases h4 : pF w i 4 = -1
          · rw [if_pos h4]; exact h8
          · rw [if_neg h4]
            rcases C.2.1 i hi with z | ⟨y, hy, z, -⟩
            · exact absurd z h4
            · have ey : pN w i 4 = y := by show (pF w i 4).toNatClampNeg = y; rw [z, nI_clamp (by omega)]
              rw [ey]
              exact (m_moves Z C d y (n + 1) (gone ||| 2 ^ i) _ (by omega) hy g1 g2 h8).2
def an_longest (w : Rw) (s0 : MvS) (a b : Int32) : Int32 × Int32 := if a < -1 then (-1, 1) else if a = -1 then (nI (mvA w s0).2.2.1, 0) else if a < nI (mvA w s0).2.2.1 then (if b = 0 then (mvA w s0).2.2.2.1 a.toNatClampNeg else (mvA w s0).2.2.2.2 a.toNatClampNeg, 0) else (-1, nI 5)
theorem m_longest (Z : Rng w) (C : Con w) {lm : Int32} {rw_ rh lg lh : Nat → Int32} : ∃ lm' rw' rh' lg' lh', f_X3_longest w th st lm rw_ rh lg lh a b = some ((an_longest w (rw_, rh, 0, lg, lh) a b).1, 0, (an_longest w (rw_, rh, 0, lg, lh) a b).2, lm', rw', rh', lg', lh') := by
  have b2 := Z.gH.2
  unfold f_X3_longest an_longest
  by_cases ha : a < -1
  · rw [if_neg (Int32.not_le.mpr ha), if_pos ha]
    exact ⟨_, _, _, _, _, rfl⟩
  rw [if_pos (Int32.not_lt.mp ha), if_neg ha]
  have key := lp_upI (fun n' i (s : MvS) => f_X3_longest_18 n' w a b (nI i) th st (nI s.2.2.1) s.1 s.2.1 s.2.2.2.1 s.2.2.2.2) (fun s => some ((if a = -1 then (nI s.2.2.1, (0 : Int32)) else if a < nI s.2.2.1 then (if b = 0 then s.2.2.2.1 a.toNatClampNeg else s.2.2.2.2 a.toNatClampNeg, 0) else (-1, nI 5)).1, 0, (if a = -1 then (nI s.2.2.1, (0 : Int32)) else if a < nI s.2.2.1 then (if b = 0 then s.2.2.2.1 a.toNatClampNeg else s.2.2.2.2 a.toNatClampNeg, 0) else (-1, nI 5)).2, nI s.2.2.1, s.1, s.2.1, s.2.2.2.1, s.2.2.2.2)) (fun h s => if isFr w h = true then mvD w 9 h 0 0 s else s) (nH w) (fun _ s => s.2.2.1 ≤ 8) (fun n' s hs => ?_) (fun n' i s hi hs => ?_) (fun i s hi hs => ?_) FU 0 (rw_, rh, 0, lg, lh) (Nat.zero_le _) (FU_lt (by omega)) (Nat.zero_le _)
  · exact ⟨nI (mvA w (rw_, rh, 0, lg, lh)).2.2.1, (mvA w (rw_, rh, 0, lg, lh)).1, (mvA w (rw_, rh, 0, lg, lh)).2.1, (mvA w (rw_, rh, 0, lg, lh)).2.2.2.1, (mvA w (rw_, rh, 0, lg, lh)).2.2.2.2, key.1⟩
  · simp only [f_X3_longest_18]
    rw [Z.gH.1, if_pos (nI_leR _)]
    by_cases h1 : a = -1
    · rw [if_pos h1, if_pos h1]; rfl
    · rw [if_neg h1, if_neg h1]
      by_cases h2 : a < nI s.2.2.1
      · rw [if_neg (Int32.not_le.mpr h2), if_pos h2]
        have h0 : ¬ a < 0 := fun z => by
          rw [Int32.lt_iff_toInt_lt] at z ha
          rw [← Int32.toInt_inj] at h1
          rw [show (0 : Int32).toInt = 0 by decide] at z
          rw [show (-1 : Int32).toInt = -1 by decide] at ha h1
          omega
        obtain ⟨k, hk, rfl⟩ := nI_of h0
        have hk8 : k < s.2.2.1 := by
          rw [Int32.lt_iff_toInt_lt, nI_toInt hk, nI_toInt (by omega)] at h2
          omega
        rw [gdn ⟨by omega, by decide⟩, gdn ⟨by omega, by decide⟩]
        by_cases hb : b = 0
        · rw [if_pos hb, if_pos hb]; rfl
        · rw [if_neg hb, if_neg hb]; rfl
      · rw [if_pos (Int32.not_lt.mp h2), if_neg h2]; rfl
  · simp only [f_X3_longest_18]
    rw [Z.gH.1, if_neg (nI_ge hi (by omega)), m_isFree (by omega), Option.bind_some, nI_1]
    cases hf : isFr w i
    · rw [if_pos (show bI false = 0 from rfl), if_neg (by nofun)]
    · rw [if_neg (show ¬ bI true = 0 by decide), if_pos rfl]
      obtain ⟨e1, -⟩ := m_moves Z C 9 i 0 0 s (by omega) hi (Nat.two_pow_pos _) pc_0 hs
      have e1' : f_X3_movesOn 9 w (nI s.2.2.1) s.1 s.2.1 s.2.2.2.1 s.2.2.2.2 (nI i) 0 0 = _ := e1
      rw [e1', Option.bind_some]
      rfl
  · cases hf : isFr w i
    · rw [if_neg (by nofun)]; exact hs
    · rw [if_pos rfl]
      exact (m_moves Z C 9 i 0 0 s (by omega) hi (Nat.two_pow_pos _) pc_0 hs).2
end PLG
