/-! most, gift: the reference's side -/
def GV (w : Rw) (k h : Nat) : Bool := isFr w h && cHv w k h
def dpW (w : Rw) (d g : Nat) : Nat := dp (GV w) (nP w) (nH w) d g
def gfI (w : Rw) (k tk : Nat) : Option Nat := fdN (fun h => gG (GV w) tk k h && decide (1 + dpW w (nP w - (k + 1)) (tk ||| 2 ^ h) = dpW w (nP w - k) tk)) 0 (nH w)
def gfT (w : Rw) : Nat → Nat
  | 0 => 0
  | k + 1 => match gfI w k (gfT w k) with
    | none => gfT w k
    | some h => gfT w k ||| 2 ^ h
def an_most (w : Rw) : Int32 × Int32 := (nI (dpW w (nP w) 0), 0)
def an_gift (w : Rw) (a : Int32) : Int32 × Int32 := if isHs w a = false then (-1, nI 2) else tO (gfI w a.toNatClampNeg (gfT w a.toNatClampNeg))
/-- the table of what can be given -/
def gvT (w : Rw) (lo : Nat) (gv : Nat → Int32) : Prop := ∀ p, lo ≤ p → p ≤ nP w → ∀ g, g < 1024 → gv (1024 * p + g) = nI (dpW w (nP w - p) g)
section PMO
variable {w : Rw} {th st ac a b : Int32} {p q x y i s d g k : Nat} {gv : Nat → Int32}
theorem dp_le {G : Nat → Nat → Bool} {np nh : Nat} : ∀ (d g : Nat), dp G np nh d g ≤ d
  | 0, _ => Nat.le_refl _
  | d + 1, g => by
    rcases (flmax (G := G) (p := np - (d + 1)) (g := g) (sub := dp G np nh d) nh 0 (dp G np nh d g)).2.2 with h | ⟨z, -, -, -, -, h⟩
    · show flN (dpF G (np - (d + 1)) g (dp G np nh d)) 0 nh (dp G np nh d g) ≤ d + 1
      rw [h]
      have := dp_le (G := G) (np := np) (nh := nh) d g
      omega
    · show flN (dpF G (np - (d + 1)) g (dp G np nh d)) 0 nh (dp G np nh d g) ≤ d + 1
      rw [h]
      have := dp_le (G := G) (np := np) (nh := nh) d (g ||| 2 ^ z)
      omega
theorem mx_nI {a b : Nat} (ha : a < 2 ^ 31) (hb : b < 2 ^ 31) : mx32 (nI a) (nI b) = nI (max a b) := by
  unfold mx32
  by_cases h : a < b
  · rw [if_pos (nI_lt h hb), Nat.max_eq_right (by omega)]
  · rw [if_neg (nI_nlt (by omega) ha), Nat.max_eq_left (by omega)]
theorem m_canGive (Z : Rng w) (hp : p < 8) (hx : x < 10) : f_X3_canGive w (nI p) (nI x) = some (bI (GV w p x)) := by
  simp only [f_X3_canGive]
  rw [m_isFree (by omega), Option.bind_some, m_couldHave Z hp (by omega), Option.bind_some]
  unfold GV
  cases isFr w x <;> cases cHv w p x <;> simp [bI]
theorem m_gave (hp : p ≤ 8) (hg : g < 1024) : f_X3_gave gv (nI p) (nI g) = some (gv (1024 * p + g)) := by
  simp only [f_X3_gave]
  rw [pk_mul, nI_add, gdn ⟨by omega, by decide⟩, nI_clamp (by omega)]
theorem m_lay71 (Z : Rng w) (hp : p < nP w) (hg : g < 1024) (T : gvT w (p + 1) gv) (k52 : Int32 → Int32 → (Nat → Int32) → Option (Int32 × (Nat → Int32))) : f_X3_laysGifts_71 FU k52 w (nI p) (nI g) (nI (dpW w (nP w - (p + 1)) g)) 0 gv = k52 (nI p) (nI (g + 1)) (upd gv (1024 * p + g) (nI (dpW w (nP w - p) g))) := by
  obtain ⟨e3, b3⟩ := Z.gH
  have b1 := Z.gP.2
  have hd : dpW w (nP w - p) g = flN (dpF (GV w) p g (dpW w (nP w - (p + 1)))) 0 (nH w) (dpW w (nP w - (p + 1)) g) := by
    unfold dpW
    rw [show nP w - p = (nP w - (p + 1)) + 1 by omega]
    show flN (dpF (GV w) (nP w - (nP w - (p + 1) + 1)) g (dp (GV w) (nP w) (nH w) (nP w - (p + 1)))) 0 (nH w) _ = _
    rw [show nP w - (nP w - (p + 1) + 1) = p by omega]
  rw [hd]
  have key := lp_upI (fun n i s => f_X3_laysGifts_71 n k52 w (nI p) (nI g) (nI s) (nI i) gv) (fun s => k52 (nI p) (nI (g + 1)) (upd gv (1024 * p + g) (nI s))) (dpF (GV w) p g (dpW w (nP w - (p + 1)))) (nH w) (fun i s => s ≤ 8) ?_ ?_ ?_ FU 0 (dpW w (nP w - (p + 1)) g) (Nat.zero_le _) (FU_lt (by omega)) (Nat.le_trans (dp_le _ _) (by omega))
  · exact key.1
  · intro n s hs
    simp only [f_X3_laysGifts_71]
    rw [e3, if_pos (nI_leR _), pk_mul, nI_add, gdn ⟨by omega, by decide⟩, nI_clamp (by omega), nI_1]
  · intro n i s hi hs
    simp only [f_X3_laysGifts_71]
    rw [e3, if_neg (nI_ge hi (by omega)), btV g hg i (by omega), m_canGive Z (by omega) (by omega), Option.bind_some, or_n g hg i (by omega), nI_1, nI_1, m_gave (by omega) (or_lt (m := 10) hg (by omega)), Option.bind_some, T (p + 1) (by omega) (by omega) _ (or_lt (m := 10) hg (by omega)), m_max]
    have hle : dpW w (nP w - (p + 1)) (g ||| 2 ^ i) ≤ 8 := Nat.le_trans (dp_le _ _) (by omega)
    rw [show (1 : Int32) + nI (dpW w (nP w - (p + 1)) (g ||| 2 ^ i)) = nI (1 + dpW w (nP w - (p + 1)) (g ||| 2 ^ i)) from nI_add 1 _, mx_nI (by omega) (by omega), Option.bind_some]
    unfold dpF
    cases hb : g.testBit i
    · rw [if_pos (show bI false = 0 from rfl)]
      cases hG : GV w p i
      · rw [if_pos (show bI false = 0 from rfl), if_neg (by simp)]
      · rw [if_neg (show ¬ bI true = 0 by decide), if_pos (by simp)]
    · rw [if_neg (show ¬ bI true = 0 by decide), if_neg (by simp)]
  · intro i s hi hs
    show dpF (GV w) p g (dpW w (nP w - (p + 1))) i s ≤ 8
    have hle : dpW w (nP w - (p + 1)) (g ||| 2 ^ i) ≤ nP w - (p + 1) := dp_le _ _
    unfold dpF
    split <;> omega
theorem m_lay52 (Z : Rng w) (hp : p < nP w) (T : gvT w (p + 1) gv) (k46 : Int32 → (Nat → Int32) → Option (Int32 × (Nat → Int32))) : ∃ gv', f_X3_laysGifts_52 FU k46 w (nI p) 0 gv = k46 (nI p + (-1)) gv' ∧ gvT w p gv' := by
  have b1 := Z.gP.2
  obtain ⟨gv', m, ⟨t1, t2⟩, e⟩ := lp_ex (fun n i gv => f_X3_laysGifts_52 n k46 w (nI p) (nI i) gv) 1024 (fun i gv => gvT w (p + 1) gv ∧ ∀ g, g < i → gv (1024 * p + g) = nI (dpW w (nP w - p) g)) (fun n i gv hi hP => by
    obtain ⟨T, H⟩ := hP
    refine ⟨upd gv (1024 * p + i) (nI (dpW w (nP w - p) i)), ⟨fun q h1 h2 g hg => ?_, fun g hg => ?_⟩, ?_⟩
    · rw [upd_n (by omega)]; exact T q h1 h2 g hg
    · by_cases h : g = i
      · subst h; exact upd_s
      · rw [upd_n (by omega)]; exact H g (by omega)
    · simp only [f_X3_laysGifts_52]
      rw [if_neg (nI_ge hi (by decide)), nI_1, m_gave (by omega) hi, Option.bind_some, T (p + 1) (by omega) (by omega) i hi]
      exact m_lay71 Z hp hi T _) FU 0 gv (Nat.zero_le _) (FU_lt (by decide)) ⟨T, fun g hg => absurd hg (by omega)⟩
  refine ⟨gv', ?_, fun q h1 h2 g hg => ?_⟩
  · refine Eq.trans e ?_
    simp only [f_X3_laysGifts_52]
    rw [if_pos (nI_leR 1024)]
  · by_cases h : q = p
    · subst h; exact t2 g hg
    · exact t1 q (by omega) h2 g hg
theorem m_laysGifts (Z : Rng w) : ∃ gv', f_X3_laysGifts w gv = some (nI (dpW w (nP w) 0), gv') ∧ gvT w 0 gv' := by
  obtain ⟨e1, b1⟩ := Z.gP
  obtain ⟨g1, m, t1, e⟩ := lp_ex (fun n i gv => f_X3_laysGifts_2 n w (nI i) gv) 1024 (fun i gv => ∀ g, g < i → gv (1024 * nP w + g) = 0) (fun n i gv hi H => by
    refine ⟨upd gv (1024 * nP w + i) 0, fun g hg => ?_, ?_⟩
    · by_cases h : g = i
      · subst h; exact upd_s
      · rw [upd_n (by omega)]; exact H g (by omega)
    · simp only [f_X3_laysGifts_2]
      rw [if_neg (nI_ge hi (by decide)), e1, pk_mul, nI_add, gdn ⟨by omega, by decide⟩, nI_clamp (by omega), nI_1]) FU 0 gv (Nat.zero_le _) (FU_lt (by decide)) (fun g hg => absurd hg (by omega))
  have T0 : gvT w (nP w) g1 := fun p h1 h2 g hg => by
    rw [show p = nP w by omega, t1 g hg, Nat.sub_self]
    rfl
  obtain ⟨g2, m2, t2, e2⟩ := lp_ex (fun n i gv => f_X3_laysGifts_46 n w (nI (nP w - i) - 1) gv) (nP w) (fun i gv => gvT w (nP w - i) gv) (fun n i gv hi T => by
    obtain ⟨gv', e, T'⟩ := m_lay52 (p := nP w - (i + 1)) Z (by omega) (gv := gv) (by rw [show nP w - (i + 1) + 1 = nP w - i by omega]; exact T) (f_X3_laysGifts_46 n w)
    refine ⟨gv', T', ?_⟩
    simp only [f_X3_laysGifts_46]
    rw [show nP w - i = (nP w - (i + 1)) + 1 by omega, nI_pred, if_neg (nI_pos (by omega)), e, show nI (nP w - (i + 1)) + (-1) = nI (nP w - (i + 1)) - 1 from (Int32.sub_eq_add_neg _ _).symm]) FU 0 g1 (Nat.zero_le _) (FU_lt (by omega)) (by rw [Nat.sub_zero]; exact T0)
  refine ⟨g2, ?_, by rw [Nat.sub_self] at t2; exact t2⟩
  have e0 : f_X3_laysGifts w gv = f_X3_laysGifts_2 (m + 1) w (nI 1024) g1 := e
  rw [e0]
  simp only [f_X3_laysGifts_2]
  rw [if_pos (nI_leR 1024), e1]
  have e3 : f_X3_laysGifts_46 FU w (nI (nP w) - 1) g1 = f_X3_laysGifts_46 (m2 + 1) w (nI (nP w - nP w) - 1) g2 := by
    have := e2
    rw [Nat.sub_zero] at this
    exact this
  rw [e3, Nat.sub_self]
  simp only [f_X3_laysGifts_46]
  rw [if_pos (show nI 0 - 1 < 0 by decide)]
  have h0 : f_X3_gave g2 0 0 = some (g2 (1024 * 0 + 0)) := m_gave (p := 0) (g := 0) (by decide) (by decide)
  rw [h0, Option.bind_some, t2 0 (by omega) (by omega) 0 (by decide)]
  rfl
theorem m_most (Z : Rng w) : ∃ gv', f_X3_most w th st gv = some ((an_most w).1, 0, (an_most w).2, gv') := by
  obtain ⟨gv', e, -⟩ := m_laysGifts (gv := gv) Z
  refine ⟨gv', ?_⟩
  simp only [f_X3_most]
  rw [e, Option.bind_some]
  rfl
theorem gfT_lt (hH : nH w ≤ 10) : ∀ k, gfT w k < 1024
  | 0 => by show (0 : Nat) < 1024; decide
  | k + 1 => by
    have ih := gfT_lt hH k
    unfold gfT
    cases h : gfI w k (gfT w k) with
    | none => exact ih
    | some x =>
      have := (fdN_some h).2.1
      exact or_lt (m := 10) ih (by omega)
theorem m_gift37 (Z : Rng w) (T : gvT w 0 gv) (hk : k < nP w) {tk : Nat} (ht : tk < 1024) (k26 : Int32 → Int32 → Int32 → Int32 → Int32 → Int32 → (Nat → Int32) → Option (Int32 × Int32 × Int32 × (Nat → Int32))) : f_X3_gift_37 FU k26 w a (nI tk) (-1) (nI k) 0 th st gv = k26 a (nI (match gfI w k tk with
    | none => tk
    | some h => tk ||| 2 ^ h)) (eO (gfI w k tk)) (nI (k + 1)) th st gv := by
  obtain ⟨e3, b3⟩ := Z.gH
  have b1 := Z.gP.2
  have step : ∀ n x, x < nH w → f_X3_gift_37 (n + 1) k26 w a (nI tk) (-1) (nI k) (nI x) th st gv = if (gG (GV w) tk k x && decide (1 + dpW w (nP w - (k + 1)) (tk ||| 2 ^ x) = dpW w (nP w - k) tk)) = true then f_X3_gift_37 n k26 w a (nI tk) (nI x) (nI k) (nI (x + 1)) th st gv else f_X3_gift_37 n k26 w a (nI tk) (-1) (nI k) (nI (x + 1)) th st gv := by
    intro n x hx
    have hle1 : dpW w (nP w - (k + 1)) (tk ||| 2 ^ x) ≤ 8 := Nat.le_trans (dp_le _ _) (by omega)
    have hle2 : dpW w (nP w - k) tk ≤ 8 := Nat.le_trans (dp_le _ _) (by omega)
    simp only [f_X3_gift_37]
    rw [e3, if_neg (nI_ge hx (by omega)), if_pos trivial, btV tk ht x (by omega), m_canGive Z (by omega) (by omega), Option.bind_some, or_n tk ht x (by omega), nI_1, nI_1, m_gave (by omega) (or_lt (m := 10) ht (by omega)), Option.bind_some, m_gave (by omega) ht, Option.bind_some, T (k + 1) (by omega) (by omega) _ (or_lt (m := 10) ht (by omega)), T k (by omega) (by omega) _ ht, show (1 : Int32) + nI (dpW w (nP w - (k + 1)) (tk ||| 2 ^ x)) = nI (1 + dpW w (nP w - (k + 1)) (tk ||| 2 ^ x)) from nI_add 1 _]
    unfold gG
    cases hb : tk.testBit x
    · rw [if_pos (show bI false = 0 from rfl)]
      cases hG : GV w k x
      · rw [if_pos (show bI false = 0 from rfl)]; rfl
      · rw [if_neg (show ¬ bI true = 0 by decide)]
        by_cases he : 1 + dpW w (nP w - (k + 1)) (tk ||| 2 ^ x) = dpW w (nP w - k) tk
        · rw [if_pos (by rw [he]), decide_eq_true he]; rfl
        · rw [if_neg (fun z => he ((nI_eq (by omega) (by omega)).mp z)), decide_eq_false he]; rfl
    · rw [if_neg (show ¬ bI true = 0 by decide)]
      simp
  have fin : ∀ n x v, x ≤ nH w → ¬ nI v = -1 → v < 10 → f_X3_gift_37 (n + 1) k26 w a (nI tk) (nI v) (nI k) (nI x) th st gv = k26 a (nI (tk ||| 2 ^ v)) (nI v) (nI (k + 1)) th st gv := by
    intro n x v hx hv hv10
    simp only [f_X3_gift_37, f_X3_gift_110]
    rw [if_neg hv, or_n tk ht v hv10, nI_1]
    split <;> rfl
  have key := lp_fd (fun n x => f_X3_gift_37 (n + 1) k26 w a (nI tk) (-1) (nI k) (nI x) th st gv) (fun x => k26 a (nI (tk ||| 2 ^ x)) (nI x) (nI (k + 1)) th st gv) (k26 a (nI tk) (-1) (nI (k + 1)) th st gv) (fun x => gG (GV w) tk k x && decide (1 + dpW w (nP w - (k + 1)) (tk ||| 2 ^ x) = dpW w (nP w - k) tk)) (nH w) ?_ ?_ 9999 0 (Nat.zero_le _) (by omega)
  · have k' : f_X3_gift_37 FU k26 w a (nI tk) (-1) (nI k) 0 th st gv = _ := key
    rw [k', Nat.sub_zero]
    unfold gfI
    cases fdN (fun x => gG (GV w) tk k x && decide (1 + dpW w (nP w - (k + 1)) (tk ||| 2 ^ x) = dpW w (nP w - k) tk)) 0 (nH w) <;> rfl
  · intro n
    simp only [f_X3_gift_37, f_X3_gift_110]
    rw [e3, if_pos (nI_leR _), if_pos trivial, or_0, nI_1]
  · intro n x hx
    rw [step (n + 1) x hx, fin n (x + 1) x (by omega) (nI_m1 (by omega)) (by omega)]
def gfS (w : Rw) : Nat → Int32
  | 0 => -1
  | i + 1 => eO (gfI w i (gfT w i))
theorem m_gift (Z : Rng w) : ∃ gv', f_X3_gift w th st gv a = some ((an_gift w a).1, 0, (an_gift w a).2, gv') := by
  have b1 := Z.gP.2
  have b3 := Z.gH.2
  simp only [f_X3_gift, m_isHouse, f_X3_refuse, Option.bind_some, an_gift, bI_0]
  by_cases hh : isHs w a = false
  · rw [if_pos hh, if_pos hh]; exact ⟨gv, rfl⟩
  rw [if_neg hh, if_neg hh]
  obtain ⟨p, hp, rfl⟩ := (hs_t Z).mp (Bool.not_eq_false _ ▸ hh)
  obtain ⟨gv', e, T⟩ := m_laysGifts (gv := gv) Z
  refine ⟨gv', ?_⟩
  rw [e, Option.bind_some, nI_clamp (by omega)]
  have key := lp_sq (fun n i (s : Int32 × Int32) => f_X3_gift_26 n w (nI p) s.1 s.2 (nI i) th st gv') (fun i => (nI (gfT w i), gfS w i)) (some ((tO (gfI w p (gfT w p))).1, 0, (tO (gfI w p (gfT w p))).2, gv')) (p + 1) ?_ ?_ FU 0 (Nat.zero_le _) (FU_lt (by omega))
  · exact key
  · intro n
    simp only [f_X3_gift_26]
    rw [if_pos (nI_lt (by omega) (by omega)), show gfS w (p + 1) = eO (gfI w p (gfT w p)) from rfl]
    cases hg : gfI w p (gfT w p) with
    | none => rw [if_pos (show eO none = -1 from rfl)]; rfl
    | some h =>
      have := (fdN_some hg).2.1
      rw [if_neg (show ¬ eO (some h) = -1 from nI_m1 (by omega))]; rfl
  · intro n i hi
    simp only [f_X3_gift_26]
    rw [if_neg (nI_nlt (by omega) (by omega)), m_gift37 Z T (by omega) (gfT_lt b3 i)]
    rfl
end PMO
