/-! lists: clear, add -/
theorem hu_hu {h : AH} {a : Nat} {x y : hE} : hu (hu h a x) a y = hu h a y := by
  funext q
  by_cases e : q = a
  · subst e; rw [hu_s, hu_s]
  · rw [hu_n e, hu_n e, hu_n e]
theorem hu_id {h : AH} {a : Nat} {x : hE} (hx : h a = some x) : hu h a x = h := by
  funext q
  by_cases e : q = a
  · subst e; rw [hu_s, hx]
  · rw [hu_n e]
theorem hu_comm {h : AH} {a b : Nat} {x y : hE} (hab : a ≠ b) : hu (hu h a x) b y = hu (hu h b y) a x := by
  funext q
  by_cases e1 : q = a
  · subst e1; rw [hu_n hab, hu_s, hu_s]
  · by_cases e2 : q = b
    · subst e2; rw [hu_s, hu_n e1, hu_s]
    · rw [hu_n e2, hu_n e1, hu_n e1, hu_n e2]
theorem wr_at {h : AH} {a ci k : Nat} {v : Value} {fs : List Value} (q : h a = some (.inr (.inl (ci, fs)))) (hk : k < fs.length) : wr h a ci k v = some (hu h a (.inr (.inl (ci, fs.set k v)))) := by
  simp [wr, q, hk]
def lO (m : Int32) (e n : Nat) : hE := .inr (.inl (11, [.int m, .ref e, .int (nI n)]))
def rO (cap : Nat) (g : Nat → Option Nat) : hE := .inl (4, cap, .inr (.inr (.inr (.inr g))))
section QL
variable {h : AH} {E : bE} {a e n cap nx x i : Nat} {m : Int32} {f : Nat → Nat} {g : Nat → Option Nat} {v : Option Nat}
theorem l_g0 (q : h a = some (lO m e n)) : gI h a 11 0 = some m := by simp [gI, rd, q, lO, vI]
theorem l_g1 (q : h a = some (lO m e n)) : gA h a 11 1 = some e := by simp [gA, rd, q, lO, vR]
theorem l_g2 (q : h a = some (lO m e n)) : gI h a 11 2 = some (nI n) := by simp [gI, rd, q, lO, vI]
theorem l_o (q : h a = some (lO m e n)) : isO h a 11 = true := by simp [isO, q, lO]
theorem l_w0 (q : h a = some (lO m e n)) (m' : Int32) : wr h a 11 0 (.int m') = some (hu h a (lO m' e n)) := wr_at q (by simp)
theorem l_w1 (q : h a = some (lO m e n)) (e' : Nat) : wr h a 11 1 (.ref e') = some (hu h a (lO m e' n)) := wr_at q (by simp)
theorem l_w2 (q : h a = some (lO m e n)) (n' : Nat) : wr h a 11 2 (.int (nI n')) = some (hu h a (lO m e n')) := wr_at q (by simp)
theorem r_l (q : h e = some (rO cap g)) : aL h e = some (nI cap) := by simp [aL, q, rO]; rfl
theorem r_a (q : h e = some (rO cap g)) : isA h e 4 = true := by simp [isA, q, rO]
theorem r_s (q : h e = some (rO cap g)) (hi : i < cap) (hc : cap < 2 ^ 31) : sR h e 4 (nI i) v = some (hu h e (rO cap (va_up g i v))) := by
  simp only [sR, arR, q, rO, if_true, Option.bind_some]
  rw [gdn ⟨hi, hc⟩, nI_clamp (by omega)]
theorem ne_lr (q1 : h a = some (lO m e n)) (q2 : h e = some (rO cap g)) : a ≠ e := fun z => by
  subst z
  rw [q1] at q2
  cases q2
theorem L_clear (L : LstC h a e n f cap) : ∃ h', f_J2_clear E h nx a = some ((), h', 0, 0) ∧ LstC h' a e 0 f cap ∧ ∀ q, q ≠ a → q ≠ e → h' q = h q := by
  obtain ⟨m, g, q1, q2, q3, q4, q5, q6⟩ := L
  have q1 : h a = some (lO m e n) := q1
  have q2 : h e = some (rO cap g) := q2
  have hne := ne_lr q1 q2
  have a2 : hu h a (lO (m + 1) e n) a = some (lO (m + 1) e n) := hu_s
  have a5 : hu h a (lO (m + 1) e 0) a = some (lO (m + 1) e 0) := hu_s
  have e5 : hu h a (lO (m + 1) e 0) e = some (rO cap g) := (hu_n (Ne.symm hne)).trans q2
  refine ⟨hu (hu h a (lO (m + 1) e 0)) e (rO cap (fun j => if j < n then none else g j)), ?_, ?_, fun q n1 n2 => by rw [hu_n n2, hu_n n1]⟩
  · simp only [f_J2_clear]
    rw [l_g0 q1, Option.bind_some, l_w0 q1, Option.bind_some, l_g1 a2, Option.bind_some, l_g2 a2, Option.bind_some, show (0 : Int32) = nI 0 from rfl, l_w2 a2, Option.bind_some, hu_hu]
    have key := lp_sq (fun n' i hc => f_J2_clear_27 n' E e (nI n) (nI i) hc nx) (fun i => hu (hu h a (lO (m + 1) e 0)) e (rO cap (fun j => if j < i then none else g j))) (some ((), hu (hu h a (lO (m + 1) e 0)) e (rO cap (fun j => if j < n then none else g j)), 0, 0)) n ?_ ?_ FU 0 (Nat.zero_le _) (FU_lt (by omega))
    · rw [show (fun j => if j < 0 then none else g j) = g from funext fun j => if_neg (by omega), hu_id e5] at key
      exact key
    · intro n'
      simp only [f_J2_clear_27]
      rw [if_pos (nI_leR _)]
    · intro n' i hi
      simp only [f_J2_clear_27]
      rw [if_neg (nI_ge hi (by omega)), r_s (g := fun j => if j < i then none else g j) hu_s (by omega) (by omega), Option.bind_some, nI_1, hu_hu]
      have hfn : va_up (fun j => if j < i then none else g j) i none = fun j => if j < i + 1 then none else g j := by
        funext j
        unfold va_up
        by_cases hj : j = i
        · subst hj; rw [if_pos rfl, if_pos (by omega)]
        · rw [if_neg hj]
          dsimp only
          by_cases h2 : j < i
          · rw [if_pos h2, if_pos (by omega)]
          · rw [if_neg h2, if_neg (by omega)]
      rw [hfn]
  · exact ⟨m + 1, fun j => if j < n then none else g j, by rw [hu_n hne]; exact hu_s, hu_s, by omega, q4, q5, fun i hi => absurd hi (by omega), fun i _ hi => by
      dsimp only
      by_cases h2 : i < n
      · rw [if_pos h2]
      · rw [if_neg h2]; exact q6.2 i (by omega) hi⟩
theorem shr1 {n : Nat} (hn : n < 100) : nI n >>> ((1 : Int32) &&& 31) = nI (n / 2) := by
  have : ∀ n, n < 100 → nI n >>> ((1 : Int32) &&& 31) = nI (n / 2) := by decide +kernel
  exact this n hn
theorem newLen {c d k : Nat} (hc : 2 ≤ c) (h1 : c < 100) (hd : d < 100) (hk : k < 100) : f_J11_newLength (nI c) (nI d) (nI k) = some (nI (c + max d k)) := by
  simp only [f_J11_newLength, m_max, Option.bind_some]
  have hm : mx32 (nI d) (nI k) = nI (max d k) := by
    unfold mx32
    by_cases h : d < k
    · rw [if_pos (nI_lt h (by omega)), Nat.max_eq_right (by omega)]
    · rw [if_neg (nI_nlt (by omega) (by omega)), Nat.max_eq_left (by omega)]
  have hle : max d k < 100 := Nat.max_lt.mpr ⟨hd, hk⟩
  rw [hm, nI_add, if_neg (nI_nle (by omega) (by omega)), if_neg (show ¬ (2147483639 : Int32) < nI (c + max d k) from nI_nlt (a := 2147483639) (by omega) (by decide))]
theorem min32 {c d : Nat} (h : c ≤ d) (hd : d < 2 ^ 31) : f_J6_min (nI c) (nI d) = some (nI c) := by
  unfold f_J6_min
  rw [if_neg (nI_nlt h hd)]
theorem cR_ok {s d : Nat} {N : Nat} {g1 : Nat → Option Nat} {k : Nat} (q1 : h s = some (rO cap g)) (q2 : h d = some (rO N g1)) (hk : k ≤ cap) (hk2 : i + k ≤ N) (hc : cap < 2 ^ 30) (hN : N < 2 ^ 30) (hst : ∀ j, j < k → ∀ v ∈ g j, stO 4 (h v) = true) : cR h s 0 d (nI i) (nI k) = some (hu h d (rO N (va_cpy g g1 0 i k))) := by
  have r0 : cpR 0 (nI k) cap = true := by
    unfold cpR
    rw [nI_toInt (by omega)]
    exact decide_eq_true ⟨by decide, by omega, by rw [show (0 : Int32).toInt = 0 by decide]; omega⟩
  have r1 : cpR (nI i) (nI k) N = true := by
    unfold cpR
    rw [nI_toInt (by omega), nI_toInt (by omega)]
    exact decide_eq_true ⟨by omega, by omega, by omega⟩
  simp only [cR, arR, q1, q2, rO, if_true, Option.bind_some]
  rw [gd_e r0, gd_e r1, nI_clamp (by omega), nI_clamp (by omega), show (0 : Int32).toNatClampNeg = 0 by decide]
  rw [gd_e (decide_eq_true (fun j hj v hv => hst j hj v (by rw [Nat.zero_add] at hv; exact hv)))]
/-- a row grows: the new one is the next cell -/
theorem L_grow {k : Nat} (q1 : h a = some (lO m e n)) (q2 : h e = some (rO cap g)) (h2 : 2 ≤ cap) (hc : cap < 60) (hk : cap < k) (hk2 : k < 60) (ha : a < nx) (he : e < nx) (hg : ∀ j, j < cap → ∀ v ∈ g j, stO 4 (h v) = true ∧ v < nx) : f_J2_grow_2 E h nx a (nI k) = some (nx, hu (hu h nx (rO (cap + max (k - cap) (cap / 2)) (va_cpy g (fun _ => none) 0 0 cap))) a (lO m nx n), 1, cap + max (k - cap) (cap / 2)) := by
  have hm : max (k - cap) (cap / 2) < 60 := Nat.max_lt.mpr ⟨by omega, by omega⟩
  simp only [f_J2_grow_2, l_g1 q1, Option.bind_some, r_l q2]
  rw [if_pos (show (0 : Int32) < nI cap from nI_lt (a := 0) (by omega) (by omega))]
  simp only [f_J2_grow_2_20, l_g1 q1, Option.bind_some]
  rw [pk_sub (by omega), shr1 (by omega), newLen h2 (by omega) (by omega) (by omega), Option.bind_some]
  generalize hN : cap + max (k - cap) (cap / 2) = N at *
  have hN2 : cap < N ∧ N < 120 := by
    have : k - cap ≤ max (k - cap) (cap / 2) := Nat.le_max_left _ _
    omega
  have hnA : nA (nI N) = true := by
    unfold nA
    rw [nI_toInt (by omega)]
    exact decide_eq_true ⟨by omega, by omega⟩
  have e4 : hu h nx (rO N (fun _ => none)) e = some (rO cap g) := (hu_n (by omega)).trans q2
  have key : f_J12_copyOf_2 E h nx e (nI N) = some (nx, hu h nx (rO N (va_cpy g (fun _ => none) 0 0 cap)), 1, N) := by
    simp only [f_J12_copyOf_2, r_a q2, gdT, f_J12_copyOf_3, if_true, hnA, bd]
    rw [nI_clamp (by omega)]
    rw [show (Sum.inl (4, N, Sum.inr (Sum.inr (Sum.inr (Sum.inr (fun _ => none))))) : hE) = rO N (fun _ => none) from rfl, r_l e4, Option.bind_some, min32 (by omega) (by omega), Option.bind_some, show (0 : Int32) = nI 0 from rfl]
    rw [show cR (hu h nx (rO N (fun _ => none))) e (nI 0) nx (nI 0) (nI cap) = some (hu h nx (rO N (va_cpy g (fun _ => none) 0 0 cap))) from by
      have := cR_ok (i := 0) (k := cap) e4 (hu_s (h := h) (a := nx) (e := rO N (fun _ => none))) (Nat.le_refl _) (by omega) (by omega) (by omega) (fun j hj v hv => by
        rw [hu_n (by have := (hg j hj v hv).2; omega)]; exact (hg j hj v hv).1)
      rw [hu_hu] at this
      exact this]
    simp [aC]
  rw [key, Option.bind_some]
  have a7 : hu h nx (rO N (va_cpy g (fun _ => none) 0 0 cap)) a = some (lO m e n) := (hu_n (by omega)).trans q1
  rw [l_w1 a7]
  simp [aC]
/-- one more; the cost by the row's growth -/
theorem L_add (L : LstC h a e n f cap) (hn : n < 40) (hc : cap < 60) (hx : stO 4 (h x) = true) (hxa : x ≠ a) (hxe : x ≠ e) (hxn : x < nx) (ha : a < nx) (he : e < nx) (hf : ∀ j, j < n → stO 4 (h (f j)) = true ∧ f j < nx) :
    ∃ h' e' cap' c d, f_J2_add E h nx a x = some (1, h', c, d) ∧ LstC h' a e' (n + 1) (fun j => if j = n then x else f j) cap' ∧ (∀ q, q ≠ a → q ≠ e → q < nx → h' q = h q) ∧ ((e' = e ∧ c = 0) ∨ (e' = nx ∧ c = 1)) ∧ cap ≤ cap' ∧ c ≤ cap' - cap ∧ d ≤ 4 * (cap' - cap) ∧ (cap' < 60) := by
  obtain ⟨m, g, q1, q2, q3, q4, q5, q6⟩ := L
  have q1 : h a = some (lO m e n) := q1
  have q2 : h e = some (rO cap g) := q2
  have hne := ne_lr q1 q2
  have a2 : hu h a (lO (m + 1) e n) a = some (lO (m + 1) e n) := hu_s
  have e2 : hu h a (lO (m + 1) e n) e = some (rO cap g) := (hu_n (Ne.symm hne)).trans q2
  have x2 : stO 4 (hu h a (lO (m + 1) e n) x) = true := by rw [hu_n hxa]; exact hx
  simp only [f_J2_add]
  rw [l_g0 q1, Option.bind_some, l_w0 q1, Option.bind_some, l_g1 a2, Option.bind_some, l_g2 a2, Option.bind_some, l_o a2, gdT]
  simp only [f_J2_add_2, r_l e2, Option.bind_some]
  by_cases hfull : n = cap
  · rw [if_pos (by rw [hfull]), l_o a2, gdT]
    simp only [f_J2_grow, l_g2 a2, Option.bind_some, l_o a2, gdT, nI_1]
    have hk : n + 1 - cap = 1 := by omega
    rw [L_grow (k := n + 1) a2 e2 q4 hc (by omega) (by omega) ha he (fun j hj v hv => by
      rw [q6.1 j (by omega)] at hv
      cases hv
      have := hf j (by omega)
      by_cases z : f j = a
      · rw [z, hu_s]; exact ⟨by simp [stO, lO], ha⟩
      · rw [hu_n z]; exact this), Option.bind_some, hk]
    have hm1 : 1 ≤ max 1 (cap / 2) := Nat.le_max_left _ _
    have hm2 : max 1 (cap / 2) ≤ 1 + cap / 2 := Nat.max_le.mpr ⟨by omega, by omega⟩
    have hm3 : cap / 2 ≤ max 1 (cap / 2) := Nat.le_max_right _ _
    generalize hN : max 1 (cap / 2) = N at *
    rw [hu_comm (by omega), hu_hu]
    have nx8 : hu (hu h a (lO (m + 1) nx n)) nx (rO (cap + N) (va_cpy g (fun _ => none) 0 0 cap)) nx = some (rO (cap + N) (va_cpy g (fun _ => none) 0 0 cap)) := hu_s
    simp only [aC, Option.bind_some, f_J2_add_2_11]
    rw [show stO 4 (hu (hu h a (lO (m + 1) nx n)) nx (rO (cap + N) (va_cpy g (fun _ => none) 0 0 cap)) x) = true by rw [hu_n (by omega), hu_n hxa]; exact hx, gdT, r_s nx8 (by omega) (by omega), Option.bind_some, hu_hu, nI_1]
    have a9 : hu (hu h a (lO (m + 1) nx n)) nx (rO (cap + N) (va_up (va_cpy g (fun _ => none) 0 0 cap) n (some x))) a = some (lO (m + 1) nx n) := (hu_n (by omega)).trans hu_s
    rw [l_w2 a9]
    refine ⟨_, nx, cap + N, 1, cap + N, by simp; rfl, ⟨m + 1, va_up (va_cpy g (fun _ => none) 0 0 cap) n (some x), hu_s, by rw [hu_n (by omega)]; exact hu_s, by omega, by omega, by omega, fun i hi => ?_, fun i hi hi2 => by unfold va_up va_cpy; rw [if_neg (by omega), if_neg (by omega)]⟩, fun q z1 z2 z3 => by rw [hu_n z1, hu_n (by omega), hu_n z1], Or.inr ⟨rfl, rfl⟩, by omega, by omega, by omega, by omega⟩
    unfold va_up va_cpy
    dsimp only
    by_cases hi2 : i = n
    · rw [if_pos hi2, if_pos hi2]
    · rw [if_neg hi2, if_neg hi2, if_pos ⟨by omega, by omega⟩, show 0 + (i - 0) = i by omega]
      exact q6.1 i (by omega)
  · rw [if_neg (fun z => hfull ((nI_eq (by omega) (by omega)).mp z))]
    simp only [f_J2_add_2_11]
    rw [x2, gdT, r_s e2 (by omega) (by omega), Option.bind_some, nI_1]
    have a9 : hu (hu h a (lO (m + 1) e n)) e (rO cap (va_up g n (some x))) a = some (lO (m + 1) e n) := (hu_n hne).trans hu_s
    rw [l_w2 a9]
    refine ⟨_, e, cap, 0, 0, by simp [aC]; rfl, ⟨m + 1, va_up g n (some x), hu_s, by rw [hu_n (Ne.symm hne)]; exact hu_s, by omega, q4, q5, fun i hi => ?_, fun i hi hi2 => by unfold va_up; rw [if_neg (by omega)]; exact q6.2 i (by omega) hi2⟩, fun q z1 z2 z3 => by rw [hu_n z1, hu_n z2, hu_n z1], Or.inl ⟨rfl, rfl⟩, Nat.le_refl _, by omega, by omega, hc⟩
    unfold va_up
    dsimp only
    by_cases hi2 : i = n
    · rw [if_pos hi2, if_pos hi2]
    · rw [if_neg hi2, if_neg hi2]
      exact q6.1 i (by omega)
end QL
