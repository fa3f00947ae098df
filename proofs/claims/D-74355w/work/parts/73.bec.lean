/-! a register becomes another one -/
section PBL
variable {h : AH} {E : bE} {a e a2 e2 n cap cap2 nx x i : Nat} {m : Int32} {f f0 : Nat → Nat} {g : Nat → Option Nat} {v : Option Nat}
theorem min_sz {c d : Nat} (h : d ≤ c) (hc : c < 2 ^ 31) : f_J6_min (nI c) (nI d) = some (nI d) := by
  unfold f_J6_min
  by_cases hd : d = c
  · subst hd
    rw [if_neg (nI_nlt (Nat.le_refl _) hc)]
  · rw [if_pos (nI_lt (by omega) hc)]
theorem L_toArray (L : LstC h a e n f cap) (ha : a < nx) (he : e < nx) (hf : ∀ j, j < n → stO 4 (h (f j)) = true ∧ f j < nx) : ∃ g, f_J2_toArray E h nx a = some (nx, hu h nx (rO n g), 1, n) ∧ ∀ i, i < n → g i = some (f i) := by
  obtain ⟨m, g, q1, q2, q3, q4, q5, q6⟩ := L
  have q1 : h a = some (lO m e n) := q1
  have q2 : h e = some (rO cap g) := q2
  have hnA : nA (nI n) = true := by
    unfold nA
    rw [nI_toInt (by omega)]
    exact decide_eq_true ⟨by omega, by omega⟩
  have e4 : hu h nx (rO n (fun _ => none)) e = some (rO cap g) := (hu_n (by omega)).trans q2
  refine ⟨va_cpy g (fun _ => none) 0 0 n, ?_, fun i hi => ?_⟩
  · simp only [f_J2_toArray, l_g1 q1, l_g2 q1, Option.bind_some, f_J12_copyOf_2, r_a q2, gdT, f_J12_copyOf_3, if_true, hnA, bd]
    rw [nI_clamp (by omega)]
    rw [show (Sum.inl (4, n, Sum.inr (Sum.inr (Sum.inr (Sum.inr (fun _ => none))))) : hE) = rO n (fun _ => none) from rfl, r_l e4, Option.bind_some, min_sz q3 (by omega), Option.bind_some, show (0 : Int32) = nI 0 from rfl]
    rw [show cR (hu h nx (rO n (fun _ => none))) e (nI 0) nx (nI 0) (nI n) = some (hu h nx (rO n (va_cpy g (fun _ => none) 0 0 n))) from by
      have := cR_ok (i := 0) (k := n) e4 (hu_s (h := h) (a := nx) (e := rO n (fun _ => none))) q3 (by omega) (by omega) (by omega) (fun j hj v hv => by
        rw [q6.1 j hj] at hv
        cases hv
        have := hf j hj
        rw [hu_n (by omega)]; exact this.1)
      rw [hu_hu] at this
      exact this]
    simp [aC]
  · unfold va_cpy
    rw [if_pos ⟨by omega, by omega⟩, show 0 + (i - 0) = i by omega]
    exact q6.1 i hi
theorem L_addAll (L : LstC h a e 0 f0 cap) (L2 : LstC h a2 e2 n f cap2) (hn : n ≤ 30) (hc : cap < 60) (ha : a < nx) (he : e < nx) (ha2 : a2 < nx) (he2 : e2 < nx) (hf : ∀ j, j < n → stO 4 (h (f j)) = true ∧ f j < nx ∧ f j ≠ a ∧ f j ≠ e) : ∃ v h' e' cap' c d, f_J2_addAll E h nx a a2 = some (v, h', c, d) ∧ LstC h' a e' n f cap' ∧ (e' = e ∨ nx ≤ e') ∧ e' < nx + c ∧ cap ≤ cap' ∧ cap' < 60 ∧ c ≤ 2 ∧ d ≤ 90 ∧ ∀ q, q < nx → q ≠ a → q ≠ e → h' q = h q := by
  obtain ⟨g1, t1, t2⟩ := L_toArray (E := E) L2 ha2 he2 (fun j hj => ⟨(hf j hj).1, (hf j hj).2.1⟩)
  obtain ⟨m, g, q1, q2, q3, q4, q5, q6⟩ := L
  have q1 : h a = some (lO m e 0) := q1
  have q2 : h e = some (rO cap g) := q2
  have hne := ne_lr q1 q2
  have o2 : isO h a2 11 = true := L2.o
  have a1 : hu h nx (rO n g1) a = some (lO m e 0) := (hu_n (by omega)).trans q1
  have a3 : hu (hu h nx (rO n g1)) a (lO (m + 1) e 0) a = some (lO (m + 1) e 0) := hu_s
  have n3 : hu (hu h nx (rO n g1)) a (lO (m + 1) e 0) nx = some (rO n g1) := (hu_n (by omega)).trans hu_s
  have e3 : hu (hu h nx (rO n g1)) a (lO (m + 1) e 0) e = some (rO cap g) := by rw [hu_n (Ne.symm hne), hu_n (by omega)]; exact q2
  simp only [f_J2_addAll, o2, gdT, t1, Option.bind_some, l_g0 a1, l_w0 a1, r_l n3]
  by_cases h0 : n = 0
  · subst h0
    rw [if_pos (show nI 0 = 0 from rfl), aC_some]
    refine ⟨_, _, e, cap, _, _, rfl, ⟨m + 1, g, hu_s, e3, q3, q4, q5, fun i hi => absurd hi (by omega), q6.2⟩, Or.inl rfl, by omega, Nat.le_refl _, hc, by omega, by omega, fun q z1 z2 z3 => by rw [hu_n z2, hu_n (by omega)]⟩
  · rw [if_neg (nI_ne0 (by omega) (by omega)), l_g1 a3, Option.bind_some, r_l e3, Option.bind_some, l_g2 a3, Option.bind_some, show nI cap - nI 0 = nI cap by rw [nI_0]; exact Int32.sub_zero _]
    have st3 : ∀ (h3 : AH), (∀ q, q < nx → q ≠ a → q ≠ e → h3 q = h q) → ∀ j, j < n → ∀ v ∈ g1 j, stO 4 (h3 v) = true := fun h3 hk j hj v hv => by
      rw [t2 j hj] at hv
      cases hv
      have := hf j hj
      rw [hk _ this.2.1 this.2.2.1 this.2.2.2]
      exact this.1
    by_cases hle : n ≤ cap
    · rw [if_pos (nI_le hle (by omega))]
      simp only [f_J2_addAll_56]
      rw [show (0 : Int32) = nI 0 from rfl, show cR (hu (hu h nx (rO n g1)) a (lO (m + 1) e 0)) nx (nI 0) e (nI 0) (nI n) = _ from cR_ok (i := 0) (k := n) n3 e3 (Nat.le_refl _) (by omega) (by omega) (by omega) (st3 _ (fun q z1 z2 z3 => by rw [hu_n z2, hu_n (by omega)])), Option.bind_some, nI_add, Nat.zero_add]
      have a9 : hu (hu (hu h nx (rO n g1)) a (lO (m + 1) e 0)) e (rO cap (va_cpy g1 g 0 0 n)) a = some (lO (m + 1) e 0) := (hu_n hne).trans hu_s
      rw [l_w2 a9, Option.bind_some, aC_some]
      refine ⟨_, _, e, cap, _, _, rfl, ⟨m + 1, va_cpy g1 g 0 0 n, hu_s, by rw [hu_n (Ne.symm hne)]; exact hu_s, hle, q4, q5, fun i hi => ?_, fun i hi hi2 => ?_⟩, Or.inl rfl, by omega, Nat.le_refl _, hc, by omega, by omega, fun q z1 z2 z3 => by rw [hu_n z2, hu_n z3, hu_n z2, hu_n (by omega)]⟩
      · unfold va_cpy
        rw [if_pos ⟨by omega, by omega⟩, show 0 + (i - 0) = i by omega]
        exact t2 i hi
      · unfold va_cpy
        rw [if_neg (by omega)]
        exact q6.2 i (by omega) hi2
    · rw [if_neg (nI_ge (by omega) (by omega)), l_o a3, gdT, nI_add, Nat.zero_add]
      rw [L_grow (k := n) a3 e3 q4 hc (by omega) (by omega) (by omega) (by omega) (fun j hj v hv => by
        rw [q6.2 j (by omega) hj] at hv
        cases hv), Option.bind_some]
      have hm1 : n - cap ≤ max (n - cap) (cap / 2) := Nat.le_max_left _ _
      have hm2 : max (n - cap) (cap / 2) ≤ 30 := Nat.max_le.mpr ⟨by omega, by omega⟩
      have hm3 : max (n - cap) (cap / 2) + cap < 60 := by
        rcases Nat.le_total (n - cap) (cap / 2) with z | z
        · rw [Nat.max_eq_right z]; omega
        · rw [Nat.max_eq_left z]; omega
      generalize hN : max (n - cap) (cap / 2) = N at *
      dsimp only
      simp only [f_J2_addAll_56]
      have hcm : hu (hu (hu (hu h nx (rO n g1)) a (lO (m + 1) e 0)) (nx + 1) (rO (cap + N) (va_cpy g (fun _ => none) 0 0 cap))) a (lO (m + 1) (nx + 1) 0) = hu (hu (hu h nx (rO n g1)) a (lO (m + 1) (nx + 1) 0)) (nx + 1) (rO (cap + N) (va_cpy g (fun _ => none) 0 0 cap)) := by
        rw [hu_comm (a := nx + 1) (by omega), hu_hu]
      rw [hcm]
      have n7 : hu (hu (hu h nx (rO n g1)) a (lO (m + 1) (nx + 1) 0)) (nx + 1) (rO (cap + N) (va_cpy g (fun _ => none) 0 0 cap)) nx = some (rO n g1) := by rw [hu_n (by omega), hu_n (by omega)]; exact hu_s
      rw [show (0 : Int32) = nI 0 from rfl, show cR (hu (hu (hu h nx (rO n g1)) a (lO (m + 1) (nx + 1) 0)) (nx + 1) (rO (cap + N) (va_cpy g (fun _ => none) 0 0 cap))) nx (nI 0) (nx + 1) (nI 0) (nI n) = _ from cR_ok (i := 0) (k := n) n7 hu_s (Nat.le_refl _) (by omega) (by omega) (by omega) (st3 _ (fun q z1 z2 z3 => by rw [hu_n (by omega), hu_n z2, hu_n (by omega)])), Option.bind_some, nI_add, Nat.zero_add, hu_hu]
      have a9 : hu (hu (hu h nx (rO n g1)) a (lO (m + 1) (nx + 1) 0)) (nx + 1) (rO (cap + N) (va_cpy g1 (va_cpy g (fun _ => none) 0 0 cap) 0 0 n)) a = some (lO (m + 1) (nx + 1) 0) := (hu_n (by omega)).trans hu_s
      rw [l_w2 a9, Option.bind_some, aC_some, aC_some]
      refine ⟨_, _, nx + 1, cap + N, _, _, rfl, ⟨m + 1, va_cpy g1 (va_cpy g (fun _ => none) 0 0 cap) 0 0 n, hu_s, by rw [hu_n (by omega)]; exact hu_s, by omega, by omega, by omega, fun i hi => ?_, fun i hi hi2 => ?_⟩, Or.inr (by omega), by omega, by omega, by omega, by omega, by omega, fun q z1 z2 z3 => by rw [hu_n z2, hu_n (by omega), hu_n z2, hu_n (by omega)]⟩
      · unfold va_cpy
        rw [if_pos ⟨by omega, by omega⟩, show 0 + (i - 0) = i by omega]
        exact t2 i hi
      · unfold va_cpy
        rw [if_neg (by omega)]
        by_cases hi3 : i < cap
        · rw [if_pos ⟨by omega, by omega⟩, show 0 + (i - 0) = i by omega]
          exact q6.2 i (by omega) hi3
        · rw [if_neg (by omega)]
end PBL
section PBE
variable {h h1 : AH} {nx nx' : Nat} {M M' : Nat → Prop} {o r eL eO_ cL cO r2 e2L e2O c2L c2O : Nat} {w W : Rw} {p x a b dn k i : Nat} {zs : Nat → Nat} {n : Nat} {E : bE}
variable {F F2 : Nat → Nat → Int32} {wk rf wk2 rf2 : Int32} {sc sc2 : Int32 × Int32 × Int32 × Int32} {nl no nl2 no2 : Nat} {la oa la2 oa2 : Nat → Nat}
theorem al_lt (a : Nat) : al a < 2 ^ 30 := by unfold al; split; (decide); split; (decide); split <;> decide
def wsE (g : Nat → Option Nat) : hE := .inl (7, 12, .inr (.inr (.inr (.inr g))))
theorem s7 {g : Nat → Option Nat} (q : h a = some (wsE g)) (hi : i < 12) (v : Option Nat) : sR h a 7 (nI i) v = some (hu h a (wsE (va_up g i v))) := by
  simp only [sR, arR, q, wsE, if_true, Option.bind_some]
  rw [gdn ⟨hi, by decide⟩, nI_clamp (by omega)]
/-- the row of a register's twelve rows -/
theorem x_rows (R : RegH h o r eL eO_ F wk rf sc nl la no oa cL cO) (hn : ∀ q, Own r eL eO_ q → q < nx) : ∃ g, f_X2_rows E h nx r = some (nx, hu h nx (wsE g), 1, 12) ∧ ∀ i, i < 12 → g i = some (r + (i + 1)) := by
  have hr := hn r (Or.inl ⟨by omega, by omega⟩)
  have hk : ∀ g, RegH (hu h nx (wsE g)) o r eL eO_ F wk rf sc nl la no oa cL cO := fun g => R.kept (fun q hq => hu_n (by have := hn q hq; omega))
  have st : ∀ (g : Nat → Option Nat) (i : Nat), i < 12 → stO 7 (hu h nx (wsE g) (r + (i + 1))) = true := fun g i hi => by
    rw [(hk g).2.1 i (by omega)]
    unfold ak
    rw [if_pos hi]
    rfl
  have s7' : ∀ (g : Nat → Option Nat) (i : Nat) (v : Option Nat), i < 12 → sR (hu h nx (wsE g)) nx 7 (nI i) v = some (hu h nx (wsE (va_up g i v))) := fun g i v hi => by rw [s7 hu_s hi, hu_hu]
  have s70 : ∀ (g : Nat → Option Nat) (v : Option Nat), sR (hu h nx (wsE g)) nx 7 0 v = some (hu h nx (wsE (va_up g 0 v))) := fun g v => s7' g 0 v (by decide)
  have s71 : ∀ (g : Nat → Option Nat) (v : Option Nat), sR (hu h nx (wsE g)) nx 7 1 v = some (hu h nx (wsE (va_up g 1 v))) := fun g v => s7' g 1 v (by decide)
  refine ⟨(va_up (va_up (va_up (va_up (va_up (va_up (va_up (va_up (va_up (va_up (va_up (va_up (fun _ => none) 0 (some (r + 1))) 1 (some (r + 2))) 2 (some (r + 3))) 3 (some (r + 4))) 4 (some (r + 5))) 5 (some (r + 6))) 6 (some (r + 7))) 7 (some (r + 8))) 8 (some (r + 9))) 9 (some (r + 10))) 10 (some (r + 11))) 11 (some (r + 12))), ?_, ?_⟩
  · simp only [f_X2_rows]
    rw [show (Sum.inl (7, 12, Sum.inr (Sum.inr (Sum.inr (Sum.inr (fun _ => none))))) : hE) = wsE (fun _ => none) from rfl]
    rw [(hk _).g0, Option.bind_some, st _ 0 (by decide), gdT, s70, Option.bind_some, (hk _).g1, Option.bind_some, st _ 1 (by decide), gdT, s71, Option.bind_some, (hk _).g2, Option.bind_some, st _ 2 (by decide), gdT, s7' _ _ _ (by decide), Option.bind_some, (hk _).g3, Option.bind_some, st _ 3 (by decide), gdT, s7' _ _ _ (by decide), Option.bind_some, (hk _).g4, Option.bind_some, st _ 4 (by decide), gdT, s7' _ _ _ (by decide), Option.bind_some, (hk _).g5, Option.bind_some, st _ 5 (by decide), gdT, s7' _ _ _ (by decide), Option.bind_some, (hk _).g6, Option.bind_some, st _ 6 (by decide), gdT, s7' _ _ _ (by decide), Option.bind_some, (hk _).g7, Option.bind_some, st _ 7 (by decide), gdT, s7' _ _ _ (by decide), Option.bind_some, (hk _).g8, Option.bind_some, st _ 8 (by decide), gdT, s7' _ _ _ (by decide), Option.bind_some, (hk _).g9, Option.bind_some, st _ 9 (by decide), gdT, s7' _ _ _ (by decide), Option.bind_some, (hk _).g10, Option.bind_some, st _ 10 (by decide), gdT, s7' _ _ _ (by decide), Option.bind_some, (hk _).g11, Option.bind_some, st _ 11 (by decide), gdT, s7' _ _ _ (by decide), Option.bind_some, aC_some]
  · intro i hi
    have hx : i = 0 ∨ i = 1 ∨ i = 2 ∨ i = 3 ∨ i = 4 ∨ i = 5 ∨ i = 6 ∨ i = 7 ∨ i = 8 ∨ i = 9 ∨ i = 10 ∨ i = 11 := by omega
    rcases hx with rfl | rfl | rfl | rfl | rfl | rfl | rfl | rfl | rfl | rfl | rfl | rfl <;> rfl
theorem RelF_ext {F' : Nat → Nat → Int32} (Q : RelF F wk rf w) (Z : Rng w) (hF : ∀ a j, a < 15 → j < al a → F' a j = F a j) : RelF F' wk rf w := by
  have b1 := Z.gH.2
  have b2 := Z.gP.2
  obtain ⟨q1, q2, q3, q4, q5, q6, q7⟩ := Q
  refine ⟨fun k hk => by rw [hF 0 k (by decide) (by unfold al; simpa using hk)]; exact q1 k hk, fun p hp => ?_, fun p i hp hi => ?_, fun h hh => ?_, fun h hh => ?_, q6, q7⟩
  · have h8 : ∀ a, a = 1 ∨ a = 2 ∨ a = 3 ∨ a = 4 ∨ a = 5 ∨ a = 6 ∨ a = 10 ∨ a = 13 ∨ a = 14 → F' a p = F a p := fun a ha => by
      refine hF a p (by omega) ?_
      rcases ha with rfl | rfl | rfl | rfl | rfl | rfl | rfl | rfl | rfl <;> (show p < 8; omega)
    rw [h8 1 (by omega), h8 2 (by omega), h8 3 (by omega), h8 4 (by omega), h8 5 (by omega), h8 6 (by omega), h8 10 (by omega), h8 13 (by omega), h8 14 (by omega)]
    exact q2 p hp
  · have := (Z.p11 (p := p) (by omega)).2
    rw [hF 7 _ (by decide) (by show 6 * p + i < 48; omega)]
    exact q3 p i hp hi
  · rw [hF 11 h (by decide) (by show h < 10; omega), hF 12 h (by decide) (by show h < 10; omega), hF 8 h (by decide) (by show h < 10; omega)]
    exact q4 h hh
  · rw [hF 9 h (by decide) (by show h < 10; omega)]
    exact q5 h hh
/-- a whole row is copied -/
theorem cI_at {t N : Nat} {f g : Nat → Int32} (q1 : h a = some (.inl (t, N, .inl f))) (q2 : h b = some (.inl (t, N, .inl g))) (hN : N < 2 ^ 30) : cI h t a 0 b 0 (nI N) = some (hu h b (.inl (t, N, .inl (va_cpy f g 0 0 N)))) := by
  have r0 : cpR 0 (nI N) N = true := by
    unfold cpR
    rw [nI_toInt (by omega)]
    exact decide_eq_true ⟨by decide, by omega, by rw [show (0 : Int32).toInt = 0 by decide]; omega⟩
  simp only [cI, arI, q1, q2, if_true, Option.bind_some]
  rw [gd_e r0, gd_e r0, nI_clamp (by omega), show (0 : Int32).toNatClampNeg = 0 by decide]
theorem cpy_at {f g : Nat → Int32} {N j : Nat} (hj : j < N) : va_cpy f g 0 0 N j = f j := by
  unfold va_cpy
  rw [if_pos ⟨by omega, by omega⟩, show 0 + (j - 0) = j by omega]
/-- a list of a register is another one's -/
theorem RegH.l15 (R : RegH h o r2 e2L e2O F2 wk2 rf2 sc2 nl2 la2 no2 oa2 c2L c2O) {e' n' c' : Nat} {f' : Nat → Nat} (hO : ∀ q, Own r2 e2L e2O q → q < nx) (L : LstC h1 (r2 + 16) e' n' f' c') (he : e' = e2L ∨ nx ≤ e') (hk : ∀ q, q < nx → q ≠ r2 + 16 → q ≠ e2L → h1 q = h q) : RegH h1 o r2 e' e2O F2 wk2 rf2 sc2 n' f' no2 oa2 c' c2O := by
  obtain ⟨r1, r2', r3, r4, r5, r6, r7, r8⟩ := R
  have hr := hO (r2 + 40) (Or.inl ⟨by omega, by omega⟩)
  have heO := hO e2O (Or.inr (Or.inr rfl))
  unfold okE at r6 r7
  refine ⟨by rw [hk _ (by omega) (by omega) (by omega)]; exact r1, fun b hb => by rw [hk _ (by omega) (by omega) (by omega)]; exact r2' b hb, L, r4.kept (hk _ (by omega) (by omega) (by omega)) (hk _ heO (by omega) (Ne.symm r8)), fun i h1 h2 => by rw [hk _ (by omega) (by omega) (by omega)]; exact r5 i h1 h2, ?_, r7, ?_⟩
  · unfold okE; omega
  · omega
theorem RegH.l17 (R : RegH h o r2 e2L e2O F2 wk2 rf2 sc2 nl2 la2 no2 oa2 c2L c2O) {e' n' c' : Nat} {f' : Nat → Nat} (hO : ∀ q, Own r2 e2L e2O q → q < nx) (L : LstC h1 (r2 + 18) e' n' f' c') (he : e' = e2O ∨ nx ≤ e') (hk : ∀ q, q < nx → q ≠ r2 + 18 → q ≠ e2O → h1 q = h q) : RegH h1 o r2 e2L e' F2 wk2 rf2 sc2 nl2 la2 n' f' c2L c' := by
  obtain ⟨r1, r2', r3, r4, r5, r6, r7, r8⟩ := R
  have hr := hO (r2 + 40) (Or.inl ⟨by omega, by omega⟩)
  have heL := hO e2L (Or.inr (Or.inl rfl))
  unfold okE at r6 r7
  refine ⟨by rw [hk _ (by omega) (by omega) (by omega)]; exact r1, fun b hb => by rw [hk _ (by omega) (by omega) (by omega)]; exact r2' b hb, r3.kept (hk _ (by omega) (by omega) (by omega)) (hk _ heL (by omega) r8), L, fun i h1 h2 => by rw [hk _ (by omega) (by omega) (by omega)]; exact r5 i h1 h2, r6, ?_, ?_⟩
  · unfold okE; omega
  · omega
end PBE
