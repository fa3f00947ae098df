/-! a register becomes another one: the whole -/
/-- a register as such, whatever it tells -/
def RS (h : AH) (nx : Nat) (M : Nat → Prop) (o r eL eO_ cL cO : Nat) : Prop := ∃ (F : Nat → Nat → Int32) (wk rf : Int32) (sc : Int32 × Int32 × Int32 × Int32) (nl : Nat) (la : Nat → Nat) (no : Nat) (oa : Nat → Nat), RegH h o r eL eO_ F wk rf sc nl la no oa cL cO ∧ sc.2.2.1 = 0 ∧ (∀ q, Own r eL eO_ q → M q ∧ q < nx) ∧ ¬ Own r eL eO_ o
theorem RX.rs {h : AH} {nx : Nat} {M : Nat → Prop} {o r eL eO_ cL cO : Nat} {w : Rw} (X : RX h nx M o r eL eO_ cL cO w) : RS h nx M o r eL eO_ cL cO := by
  obtain ⟨H, F, wk, rf, sc, la, oa, R, Q, L, K, s0, il, io, hOwn, hno⟩ := X
  exact ⟨F, wk, rf, sc, _, la, _, oa, R, s0, hOwn, hno⟩
theorem x_become {h : AH} {nx : Nat} {M : Nat → Prop} {o r eL eO_ cL cO r2 e2L e2O c2L c2O : Nat} {w : Rw} {E : bE} (X : RX h nx M o r eL eO_ cL cO w) (Y : RS h nx M o r2 e2L e2O c2L c2O) (G : Gd w) (hd : ∀ q, Own r eL eO_ q → ¬ Own r2 e2L e2O q) (hcL : c2L < 60) (hcO : c2O < 60) : ∃ (h' : AH) (M' : Nat → Prop) (e2L' e2O' c2L' c2O' c d : Nat), f_X2_become E h nx r2 r = some ((), h', c, d) ∧ RX h' (nx + c) M' o r2 e2L' e2O' c2L' c2O' w ∧ Ext M M' nx ∧ (e2L' = e2L ∨ nx ≤ e2L') ∧ (e2O' = e2O ∨ nx ≤ e2O') ∧ c2L' < 60 ∧ c2O' < 60 ∧ c ≤ 6 ∧ d ≤ 204 ∧ ∀ q, q < nx → ¬ Own r2 e2L e2O q → h' q = h q := by
  obtain ⟨H, F, wk, rf, sc, la, oa, R, Q, L, K, s0, il, io, hOwn, hno⟩ := X
  obtain ⟨F2, wk2, rf2, sc2, nl2, la2, no2, oa2, R2, s02, hOwn2, hno2⟩ := Y
  have b3 := G.1.gL.2
  have b4 := G.1.gO.2
  have own2 : ∀ q, Own r2 e2L e2O q → q < nx := fun q hq => (hOwn2 q hq).2
  have own1 : ∀ q, Own r eL eO_ q → q < nx := fun q hq => (hOwn q hq).2
  have n40 := own2 (r2 + 40) (Or.inl ⟨by omega, by omega⟩)
  have nL2 := own2 e2L (Or.inr (Or.inl rfl))
  have nO2 := own2 e2O (Or.inr (Or.inr rfl))
  have ok6 := R2.2.2.2.2.2.1
  have ok7 := R2.2.2.2.2.2.2.1
  have ok8 := R2.2.2.2.2.2.2.2
  unfold okE at ok6 ok7
  -- the rows
  obtain ⟨g2, t1, t2⟩ := x_rows (E := E) R2 own2
  have R2a : RegH (hu h nx (wsE g2)) o r2 e2L e2O F2 wk2 rf2 sc2 nl2 la2 no2 oa2 c2L c2O := R2.kept (fun q hq => hu_n (by have := own2 q hq; omega))
  have Ra : RegH (hu h nx (wsE g2)) o r eL eO_ F wk rf sc (nL w) la (nO w) oa cL cO := R.kept (fun q hq => hu_n (by have := own1 q hq; omega))
  obtain ⟨g1, t3, t4⟩ := x_rows (E := E) (nx := nx + 1) Ra (fun q hq => by have := own1 q hq; omega)
  have R2b : RegH (hu (hu h nx (wsE g2)) (nx + 1) (wsE g1)) o r2 e2L e2O F2 wk2 rf2 sc2 nl2 la2 no2 oa2 c2L c2O := R2a.kept (fun q hq => hu_n (by have := own2 q hq; omega))
  generalize hb : hu (hu h nx (wsE g2)) (nx + 1) (wsE g1) = hB at *
  have kB : ∀ q, q < nx → hB q = h q := fun q hq => by rw [← hb, hu_n (by omega), hu_n (by omega)]
  have xB : hB nx = some (wsE g2) := by rw [← hb, hu_n (by omega)]; exact hu_s
  have yB : hB (nx + 1) = some (wsE g1) := by rw [← hb]; exact hu_s
  have src : ∀ hc : AH, (∀ q, q < nx → ¬ Own r2 e2L e2O q → hc q = h q) → RegH hc o r eL eO_ F wk rf sc (nL w) la (nO w) oa cL cO := fun hc hk => R.kept (fun q hq => hk q (own1 q hq) (hd q hq))
  -- the loop of the twelve rows
  obtain ⟨hC, m, ⟨kC, FC, RC, eC⟩, e13⟩ := lp_ex (fun n i hc => f_X2_become_13 n E r2 r nx (nx + 1) (nI i) hc (nx + 2)) 12 (fun i hc => (∀ q, q < nx + 2 → ¬ Own r2 e2L e2O q → hc q = hB q) ∧ ∃ F', RegH hc o r2 e2L e2O F' wk2 rf2 sc2 nl2 la2 no2 oa2 c2L c2O ∧ ∀ a, a < i → ∀ j, j < al a → F' a j = F a j) (fun n i hc hi hP => by
    obtain ⟨k1, F', R', e'⟩ := hP
    have Rs := src hc (fun q hq hn => (k1 q (by omega) hn).trans (kB q hq))
    have x1 : hc nx = some (wsE g2) := (k1 nx (by omega) (fun z => by have := own2 _ z; omega)).trans xB
    have y1 : hc (nx + 1) = some (wsE g1) := (k1 _ (by omega) (fun z => by have := own2 _ z; omega)).trans yB
    have a1 : aL hc nx = some (nI 12) := by simp [aL, x1, wsE]; rfl
    have a2 : aR hc (nx + 1) 7 (nI i) = some (r + (i + 1)) := by
      simp only [aR, arR, y1, wsE, if_true, Option.bind_some]
      rw [gdn ⟨hi, by decide⟩, nI_clamp (by omega)]
      exact t4 i hi
    have a3 : aR hc nx 7 (nI i) = some (r2 + (i + 1)) := by
      simp only [aR, arR, x1, wsE, if_true, Option.bind_some]
      rw [gdn ⟨hi, by decide⟩, nI_clamp (by omega)]
      exact t2 i hi
    have hak : ak i = 0 := by unfold ak; rw [if_pos hi]
    have c1 : hc (r + (i + 1)) = some (.inl (0, al i, .inl (F i))) := by rw [Rs.2.1 i (by omega), hak]
    have c2 : hc (r2 + (i + 1)) = some (.inl (0, al i, .inl (F' i))) := by rw [R'.2.1 i (by omega), hak]
    have a4 : aL hc (r2 + (i + 1)) = some (nI (al i)) := by simp [aL, c2]; rfl
    have a5 := cI_at c1 c2 (al_lt i)
    have R3 := R'.setA (a := i) (by omega) (va_cpy (F i) (F' i) 0 0 (al i))
    rw [hak] at R3
    refine ⟨_, ⟨fun q hq hn => ?_, _, R3, fun a ha j hj => ?_⟩, ?_⟩
    · rw [hu_n (fun z => hn (Or.inl ⟨by omega, by omega⟩))]
      exact k1 q hq hn
    · by_cases hai : a = i
      · subst hai
        simp only [if_true]
        exact cpy_at hj
      · simp only [if_neg hai]
        exact e' a (by omega) j hj
    · simp only [f_X2_become_13]
      rw [a1, Option.bind_some, if_neg (nI_ge hi (by decide)), a2, Option.bind_some, a3, Option.bind_some, Option.bind_some, a4, Option.bind_some, a5, Option.bind_some, nI_1]) FU 0 hB (Nat.zero_le _) (FU_lt (by decide)) ⟨fun _ _ _ => rfl, F2, R2b, fun a ha => absurd ha (by omega)⟩
  have kC' : ∀ q, q < nx → ¬ Own r2 e2L e2O q → hC q = h q := fun q hq hn => (kC q (by omega) hn).trans (kB q hq)
  have x1 : hC nx = some (wsE g2) := (kC nx (by omega) (fun z => by have := own2 _ z; omega)).trans xB
  have a1 : aL hC nx = some (nI 12) := by simp [aL, x1, wsE]; rfl
  -- the three rows of booleans
  have cp : ∀ (hc : AH) (F' : Nat → Nat → Int32) (a : Nat), 12 ≤ a → a < 15 → (∀ q, q < nx → ¬ Own r2 e2L e2O q → hc q = h q) → RegH hc o r2 e2L e2O F' wk2 rf2 sc2 nl2 la2 no2 oa2 c2L c2O → ∃ hd, cI hc 3 (r + (a + 1)) 0 (r2 + (a + 1)) 0 (nI (al a)) = some hd ∧ (∀ q, q < nx → ¬ Own r2 e2L e2O q → hd q = h q) ∧ RegH hd o r2 e2L e2O (fun b => if b = a then va_cpy (F a) (F' a) 0 0 (al a) else F' b) wk2 rf2 sc2 nl2 la2 no2 oa2 c2L c2O := by
    intro hc F' a h12 h15 hk R'
    have Rs := src hc hk
    have hak : ak a = 3 := by unfold ak; rw [if_neg (by omega)]
    have c1 : hc (r + (a + 1)) = some (.inl (3, al a, .inl (F a))) := by rw [Rs.2.1 a (by omega), hak]
    have c2 : hc (r2 + (a + 1)) = some (.inl (3, al a, .inl (F' a))) := by rw [R'.2.1 a (by omega), hak]
    have R3 := R'.setA (a := a) (by omega) (va_cpy (F a) (F' a) 0 0 (al a))
    rw [hak] at R3
    exact ⟨_, cI_at c1 c2 (al_lt a), fun q hq hn => by rw [hu_n (fun z => hn (Or.inl ⟨by omega, by omega⟩))]; exact hk q hq hn, R3⟩
  obtain ⟨h5, e5, k5, R5⟩ := cp hC FC 13 (by decide) (by decide) kC' RC
  obtain ⟨h8, e8, k8, R8⟩ := cp h5 _ 14 (by decide) (by decide) k5 R5
  obtain ⟨h11, e11, k11, R11⟩ := cp h8 _ 12 (by decide) (by decide) k8 R8
  have RsC := src hC kC'
  have Rs5 := src h5 k5
  have Rs8 := src h8 k8
  have hF : ∀ a j, a < 15 → j < al a → (fun b => if b = 12 then va_cpy (F 12) ((fun b => if b = 14 then va_cpy (F 14) ((fun b => if b = 13 then va_cpy (F 13) (FC 13) 0 0 (al 13) else FC b) 14) 0 0 (al 14) else (fun b => if b = 13 then va_cpy (F 13) (FC 13) 0 0 (al 13) else FC b) b) 12) 0 0 (al 12) else (fun b => if b = 14 then va_cpy (F 14) ((fun b => if b = 13 then va_cpy (F 13) (FC 13) 0 0 (al 13) else FC b) 14) 0 0 (al 14) else (fun b => if b = 13 then va_cpy (F 13) (FC 13) 0 0 (al 13) else FC b) b) b) a j = F a j := by
    intro a j ha hj
    by_cases h12 : a = 12
    · subst h12; exact cpy_at hj
    by_cases h14 : a = 14
    · subst h14; exact cpy_at hj
    by_cases h13 : a = 13
    · subst h13; exact cpy_at hj
    · simp only [if_neg h12, if_neg h13, if_neg h14]
      exact eC a (by omega) j hj
  generalize hFD : (fun b => if b = 12 then va_cpy (F 12) ((fun b => if b = 14 then va_cpy (F 14) ((fun b => if b = 13 then va_cpy (F 13) (FC 13) 0 0 (al 13) else FC b) 14) 0 0 (al 14) else (fun b => if b = 13 then va_cpy (F 13) (FC 13) 0 0 (al 13) else FC b) b) 12) 0 0 (al 12) else (fun b => if b = 14 then va_cpy (F 14) ((fun b => if b = 13 then va_cpy (F 13) (FC 13) 0 0 (al 13) else FC b) 14) 0 0 (al 14) else (fun b => if b = 13 then va_cpy (F 13) (FC 13) 0 0 (al 13) else FC b) b) b) = FD at *
  -- the lets
  obtain ⟨h14, e14, L14, k14⟩ := L_clear (E := E) (nx := nx + 2) R11.2.2.1
  have R14 : RegH h14 o r2 e2L e2O FD wk2 rf2 sc2 0 la2 no2 oa2 c2L c2O := R11.l15 own2 L14 (Or.inl rfl) (fun q hq z1 z2 => k14 q z1 z2)
  have kk14 : ∀ q, q < nx → ¬ Own r2 e2L e2O q → h14 q = h q := fun q hq hn => (k14 q (fun z => hn (Or.inl ⟨by omega, by omega⟩)) (fun z => hn (Or.inr (Or.inl z)))).trans (k11 q hq hn)
  have Rs14 := src h14 kk14
  have nil : ∀ i, i < nL w → ¬ Own r2 e2L e2O (la i) := fun i hi z => (il i hi).2 (hOwn2 _ z).1
  have nio : ∀ i, i < nO w → ¬ Own r2 e2L e2O (oa i) := fun i hi z => (io i hi).2 (hOwn2 _ z).1
  obtain ⟨v19, h19, e19L, c19L, c19, d19, e19, L19, z19, y19, x19, w19, q19, p19, k19⟩ := L_addAll (E := E) (nx := nx + 2) R14.2.2.1 Rs14.2.2.1 (by omega) hcL (by omega) (by omega) (by have := own1 (r + 16) (Or.inl ⟨by omega, by omega⟩); omega) (by have := own1 eL (Or.inr (Or.inl rfl)); omega) (fun j hj => ⟨by rw [kk14 _ (il j hj).1 (nil j hj), L.2 j hj]; rfl, by have := (il j hj).1; omega, fun z => nil j hj (Or.inl ⟨by omega, by omega⟩), fun z => nil j hj (Or.inr (Or.inl z))⟩)
  have R19 : RegH h19 o r2 e19L e2O FD wk2 rf2 sc2 (nL w) la no2 oa2 c19L c2O := R14.l15 own2 L19 (by omega) (fun q hq z1 z2 => k19 q (by omega) z1 z2)
  have kk19 : ∀ q, q < nx → ¬ Own r2 e2L e2O q → h19 q = h q := fun q hq hn => (k19 q (by omega) (fun z => hn (Or.inl ⟨by omega, by omega⟩)) (fun z => hn (Or.inr (Or.inl z)))).trans (kk14 q hq hn)
  -- the offers
  have own19 : ∀ q, Own r2 e19L e2O q → q < nx + 2 + c19 := fun q hq => by
    rcases hq with z | z | z
    · omega
    · omega
    · omega
  obtain ⟨h23, e23, L23, k23⟩ := L_clear (E := E) (nx := nx + 2 + c19) R19.2.2.2.1
  have R23 : RegH h23 o r2 e19L e2O FD wk2 rf2 sc2 (nL w) la 0 oa2 c19L c2O := R19.l17 own19 L23 (Or.inl rfl) (fun q hq z1 z2 => k23 q z1 z2)
  have kk23 : ∀ q, q < nx → ¬ Own r2 e2L e2O q → h23 q = h q := fun q hq hn => (k23 q (fun z => hn (Or.inl ⟨by omega, by omega⟩)) (fun z => hn (Or.inr (Or.inr z)))).trans (kk19 q hq hn)
  have Rs23 := src h23 kk23
  obtain ⟨v28, h28, e28O, c28O, c28, d28, e28, L28, z28, y28, x28, w28, q28, p28, k28⟩ := L_addAll (E := E) (nx := nx + 2 + c19) R23.2.2.2.1 Rs23.2.2.2.1 b4 hcO (by omega) (by omega) (by have := own1 (r + 18) (Or.inl ⟨by omega, by omega⟩); omega) (by have := own1 eO_ (Or.inr (Or.inr rfl)); omega) (fun j hj => ⟨by obtain ⟨g, hg, -⟩ := K.2 j hj; rw [kk23 _ (io j hj).1 (nio j hj), hg]; rfl, by have := (io j hj).1; omega, fun z => nio j hj (Or.inl ⟨by omega, by omega⟩), fun z => nio j hj (Or.inr (Or.inr z))⟩)
  have R28 : RegH h28 o r2 e19L e28O FD wk2 rf2 sc2 (nL w) la (nO w) oa c19L c28O := R23.l17 own19 L28 (by omega) (fun q hq z1 z2 => k28 q (by omega) z1 z2)
  have kk28 : ∀ q, q < nx → ¬ Own r2 e2L e2O q → h28 q = h q := fun q hq hn => (k28 q (by omega) (fun z => hn (Or.inl ⟨by omega, by omega⟩)) (fun z => hn (Or.inr (Or.inr z)))).trans (kk23 q hq hn)
  have Rs28 := src h28 kk28
  -- the numbers
  have R31 := R28.setO wk rf2 sc2
  have w31 := R28.w17 wk
  have kk31 : ∀ q, q < nx → ¬ Own r2 e2L e2O q → hu h28 r2 (.inr (.inl (1, rFs o r2 wk rf2 sc2))) q = h q := fun q hq hn => (hu_n (fun z => hn (Or.inl ⟨by omega, by omega⟩))).trans (kk28 q hq hn)
  have Rs31 := src _ kk31
  have w33 := R31.w18 rf
  rw [hu_hu] at w33
  have R33 := R28.setO wk rf sc2
  have kk33 : ∀ q, q < nx → ¬ Own r2 e2L e2O q → hu h28 r2 (.inr (.inl (1, rFs o r2 wk rf sc2))) q = h q := fun q hq hn => (hu_n (fun z => hn (Or.inl ⟨by omega, by omega⟩))).trans (kk28 q hq hn)
  refine ⟨hu h28 r2 (.inr (.inl (1, rFs o r2 wk rf sc2))), fun q => M q ∨ q = e19L ∨ q = e28O, e19L, e28O, c19L, c28O, 2 + c19 + c28, 24 + d19 + d28, ?_, ?_, ?_, by omega, by omega, w19, w28, by omega, by omega, kk33⟩
  · unfold f_X2_become
    rw [R2.o1, gdT, t1, Option.bind_some]
    dsimp only
    rw [Ra.o1, gdT, t3, Option.bind_some]
    dsimp only
    have e13' : f_X2_become_13 FU E r2 r nx (nx + 1) 0 hB (nx + 1 + 1) = f_X2_become_13 (m + 1) E r2 r nx (nx + 1) (nI 12) hC (nx + 2) := e13
    rw [e13']
    have a5 : cI hC 3 (r + 14) 0 (r2 + 14) 0 (nI 8) = some h5 := e5
    have a8 : cI h5 3 (r + 15) 0 (r2 + 15) 0 (nI 8) = some h8 := e8
    have a11 : cI h8 3 (r + 13) 0 (r2 + 13) 0 (nI 10) = some h11 := e11
    have o16 : isO h11 (r2 + 16) 11 = true := R11.2.2.1.o
    have o14 : isO h14 (r2 + 16) 11 = true := R14.2.2.1.o
    have o19 : isO h19 (r2 + 18) 11 = true := R19.2.2.2.1.o
    have o23 : isO h23 (r2 + 18) 11 = true := R23.2.2.2.1.o
    simp only [f_X2_become_13]
    rw [a1, Option.bind_some, if_pos (nI_leR 12), RsC.g13, Option.bind_some, RC.g13, Option.bind_some, a5, Option.bind_some, Rs5.g14, Option.bind_some, R5.g14, Option.bind_some, a8, Option.bind_some, Rs8.g12, Option.bind_some, R8.g12, Option.bind_some, a11, Option.bind_some, R11.g15, Option.bind_some, o16, gdT, e14, Option.bind_some]
    dsimp only
    rw [R14.g15, Option.bind_some, Rs14.g15, Option.bind_some, o14, gdT, Nat.add_zero, e19, Option.bind_some]
    dsimp only
    rw [R19.g16, Option.bind_some, o19, gdT, e23, Option.bind_some]
    dsimp only
    rw [R23.g16, Option.bind_some, Rs23.g16, Option.bind_some, o23, gdT, Nat.add_zero, e28, Option.bind_some]
    dsimp only
    rw [Rs28.g17, Option.bind_some, w31, Option.bind_some, Rs31.g18, Option.bind_some, w33, Option.bind_some]
    simp only [aC_some, Option.some.injEq, Prod.mk.injEq, true_and]
    omega
  · have E' : Ext M (fun q => M q ∨ q = e19L ∨ q = e28O) nx := ⟨fun q hq => Or.inl hq, fun q hq => by
      rcases hq with z | z | z
      · exact Or.inl z
      · rcases z19 with y | y
        · subst z y; exact Or.inl (hOwn2 _ (Or.inr (Or.inl rfl))).1
        · exact Or.inr (by omega)
      · rcases z28 with y | y
        · subst z y; exact Or.inl (hOwn2 _ (Or.inr (Or.inr rfl))).1
        · exact Or.inr (by omega)⟩
    refine ⟨H.step (by omega) E' (fun q hq => ?_) (fun q hq hz => kk33 q hq (fun z => ?_)), FD, wk, rf, sc2, la, oa, R33, RelF_ext Q G.1 (fun a j ha hj => hF a j ha hj), L.kept (fun i hi => kk33 _ (il i hi).1 (nil i hi)), K.kept (fun i hi => kk33 _ (io i hi).1 (nio i hi)), s02, fun i hi => (il i hi).ext (by omega) E', fun i hi => (io i hi).ext (by omega) E', fun q hq => ?_, fun z => ?_⟩
    · rcases hq with z | z | z
      · have := H.bd q z; omega
      · omega
      · omega
    · rcases hz with y | y
      · exact y (hOwn2 q z).1
      · subst y; exact hno2 z
    · rcases hq with z | z | z
      · exact ⟨Or.inl (hOwn2 q (Or.inl z)).1, by omega⟩
      · exact ⟨Or.inr (Or.inl z), by omega⟩
      · exact ⟨Or.inr (Or.inr z), by omega⟩
    · have ho : o < nx := by
        obtain ⟨aH, eH, aP, eP, rN, rA, hm, hs, nh, np, tl, O, T, TI, ho, hM⟩ := H
        exact ho
      rcases z with z | z | z
      · exact hno2 (Or.inl z)
      · rcases z19 with y | y
        · exact hno2 (Or.inr (Or.inl (z.trans y)))
        · omega
      · rcases z28 with y | y
        · exact hno2 (Or.inr (Or.inr (z.trans y)))
        · omega
  · refine ⟨fun q hq => Or.inl hq, fun q hq => ?_⟩
    rcases hq with z | z | z
    · exact Or.inl z
    · rcases z19 with y | y
      · subst z y; exact Or.inl (hOwn2 _ (Or.inr (Or.inl rfl))).1
      · exact Or.inr (by omega)
    · rcases z28 with y | y
      · subst z y; exact Or.inl (hOwn2 _ (Or.inr (Or.inr rfl))).1
      · exact Or.inr (by omega)
