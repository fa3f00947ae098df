/-! gap: both sides -/
def gpO (w : Rw) (p x : Nat) (o : Option Nat) (less : Nat) : Bool := match o with
  | none => true
  | some q => decide (wt3 w p x (bnd w p - less) < wgt w x q)
def gpF (w : Rw) (p x : Nat) : Option Nat := am (fun q => iBd w q x && !decide (q = p)) (wgt w x) (nP w)
def an_gap (w : Rw) (a b : Int32) : Int32 × Int32 := if (isHs w a && isHm w b) = false then (-1, nI 2) else if (mayH w a.toNatClampNeg && dFit w a.toNatClampNeg b.toNatClampNeg) = false then (-1, nI 5) else tO (fdN (gpO w a.toNatClampNeg b.toNatClampNeg (gpF w a.toNatClampNeg b.toNatClampNeg)) 0 (bnd w a.toNatClampNeg))
section PGP
variable {w : Rw} {th st ac a b : Int32} {p x i less : Nat}
theorem m_gap61 (Z : Rng w) (hp : p < nP w) (hx : x < nH w) {o : Option Nat} (ho : ∀ z, o = some z → z < nP w) : f_X3_gap_61 FU w (nI p) (nI x) (eO o) 0 th st = rA (tO (fdN (gpO w p x o) 0 (bnd w p))) := by
  have b1 := Z.gP.2
  have b3 := Z.gH.2
  obtain ⟨e1, e2, e3⟩ := bn_n Z (p := p) (by omega)
  have key := lp_fd (fun n i => f_X3_gap_61 n w (nI p) (nI x) (eO o) (nI i) th st) (fun j => rA (nI j, 0)) (rA (-1, nI 5)) (gpO w p x o) (bnd w p) ?_ ?_ FU 0 (Nat.zero_le _) (FU_lt (by omega))
  · refine key.trans ?_
    rw [Nat.sub_zero]
    cases fdN (gpO w p x o) 0 (bnd w p) <;> rfl
  · intro n
    simp only [f_X3_gap_61]
    rw [m_bandNow (by omega) Z.gA.2.2.2, Option.bind_some, e1, if_pos (nI_leR _)]
    rfl
  · intro n i hi
    simp only [f_X3_gap_61]
    rw [m_bandNow (by omega) Z.gA.2.2.2, Option.bind_some, e1, if_neg (nI_ge hi (by omega))]
    cases o with
    | none => rw [if_pos (show eO none = -1 from rfl), if_pos (show gpO w p x none i = true from rfl)]; rfl
    | some q =>
      have hq := ho q rfl
      have l1 := wgt_lt (h := x) Z (p := q) (by omega)
      have l2 := wt3_lt (h := x) Z (p := p) (by omega) (band := bnd w p - i) (by omega)
      rw [if_neg (show ¬ eO (some q) = -1 from nI_m1 (by omega)), show eO (some q) = nI q from rfl, Option.bind_some, pk_sub (by omega), m_weight3 Z (by omega) (by omega) (by omega), m_weight Z (by omega) (by omega), Option.bind_some, Option.bind_some]
      by_cases hw : wt3 w p x (bnd w p - i) < wgt w x q
      · rw [if_neg (nI_ge hw (by omega)), if_pos (show gpO w p x (some q) i = true from decide_eq_true hw)]; rfl
      · rw [if_pos (nI_le (by omega) (by omega)), if_neg (show ¬ gpO w p x (some q) i = true from fun z => hw (of_decide_eq_true z)), nI_1]
theorem m_gap (Z : Rng w) : f_X3_gap w th st a b = rA (an_gap w a b) := by
  simp only [f_X3_gap, m_areOnes, f_X3_refuse, f_X3_gap_32, Option.bind_some, an_gap, bI_0]
  by_cases hv : (isHs w a && isHm w b) = false
  · rw [if_pos hv, if_pos hv]; rfl
  rw [if_neg hv, if_neg hv]
  have hv' := Bool.not_eq_false _ ▸ hv
  rw [Bool.and_eq_true] at hv'
  obtain ⟨p, hp, rfl⟩ := (hs_t Z).mp hv'.1
  obtain ⟨x, hx, rfl⟩ := (hm_t Z).mp hv'.2
  have b1 := Z.gP.2
  have b3 := Z.gH.2
  have b2 := p2_le (N := nP w) (by omega)
  rw [m_mayHope (by omega), Option.bind_some, m_doesFit (by omega) (by omega), Option.bind_some, nI_clamp (by omega), nI_clamp (by omega)]
  simp only [bI_0]
  cases h1 : mayH w p
  · rw [if_pos rfl]; rfl
  cases h2 : dFit w p x
  · rw [if_neg (by nofun), if_pos rfl]; rfl
  rw [if_neg (by nofun), if_neg (by nofun), if_neg (by decide)]
  have hT := stN_lt (B := fun p => iBd w p x) (nP w)
  have hc := clr_le (stN (fun p => iBd w p x) (nP w)) p
  rw [m_biddersOf Z, Option.bind_some, cl_n _ (by omega) p (by omega), m_firstOf Z (by omega) (by omega), Option.bind_some]
  have e : am (fun q => (clr (stN (fun p => iBd w p x) (nP w)) p).testBit q) (wgt w x) (nP w) = gpF w p x := am_c (nP w) (fun j hj => by rw [clr_tb (by omega), stN_tb, decide_eq_true hj, Bool.true_and])
  rw [e]
  exact m_gap61 Z hp hx (fun z hz => am_lt hz)
def gpW (w : Rw) (p x less : Nat) (q : Nat) : Bool := !decide (q = p) && iBd w q x && decide (wgt w x q < wt3 w p x (bnd w p - less))
theorem gp_fd (hp : p < 8) (hP : nP w ≤ 8) : gpO w p x (gpF w p x) less = (fdN (gpW w p x less) 0 (nP w)).isNone := by
  have hne : ∀ q, q < 8 → q ≠ p → wgt w x q ≠ wt3 w p x (bnd w p - less) := fun q hq hn e => by
    have h1 := wt3_mod (w := w) (h := x) (b := bnd w q) hq
    have h2 := wt3_mod (w := w) (h := x) (b := bnd w p - less) hp
    unfold wgt at e
    rw [e] at h1
    omega
  cases ho : gpF w p x with
  | none =>
    have h := am_none.mp ho
    have : fdN (gpW w p x less) 0 (nP w) = none := fdN_none.mpr (fun q _ hq => by
      have := h q (by omega)
      unfold gpW
      cases h1 : iBd w q x
      · simp
      · rw [h1] at this; simp at this; simp [this])
    rw [this]
    rfl
  | some q =>
    obtain ⟨g1, g2, g3⟩ := am_some ho
    rw [Bool.and_eq_true, Bool.not_eq_true', decide_eq_false_iff_not] at g2
    show decide (wt3 w p x (bnd w p - less) < wgt w x q) = _
    by_cases hw : wt3 w p x (bnd w p - less) < wgt w x q
    · have : fdN (gpW w p x less) 0 (nP w) = none := fdN_none.mpr (fun z _ hz => by
        unfold gpW
        by_cases hzp : z = p
        · simp [hzp]
        cases h1 : iBd w z x
        · simp
        · have := g3 z (by omega) (by simp [h1, hzp])
          simp [hzp]; omega)
      rw [this, decide_eq_true hw]; rfl
    · have hlt : wgt w x q < wt3 w p x (bnd w p - less) := by have := hne q (by omega) g2.2; omega
      have : (fdN (gpW w p x less) 0 (nP w)).isSome = true := fdN_any.mpr ⟨q, by omega, by omega, by unfold gpW; simp [g2.1, g2.2, hlt]⟩
      rw [decide_eq_false hw]
      cases hf : fdN (gpW w p x less) 0 (nP w) with
      | none => rw [hf] at this; cases this
      | some _ => rfl
end PGP
section PGC
variable {A : Nat → Nat} {I : Nat → Int32} {M : Nat → Prop} {w : Rw} {st : Int32} {h h1 h2 h' : AH} {nx nx' n0 n1 n2 : Nat} {E : bE} {v a b u : Int32} {p x y N k q less : Nat} {f : Option (Int32 × AH × Nat × Nat)} {zs : Nat → Nat} {n : Nat}
theorem y_isFirstBy (S : SN A I M w st h nx) (G : Gd w) (hp : p < nP w) (hx : x < nH w) (hl : less < bnd w p) : ∃ h', f_X1_isFirstBy (dE zs (n + 5)) h nx (A 0) (nI p) (nI x) (nI less) = some (bI (gpO w p x (gpF w p x) less), h', 0, 0) ∧ SN A I M w st h' nx ∧ Lt (A 1) h nx h' nx := by
  have Z := G.1
  have b1 := Z.gP.2
  have e3 := (bn_n Z (p := p) (by omega)).2.2
  have key := lp_hs (fun m i h' => f_X1_isFirstBy_3 m (dE zs (n + 5)) (A 0) (nI p) (nI x) (nI less) (nI i) h' nx) (nP w) (fun h' => SN A I M w st h' nx ∧ Lt (A 1) h nx h' nx) (gpW w p x less) (fun _ h' => some (0, h', 0, 0)) (fun h' => some (1, h', 0, 0)) ?_ ?_ FU 0 h (Nat.zero_le _) (FU_lt (by omega)) ⟨S, Lt.rfl'⟩
  · obtain ⟨h', ⟨S', L'⟩, e⟩ := key
    refine ⟨h', ?_, S', L'⟩
    unfold f_X1_isFirstBy
    refine Eq.trans e ?_
    rw [gp_fd (by omega) b1, Nat.sub_zero]
    cases fdN (gpW w p x less) 0 (nP w) <;> rfl
  · intro m h' hP
    obtain ⟨⟨aH, eH, aP, eP, rN, rA, hm, hs, nh, np, tl, O, T, TI, ho, hM⟩, F, wk, rf, sc, la, oa, R, Q, L, K, s0, il, io, hOwn, hno⟩ := id hP.1.1
    simp only [f_X1_isFirstBy_3]
    rw [O.g1, Option.bind_some, T.2.1.o, gdT, T.2.1.size, Option.bind_some, if_pos (nI_leR _)]
  · intro m i h' hi hP
    obtain ⟨S', L'⟩ := hP
    have X' := S'.1
    obtain ⟨⟨aH, eH, aP, eP, rN, rA, hm, hs, nh, np, tl, O, T, TI, ho, hM⟩, F, wk, rf, sc, la, oa, R, Q, L, K, s0, il, io, hOwn, hno⟩ := id S'.1
    simp only [f_X1_isFirstBy_3]
    rw [O.g1, Option.bind_some, T.2.1.o, gdT, T.2.1.size, Option.bind_some, if_neg (nI_ge hi (by omega)), nI_1]
    by_cases hip : i = p
    · rw [if_pos (by rw [hip])]
      exact ⟨h', ⟨S', L'⟩, by rw [if_neg (by unfold gpW; simp [hip])]⟩
    rw [if_neg (fun z => hip ((nI_eq (by omega) (by omega)).mp z)), S'.g2, Option.bind_some, R.o1, gdT, c_bidsFor R Q Z hi, Option.bind_some]
    cases hb : iBd w i x
    · rw [if_pos (show bI false = 0 from rfl)]
      exact ⟨h', ⟨S', L'⟩, by rw [if_neg (by unfold gpW; simp [hb])]⟩
    rw [if_neg (show ¬ bI true = 0 by decide), Option.bind_some, R.o1, gdT]
    obtain ⟨h2, e2, X2, k2⟩ := x_compareBy (zs := zs) (n := n) (lb := nI less) X' Z G.2.1 hp hi hx
    rw [e2, Option.bind_some]
    dsimp only
    rw [aC00, Nat.add_zero]
    have hba : btI w (nI p) (nI less) p = nI (bnd w p - less) := by
      unfold btI
      rw [if_pos rfl, (bn_n Z (p := p) (by omega)).1, pk_sub (by omega)]
    have hbb := bt_else (lb := nI less) Z hi (fun z => hip z.symm) (a := p) (by omega)
    have hc := (cm_gen (x := x) Z G.2.1 hp hi hba hbb.1 (by omega) hbb.2).2
    refine ⟨h2, ⟨S'.lt X2 (Lt.one k2), L'.trans (Lt.one k2)⟩, ?_⟩
    by_cases hv : 0 < cmI w (nI p) (nI less) x p i
    · rw [if_neg (Int32.not_le.mpr hv), if_pos (by unfold gpW; simp only [hb, decide_eq_false hip, Bool.not_false, Bool.true_and]; exact decide_eq_true (hc.mp hv))]
    · rw [if_pos (Int32.not_lt.mp hv), if_neg (by unfold gpW; simp only [hb, decide_eq_false hip, Bool.not_false, Bool.true_and]; exact fun z => hv (hc.mpr (of_decide_eq_true z)))]
      rfl
theorem y_gap (S : SN A I M w st h nx) (G : Gd w) : An A I M w h nx (f_X1_gap (dE zs (n + 5)) h nx (A 0) a b) (an_gap w a b) := by
  have Z := G.1
  rw [f_X1_gap, S.i0, gdT, c_whyBoth S Z, Option.bind_some, gdT]
  unfold an_gap
  cases hv : (isHs w a && isHm w b)
  · rw [if_neg (show ¬ false = true by nofun), if_neg (show ¬ nI 2 = 0 by decide), if_pos (show false = false from rfl)]
    exact An.cn S (by decide)
  rw [if_pos (show true = true from rfl), if_pos (show (0 : Int32) = 0 from rfl), if_neg (show ¬ true = false by nofun)]
  rw [Bool.and_eq_true] at hv
  obtain ⟨p, hp, rfl⟩ := (hs_t Z).mp hv.1
  obtain ⟨x, hx, rfl⟩ := (hm_t Z).mp hv.2
  have b1 := Z.gP.2
  have b2 := Z.gH.2
  obtain ⟨q1, q2, q3⟩ := bn_n Z (p := p) (by omega)
  rw [c_isAsking S Z hp hx, Option.bind_some, nI_clamp (by omega), nI_clamp (by omega)]
  cases hB : (mayH w p && dFit w p x)
  · rw [if_pos (show bI false = 0 from rfl), if_pos (show false = false from rfl)]
    exact An.cn S (by decide)
  rw [if_neg (show ¬ bI true = 0 by decide), if_neg (show ¬ true = false by nofun)]
  refine An.can0 S (fun h1 S1 q1' => ?_)
  simp only [Nat.add_zero]
  have key := lp_hs (fun m i h' => f_X1_gap_37 m (dE zs (n + 5)) (A 0) (nI p) (nI x) (nI i) h' nx) (bnd w p) (fun h' => SN A I M w 0 h' nx ∧ Lt (A 1) h1 nx h' nx) (gpO w p x (gpF w p x)) (fun i h' => some (nI i, h', 0, 0)) (fun h' => (f_X1_none (dE zs (n + 5)) h' nx (A 0) (nI 5))) ?_ ?_ FU 0 h1 (Nat.zero_le _) (FU_lt (by omega)) ⟨S1, Lt.rfl'⟩
  · obtain ⟨h', ⟨S', L'⟩, e⟩ := key
    rw [Nat.sub_zero] at e
    have e' : f_X1_gap_37 FU (dE zs (n + 5)) (A 0) (nI p) (nI x) 0 h1 nx = _ := e
    rw [e']
    cases fdN (gpO w p x (gpF w p x)) 0 (bnd w p) with
    | none =>
      obtain ⟨h2, e2, S2, q2⟩ := S'.no (dE zs (n + 5)) (nI 5)
      exact An.at S2 (L'.qs.trans q2) e2
    | some j => exact An.at S' L'.qs rfl
  · intro m h' hP
    obtain ⟨⟨aH, eH, aP, eP, rN, rA, hm, hs, nh, np, tl, O, T, TI, ho, hM⟩, F, wk, rf, sc, la, oa, R, Q, L, K, s0, il, io, hOwn, hno⟩ := id hP.1.1
    simp only [f_X1_gap_37]
    rw [hP.1.g2, Option.bind_some, R.o1, gdT, c_bandNow R Q O T Z hp, Option.bind_some, q1, if_pos (nI_leR _), hP.1.i0, gdT, aC_id]
  · intro m i h' hi hP
    obtain ⟨S', L'⟩ := hP
    obtain ⟨h2, e2, S2, L2⟩ := y_isFirstBy (zs := zs) (n := n) S' G hp hx hi
    obtain ⟨⟨aH, eH, aP, eP, rN, rA, hm, hs, nh, np, tl, O, T, TI, ho, hM⟩, F, wk, rf, sc, la, oa, R, Q, L, K, s0, il, io, hOwn, hno⟩ := id S'.1
    simp only [f_X1_gap_37]
    rw [S'.g2, Option.bind_some, R.o1, gdT, c_bandNow R Q O T Z hp, Option.bind_some, q1, if_neg (nI_ge hi (by omega)), S'.i0, gdT, e2, Option.bind_some]
    dsimp only
    rw [aC00, nI_1, Nat.add_zero]
    refine ⟨h2, ⟨S2, L'.trans L2⟩, ?_⟩
    cases gpO w p x (gpF w p x) i
    · rw [if_pos (show bI false = 0 from rfl), if_neg (show ¬ false = true by nofun)]
      rfl
    · rw [if_neg (show ¬ bI true = 0 by decide), if_pos (show true = true from rfl)]
end PGC
