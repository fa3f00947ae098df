/-! THE COMPONENT's side: Register.lets gives the reference's taken row -/
section PYL
variable {h h1 : AH} {nx nx' : Nat} {M M' : Nat → Prop} {o r eL eO_ cL cO : Nat} {w W : Rw} {p x y a b dn k off : Nat} {zs : Nat → Nat} {n : Nat} {E : bE}
theorem x_lets112 (Z : Rng w) (hp : p < nP w) (hx : x < nH w) (hl : nL w < 8) (hc : cL < 60) (X : RX h nx M o r eL eO_ cL cO (psj w x (bnI w p) (nP w))) : ∃ (h' : AH) (M' : Nat → Prop) (eL' cL' c d : Nat), f_X2_lets_112 E r (nI p) (nI x) (nI off) (bI (lcl w x)) (bI (qta w)) (bnI w p) (hF w x 5 + 1) h nx = some ((), h', c, d) ∧ RX h' (nx + c) M' o r eL' eO_ cL' cO (takd w p x off) ∧ Ext M M' nx ∧ (eL' = eL ∨ nx ≤ eL') ∧ cL ≤ cL' ∧ cL' < 60 ∧ c ≤ 2 + (cL' - cL) ∧ d ≤ 14 + 4 * (cL' - cL) ∧ ∀ q, q < nx → ¬ Own r eL eO_ q → h' q = h q := by
  have b1 := Z.gH.2
  have b2 := Z.gP.2
  have hp8 : p < 8 := by omega
  have hx10 : x < 10 := by omega
  have ePs : nP (psj w x (bnI w p) (nP w)) = nP w := congrArg Int32.toNatClampNeg (psj_g (i := 231) (by decide) b2)
  have eHs : nH (psj w x (bnI w p) (nP w)) = nH w := congrArg Int32.toNatClampNeg (psj_g (i := 230) (by decide) b2)
  have eLs : nL (psj w x (bnI w p) (nP w)) = nL w := congrArg Int32.toNatClampNeg (psj_g (i := 233) (by decide) b2)
  have eOs : nO (psj w x (bnI w p) (nP w)) = nO w := congrArg Int32.toNatClampNeg (psj_g (i := 299) (by decide) b2)
  have eT := takd_nL (off := off) Z hp8 hx10 hl
  have eTO := takd_nO (off := off) Z hp8 hx10 hl
  have Zs : Rng (psj w x (bnI w p) (nP w)) := Rng_psj2 Z _ b2
  obtain ⟨H, F, wk, rf, sc, la, oa, R, Q, L, K, s0, il, io, hOwn, hno⟩ := X
  rw [eLs] at R L il
  rw [eOs] at R K io
  have oLt : ∀ q, Own r eL eO_ q → q < nx := fun q hq => (hOwn q hq).2
  have l40 := oLt (r + 40) (Or.inl ⟨by omega, by omega⟩)
  have lL := oLt eL (Or.inr (Or.inl rfl))
  have lE := oLt eO_ (Or.inr (Or.inr rfl))
  have Rk : ∀ h1 : AH, (∀ q, q < nx → h1 q = h q) → RegH h1 o r eL eO_ F wk rf sc (nL w) la (nO w) oa cL cO := fun h1 hk => R.kept (fun q hq => hk q (oLt q hq))
  have hwk : wk = w 232 := by rw [Q.2.2.2.2.2.1]; exact psj_g (by decide) b2
  have hv1 : F 1 p = pF w p 4 := by rw [(Q.2.1 p (by rw [ePs]; exact hp)).1]; exact psj_p (by decide) (by decide)
  have hT : ∀ h1 : AH, (∀ q, q < nx → h1 q = h q) → f_X2_hasTie E h1 r (nI p) (nI x) = some (bI (decide (pF w p 2 = hF w x 1))) := fun h1 hk => by
    obtain ⟨aH, eH, aP, eP', rN, rA, hm, hs, nh, np, tl, O, T, TI, ho, hM'⟩ := H.step (h1 := h1) (Nat.le_refl _) Ext.rfl' H.bd (fun q hq _ => hk q hq)
    rw [c_hasTie (Rk h1 hk) O T (by rw [ePs]; exact hp) (by rw [eHs]; exact hx), psj_p (by decide) (by decide), show hF (psj w x (bnI w p) (nP w)) x 1 = hF w x 1 by unfold hF; exact psj_o (by omega)]
  have hmv : decide (pF w p 4 < 0) = !(!decide (pF w p 4 = -1)) := by
    rw [Bool.not_not]
    rcases Z.p4 hp8 with e | e
    · rw [e]; decide
    · have n1 : ¬ pF w p 4 < 0 := by rw [e.1]; exact nI_pos (by omega)
      have n2 : ¬ pF w p 4 = -1 := fun z => n1 (by rw [z]; decide)
      simp [n1, n2]
  have mk := x_letMade (E := E) (nx := nx) (h := h) (r := r) (p := p) (x := x) (off := off) (l := lcl w x) (q := qta w) (mv := !decide (pF w p 4 = -1)) (td := decide (pF w p 2 = hF w x 1)) (v := pF w p 4) (wk := wk) (ch := hF w x 5 + 1) (band := bnI w p) (fun h1 hk => (Rk h1 hk).g17) (fun h1 hk => (Rk h1 hk).o1) R.g1 (by rw [R.a1 hp8, hv1]) hmv R.g15 hT
  rw [mk]
  simp only [bd]
  generalize hh5 : hu (hu (hu h nx (.inr (.inl (7, df_X8)))) (nx + 1) (.inl (3, 4, .inl (let4 (lcl w x) (qta w) (!decide (pF w p 4 = -1)) (decide (pF w p 2 = hF w x 1)))))) nx (.inr (.inl (7, letV p x wk (hF w x 5 + 1) off (bnI w p) (lcl w x) (qta w) (!decide (pF w p 4 = -1)) (decide (pF w p 2 = hF w x 1))))) = h5
  have k5 : ∀ q, q < nx → h5 q = h q := fun q hq => by rw [← hh5, hu_n (by omega), hu_n (by omega), hu_n (by omega)]
  have n5 : h5 nx = some (.inr (.inl (7, letV p x wk (hF w x 5 + 1) off (bnI w p) (lcl w x) (qta w) (!decide (pF w p 4 = -1)) (decide (pF w p 2 = hF w x 1))))) := by rw [← hh5]; exact hu_s
  have R5 := Rk h5 k5
  have RL5 := R5.2.2.1
  rw [RL5.o, gdT]
  have nOw : ¬ Own r eL eO_ nx := fun z => by have := oLt _ z; omega
  obtain ⟨h6, eL', cL', c, d, a1, a2, a3, a4, a5, a6, a7, a8⟩ := x_letAdd (E := E) (y := nx) (nx := nx + 2) R5 (fun q hq => by have := oLt q hq; omega) hl hc (by rw [n5]; simp [stO]) nOw (by omega) (fun j hj => by
    rw [k5 _ (il j hj).1, L.2 j (by rw [eLs]; exact hj)]
    exact ⟨by simp [stO], by have := (il j hj).1; omega⟩)
  obtain ⟨h7, F', e1, e2, e3, e4⟩ := x_letEnd (E := E) (x := x) a2 Z hp8 (nx + 2 + c) 0
  rw [a1, Option.bind_some]
  dsimp only
  rw [e1, aC_some, aC_some]
  have keep : ∀ q, q < nx → ¬ Own r eL eO_ q → h7 q = h q := fun q hq hn => (e4 q (by
    by_cases z : q < r
    · exact Or.inl z
    · refine Or.inr ?_
      have : ¬ (r ≤ q ∧ q < r + 41) := fun y => hn (Or.inl y)
      omega)).trans ((a8 q (by omega) hn).trans (k5 q hq))
  have hE : Ext M (fun q => M q ∨ q = eL') nx := ⟨fun q hq => Or.inl hq, fun q hq => by
    rcases hq with z | z
    · exact Or.inl z
    · subst z
      rcases a3 with z | z
      · left; rw [z.1]; exact (hOwn _ (Or.inr (Or.inl rfl))).1
      · right; omega⟩
  have hbd : ∀ q, (M q ∨ q = eL') → q < nx + (2 + (c + 0)) := fun q hq => by
    rcases hq with z | z
    · have := H.bd q z; omega
    · subst z
      rcases a3 with z | z <;> omega
  have hOw : ∀ q, Own r eL' eO_ q → (M q ∨ q = eL') ∧ q < nx + (2 + (c + 0)) := fun q hq => by
    have hq : (r ≤ q ∧ q < r + 41) ∨ q = eL' ∨ q = eO_ := hq
    rcases hq with z | z | z
    · have := hOwn q (Or.inl z); exact ⟨Or.inl this.1, by omega⟩
    · exact ⟨Or.inr z, hbd q (Or.inr z)⟩
    · have := hOwn q (Or.inr (Or.inr z)); exact ⟨Or.inl this.1, by omega⟩
  have kM : ∀ q, q < nx → ¬ M q ∨ q = o → h7 q = h q := fun q hq hz => keep q hq (fun z => by
    rcases hz with y | y
    · exact y (hOwn q z).1
    · exact hno (by rw [← y]; exact z))
  have hou : o < nx := by
    obtain ⟨_, _, _, _, _, _, _, _, _, _, _, _, _, _, ho, _⟩ := H
    exact ho
  have nxk : h7 nx = h5 nx := (e4 nx (by omega)).trans (a8 nx (by omega) nOw)
  refine ⟨h7, fun q => M q ∨ q = eL', eL', cL', _, _, rfl, ⟨?_, F', wk, rf, sc, fun j => if j = nL w then nx else la j, oa, ?_, RelF_takd Z hl hp hx10 Q e3, ?_, ?_, s0, ?_, ?_, hOw, ?_⟩, hE, (by rcases a3 with z | z; (exact Or.inl z.1); (exact Or.inr (by omega))), a4, a5, by omega, by omega, keep⟩
  · exact (H.step (by omega) hE hbd kM).row ((KT_psj b2).symm'.trans (KS_takd Z hp8 hx10 hl).kt) Zs
  · rw [eT, eTO]; exact e2
  · refine ⟨rfl, fun i hi => ?_⟩
    rw [eT] at hi
    by_cases e : i = nL w
    · subst e
      simp only [if_true]
      rw [nxk, n5]
      have tl : ∀ k, k < 8 → lF (takd w p x off) (nL w) k = lF (tk3 w p x off) (nL w) k := fun k hk => by unfold lF; exact takd_o (by omega) Z hp8
      have l0 : lN_ (takd w p x off) (nL w) 0 = p := by unfold lN_; rw [tl 0 (by decide), tk3_l hp8 hx10 (by decide) b2]; exact nI_clamp (by omega)
      have l1 : lN_ (takd w p x off) (nL w) 1 = x := by unfold lN_; rw [tl 1 (by decide), tk3_l hp8 hx10 (by decide) b2]; exact nI_clamp (by omega)
      rw [l0, l1, tl 0 (by decide), tl 1 (by decide), tl 2 (by decide), tl 3 (by decide), tl 4 (by decide), tl 5 (by decide), tl 6 (by decide), tl 7 (by decide)]
      rw [tk3_l hp8 hx10 (by decide) b2, tk3_l hp8 hx10 (by decide) b2, tk3_l hp8 hx10 (by decide) b2, tk3_l hp8 hx10 (by decide) b2, tk3_l hp8 hx10 (by decide) b2, tk3_l hp8 hx10 (by decide) b2, tk3_l hp8 hx10 (by decide) b2, tk3_l hp8 hx10 (by decide) b2]
      have q1 := l5_1 (qta w) (decide (pF w p 4 = -1))
      have q2 := l5_2 (qta w) (decide (pF w p 4 = -1))
      simp only [decide_eq_true_eq] at q1 q2
      simp only [if_true, show ¬ (1 = 0) by decide, show ¬ (2 = 0) by decide, show ¬ (2 = 1) by decide, show ¬ (3 = 0) by decide, show ¬ (3 = 1) by decide, show ¬ (3 = 2) by decide, show ¬ (4 = 0) by decide, show ¬ (4 = 1) by decide, show ¬ (4 = 2) by decide, show ¬ (4 = 3) by decide, show ¬ (5 = 0) by decide, show ¬ (5 = 1) by decide, show ¬ (5 = 2) by decide, show ¬ (5 = 3) by decide, show ¬ (5 = 4) by decide, show ¬ (6 = 0) by decide, show ¬ (6 = 1) by decide, show ¬ (6 = 2) by decide, show ¬ (6 = 3) by decide, show ¬ (6 = 4) by decide, show ¬ (6 = 5) by decide, show ¬ (7 = 0) by decide, show ¬ (7 = 1) by decide, show ¬ (7 = 2) by decide, show ¬ (7 = 3) by decide, show ¬ (7 = 4) by decide, show ¬ (7 = 5) by decide, show ¬ (7 = 6) by decide, if_false, q1, q2]
      rw [takd_p Z hp8 hx10 hp8 (by decide) hl, takd_h Z hp8 hx10 hx10 (by decide), hwk]
      simp [letV]
    · simp only [if_neg e]
      have hi' : i < nL w := by omega
      have := L.2 i (by rw [eLs]; exact hi')
      rw [kM _ (il i hi').1 (Or.inl (il i hi').2), this]
      have lf : ∀ k, k < 8 → lF (takd w p x off) i k = lF (psj w x (bnI w p) (nP w)) i k := fun k hk => by
        unfold lF
        rw [takd_g Z hp8 hx10 (by omega) (by omega) (by omega), psj_g (by omega) b2]
      have l0 : lN_ (takd w p x off) i 0 = lN_ (psj w x (bnI w p) (nP w)) i 0 := by unfold lN_; rw [lf 0 (by decide)]
      have l1 : lN_ (takd w p x off) i 1 = lN_ (psj w x (bnI w p) (nP w)) i 1 := by unfold lN_; rw [lf 1 (by decide)]
      have c0 := (Zs.l0 (i := i) (by omega)).2
      have c1 := (Zs.l1 (i := i) (by omega)).2
      have KK : KT (psj w x (bnI w p) (nP w)) (takd w p x off) := (KT_psj b2).symm'.trans (KS_takd Z hp8 hx10 hl).kt
      rw [lf 0 (by decide), lf 1 (by decide), lf 2 (by decide), lf 3 (by decide), lf 4 (by decide), lf 5 (by decide), lf 6 (by decide), lf 7 (by decide), l0, l1, KK.1 _ 2 (by omega) (by decide) (by omega), KK.2.1 _ 1 (by omega) (by omega)]
  · rw [eTO]
    refine ⟨eTO.symm, fun i hi => ?_⟩
    rw [eTO] at hi
    have b3 := Z.gO.2
    obtain ⟨g, g1, g2, g3, g4⟩ := K.2 i (by rw [eOs]; exact hi)
    have ho : ∀ k, k < 3 → takd w p x off (300 + 3 * i + k) = psj w x (bnI w p) (nP w) (300 + 3 * i + k) := fun k hk => by
      rw [takd_g Z hp8 hx10 (by omega) (by omega) (by omega), psj_g (by omega) b2]
    exact ⟨g, by rw [kM _ (io i hi).1 (Or.inl (io i hi).2)]; exact g1, g2.trans (ho 0 (by decide)).symm, g3.trans (ho 1 (by decide)).symm, g4.trans (ho 2 (by decide)).symm⟩
  · intro i hi
    rw [eT] at hi
    by_cases e : i = nL w
    · simp only [if_pos e]
      refine ⟨by omega, fun z => ?_⟩
      rcases z with z | z
      · have := H.bd _ z; omega
      · rcases a3 with y | y <;> omega
    · simp only [if_neg e]
      exact (il i (by omega)).ext (by omega) hE
  · intro i hi
    rw [eTO] at hi
    exact (io i hi).ext (by omega) hE
  · intro z
    have z : (r ≤ o ∧ o < r + 41) ∨ o = eL' ∨ o = eO_ := z
    rcases z with z | z | z
    · exact hno (Or.inl z)
    · rcases a3 with y | y
      · exact hno (by rw [z, y.1]; exact Or.inr (Or.inl rfl))
      · omega
    · exact hno (Or.inr (Or.inr z))
theorem x_lets (Z : Rng w) (hp : p < nP w) (hx : x < nH w) (hl : nL w < 8) (hc : cL < 60) (X : RX h nx M o r eL eO_ cL cO w) : ∃ (h' : AH) (M' : Nat → Prop) (eL' cL' c d : Nat), f_X2_lets E h nx r (nI p) (nI x) (nI off) (bI (lcl w x)) (bI (qta w)) = some ((), h', c, d) ∧ RX h' (nx + c) M' o r eL' eO_ cL' cO (takd w p x off) ∧ Ext M M' nx ∧ (eL' = eL ∨ nx ≤ eL') ∧ cL ≤ cL' ∧ cL' < 60 ∧ c ≤ 2 + (cL' - cL) ∧ d ≤ 14 + 4 * (cL' - cL) ∧ ∀ q, q < nx → ¬ Own r eL eO_ q → h' q = h q := by
  have b1 := Z.gH.2
  have b2 := Z.gP.2
  obtain ⟨⟨aH, eH, aP, eP', rN, rA, hm, hs, nh, np, tl, O, T, TI, ho, hM'⟩, F, wk, rf, sc, la, oa, R, Q, -⟩ := id X
  obtain ⟨h1, m, a1, a2, a3⟩ := x_passed (E := E) (x := x) X Z hp (nI off) (bI (lcl w x)) (bI (qta w))
  have Zs : Rng (psj w x (bnI w p) (nP w)) := Rng_psj2 Z _ b2
  have ePs : nP (psj w x (bnI w p) (nP w)) = nP w := congrArg Int32.toNatClampNeg (psj_g (i := 231) (by decide) b2)
  have eHs : nH (psj w x (bnI w p) (nP w)) = nH w := congrArg Int32.toNatClampNeg (psj_g (i := 230) (by decide) b2)
  have ch := x_chain (E := E) (p := p) (x := x) a2 Zs (by rw [ePs]; exact b2) (by rw [eHs]; exact hx) m (nI off) (bI (lcl w x)) (bI (qta w)) (bnI w p)
  rw [ePs, show hF (psj w x (bnI w p) (nP w)) x 5 = hF w x 5 by unfold hF; exact psj_o (by omega)] at ch
  obtain ⟨h', M', eL', cL', c, d, d1, d2, d3, dd, d4, d5, d6, d7, d8⟩ := x_lets112 (E := E) (off := off) Z hp hx hl hc a2
  refine ⟨h', M', eL', cL', c, d, ?_, d2, d3, dd, d4, d5, d6, d7, fun q hq hn => (d8 q hq hn).trans (a3 q (fun z => hn (by rw [z]; exact Or.inl ⟨by omega, by omega⟩)))⟩
  simp only [f_X2_lets, R.o1, gdT, c_bandNow R Q O T Z hp, Option.bind_some]
  rw [a1, ch, d1]
end PYL
