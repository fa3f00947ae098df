/-! THE COMPONENT's side: a home's offers, whole -/
section PZF
variable {h h' h'' : AH} {nx nx' nx'' : Nat} {M M' M'' : Nat → Prop} {o r eL eO_ cL cO : Nat} {w w' : Rw} {p x off : Nat} {zs : Nat → Nat} {n : Nat}
theorem lcl_refd (Z : Rng w) (hp : p < 8) (hx : x < 10) : lcl (refd w p) x = lcl w x := by
  have e8 := Z.gL.2
  have eL : nL (refd w p) = nL w := by unfold nL wN; rw [refd_g hp (by decide) (by decide)]
  have eh : ∀ y, y < 10 → hF (refd w p) y 1 = hF w y 1 := fun y hy => by unfold hF; exact refd_o (by omega) (fun j h1 h2 => by omega)
  have key : lcN (refd w p) (hF (refd w p) x 1) = lcN w (hF w x 1) := by
    unfold lcN
    rw [eL, eh x hx]
    refine cnN_c _ (fun j hj => ?_)
    have h1 : lN_ (refd w p) j 1 = lN_ w j 1 := by unfold lN_ lF; rw [refd_g hp (by omega) (by omega)]
    have h2 := (Z.l1 (i := j) (by omega)).2
    rw [h1, eh _ (by omega)]
  unfold lcl
  rw [key, refd_g hp (by decide) (by decide)]
theorem qta_refd (Z : Rng w) (hp : p < 8) : qta (refd w p) = qta w := by
  have e8 := Z.gL.2
  have eL : nL (refd w p) = nL w := by unfold nL wN; rw [refd_g hp (by decide) (by decide)]
  have key : lvd (refd w p) = lvd w := by
    unfold lvd
    rw [eL]
    refine cnN_c _ (fun j hj => ?_)
    unfold lvb lF
    rw [refd_g hp (by omega) (by omega)]
  unfold qta
  rw [key, refd_g hp (by decide) (by decide), refd_g hp (by decide) (by decide)]
theorem x_of17 {lc qt : Bool} (x : Nat) : ∀ (c k dn m : Nat) (w : Rw) (h : AH) (nx : Nat) (M : Nat → Prop) (eL eO_ cL cO : Nat), k + c = 3 → dn < 256 → Gd w → RX h nx M o r eL eO_ cL cO w → x < nH w → hF w x 2 = -1 → nO w + c ≤ 30 → cL < 60 → cO < 60 → lcl w x = lc → qta w = qt →
    ∃ (h' : AH) (M' : Nat → Prop) (eL' eO' cL' cO' c' d : Nat), f_X2_offersOne_17 (m + c + 1) (dE zs (n + 5)) r (nI x) (nI dn) (bI lc) (bI qt) (nI (k + 1)) h nx = some ((), h', c', d) ∧ XW o r h nx M eL eO_ cL cO w h' (nx + c') M' eL' eO' cL' cO' (ofN x c k dn w) c (3 * c) d
  | 0, k, dn, m, w, h, nx, M, eL, eO_, cL, cO, hk, hd, G, X, hx, hf, hO, hcL, hcO, hlc, hqt => by
    obtain rfl : k = 3 := by omega
    refine ⟨h, M, eL, eO_, cL, cO, 0, 0, ?_, XW.here X hcL hcO rfl (fun _ _ _ => rfl)⟩
    simp only [f_X2_offersOne_17]
    rw [if_pos (by decide)]
  | c + 1, k, dn, m, w, h, nx, M, eL, eO_, cL, cO, hk, hd, G, X, hx, hf, hO, hcL, hcO, hlc, hqt => by
    have Z := G.1
    have b1 := Z.gH.2
    have b2 := Z.gP.2
    obtain ⟨h1, a1, a2, a3⟩ := x_nextFor (zs := zs) (n := n) X Z G.2.1 hx hd
    obtain ⟨_, F, wk, rf, sc, la, oa, R, -⟩ := id X
    obtain ⟨_, F1, wk1, rf1, sc1, la1, oa1, R1, -⟩ := id a2
    have W1 : XW o r h nx M eL eO_ cL cO w h1 nx M eL eO_ cL cO w 0 0 0 := XW.here a2 hcL hcO rfl (fun q hq hn => a3 q (fun z => hn (by rw [z]; exact Or.inl ⟨by omega, by omega⟩)))
    have hk3 : ¬ nI 3 < nI (k + 1) := by
      have : ∀ k, k < 3 → ¬ nI 3 < nI (k + 1) := by decide
      exact this k (by omega)
    rw [show m + (c + 1) + 1 = (m + c + 1) + 1 by omega]
    rw [f_X2_offersOne_17, if_neg hk3]
    simp only [R.o1, gdT, a1, Option.bind_some, aC00, R1.o1, Nat.add_zero]
    unfold ofN
    cases hn : nxt w x dn with
    | none =>
      rw [if_neg (show ¬ (0 : Int32) ≤ eO none by decide)]
      exact ⟨h1, M, eL, eO_, cL, cO, 0, 0, rfl, W1.1, W1.2.1, W1.2.2.1, W1.2.2.2.1, W1.2.2.2.2.1, W1.2.2.2.2.2.1, W1.2.2.2.2.2.2.1, hcL, hcO, Nat.le_refl _, by omega, by omega, W1.2.2.2.2.2.2.2.2.2.2.2.2⟩
    | some p =>
      obtain ⟨p1, p2, p3⟩ := am_some hn
      rw [Bool.and_eq_true, Bool.and_eq_true] at p2
      have hp8 : p < 8 := by omega
      have hO9 : nO w < 30 := by omega
      have hl : nL w < 8 := G.2.2.lt Z p1 (mayH_in p2.1.2)
      obtain ⟨h2, M2, eL2, eO2, cL2, cO2, c2, d2, e1, e2⟩ := x_isTaken (E := dE zs (n + 5)) (p := p) (off := k + 1) G a2 p1 hx hl hO9 hcL hcO
      rw [hlc, hqt] at e1
      rw [if_pos (show (0 : Int32) ≤ eO (some p) from nI_pos' (by omega)), show eO (some p) = nI p from rfl, e1, Option.bind_some]
      dsimp only
      have W2 := W1.trans e2
      by_cases ht : wTk w p x = true
      · rw [ht, if_neg (show ¬ bI true = 0 by decide), aC_some]
        rw [if_pos ht] at W2
        refine ⟨h2, M2, eL2, eO2, cL2, cO2, _, _, rfl, ?_⟩
        rw [if_pos rfl]
        obtain ⟨w1, w2, w3, w4, w5, w6, w7, w8, w9, w10, w11, w12, w13⟩ := W2
        exact ⟨w1, w2, w3, w4, w5, w6, w7, w8, w9, w10, by omega, by omega, w13⟩
      · rw [if_neg ht] at W2 ⊢
        have htf : wTk w p x = false := by simpa using ht
        rw [htf, if_pos (show bI false = 0 from rfl), or_n dn (by omega) p (by omega), nI_1]
        have A1 := offd_a (p := p) (h := x) (t := false) Z
        have Z1 : Rng (offd w p x false) := Rng_offd Z hp8 (by omega) hO9
        have hK : KS w (refd (offd w p x false) p) := (KS_ag A1).trans (KS_refd hp8)
        have G2 : Gd (refd (offd w p x false) p) := ⟨Rng_refd Z1 hp8, Con_refd Z1 (Con_ag A1 Z G.2.1) hp8, Cn_refd Z1 hp8 (Cn_ag A1 Z G.2.2)⟩
        have hnO : nO (refd (offd w p x false) p) = nO w + 1 := by
          have h1 := nO_offd (p := p) (h := x) (t := false) Z hO9
          unfold nO wN at h1 ⊢
          rw [refd_g hp8 (by decide) (by decide)]; exact h1
        have hf2 : hF (refd (offd w p x false) p) x 2 = -1 := by
          rw [show hF (refd (offd w p x false) p) x 2 = hF (offd w p x false) x 2 from refd_o (by omega) (fun j h1 h2 => by omega), ag_h A1 (by omega) (by decide)]
          exact hf
        obtain ⟨h3, M3, eL3, eO3, cL3, cO3, c3, d3, f1, f2⟩ := x_of17 (lc := lc) (qt := qt) x c (k + 1) (dn ||| 2 ^ p) m _ h2 _ M2 eL2 eO2 cL2 cO2 (by omega) (or_lt (m := 8) hd hp8) G2 W2.1 (by rw [hK.nH]; exact hx) hf2 (by rw [hnO]; omega) W2.2.2.2.2.2.2.2.1 W2.2.2.2.2.2.2.2.2.1 (by rw [lcl_refd Z1 hp8 (by omega), ag_lcl A1 Z (by omega)]; exact hlc) (by rw [qta_refd Z1 hp8, ag_qta A1]; exact hqt)
        rw [f1, aC_some]
        have W3 := W2.trans f2
        refine ⟨h3, M3, eL3, eO3, cL3, cO3, _, _, rfl, ?_⟩
        rw [Nat.add_assoc nx c2 c3] at W3
        obtain ⟨w1, w2, w3, w4, w5, w6, w7, w8, w9, w10, w11, w12, w13⟩ := W3
        exact ⟨w1, w2, w3, w4, w5, w6, w7, w8, w9, w10, by omega, by omega, w13⟩
theorem x_offersOne (G : Gd w) (X : RX h nx M o r eL eO_ cL cO w) (hx : x < nH w) (hf : hF w x 2 = -1) (hO : nO w ≤ 27) (hcL : cL < 60) (hcO : cO < 60) : ∃ (h' : AH) (M' : Nat → Prop) (eL' eO' cL' cO' c d : Nat), f_X2_offersOne (dE zs (n + 5)) h nx r (nI x) = some ((), h', c, d) ∧ XW o r h nx M eL eO_ cL cO w h' (nx + c) M' eL' eO' cL' cO' (ofN x 3 0 0 w) 3 9 d := by
  obtain ⟨⟨aH, eH, aP, eP', rN, rA, hm, hs, nh, np, tl, O, T, TI, ho, hM'⟩, F, wk, rf, sc, la, oa, R, Q, L, K, s0, il, io, hOwn, hno⟩ := id X
  simp only [f_X2_offersOne, R.o1, gdT, c_isLocalTurn R Q O T G.1 G.2.1 L hx, c_isQuotaTurn R Q G.1 L, Option.bind_some]
  exact x_of17 (lc := lcl w x) (qt := qta w) x 3 0 0 9996 w h nx M eL eO_ cL cO rfl (by decide) G X hx hf (by omega) hcL hcO rfl rfl
end PZF
