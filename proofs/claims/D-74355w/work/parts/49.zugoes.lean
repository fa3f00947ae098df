/-! THE COMPONENT's side: weeks go by -/
section PZU
variable {h h' h'' : AH} {nx nx' nx'' : Nat} {M M' M'' : Nat → Prop} {o r eL eO_ cL cO : Nat} {w w' : Rw} {p x off : Nat} {zs : Nat → Nat} {n : Nat} {E : bE}
def omN : Nat → Rw → Rw
  | 0, w => w
  | k + 1, w => omN k (omE w)
theorem bdA_nL (G : Gd w) : nL (bdA w) = nL w := by
  obtain ⟨m1, m2, m3, m4, m5, m6⟩ := m_allBid G.1 G.2.1 G.2.2
  unfold nL wN; rw [m6.g (by decide)]
theorem x_oneMore (G : Gd w) (X : RX h nx M o r eL eO_ cL cO w) (hcL : cL < 60) (hcO : cO < 60) : ∃ (h1 h' : AH) (M' : Nat → Prop) (eL' eO' cL' cO' c d : Nat) (v u : Int32), f_X2_bidsAll (dE zs (n + 5)) h nx r = some (u, h1, 0, 0) ∧ isO h1 r 1 = true ∧ f_X2_ends (dE zs (n + 5)) h1 nx r = some (v, h', c, d) ∧ XW o r h nx M eL eO_ cL cO w h' (nx + c) M' eL' eO' cL' cO' (omE w) 30 90 d := by
  obtain ⟨m1, m2, m3, m4, m5, m6⟩ := m_allBid G.1 G.2.1 G.2.2
  obtain ⟨h1, a1, a2, a3⟩ := x_bidsAll (zs := zs) (n := n + 4) X G
  obtain ⟨_, F1, wk1, rf1, sc1, la1, oa1, R1, -⟩ := id a2
  obtain ⟨h2, M2, eL2, eO2, cL2, cO2, c2, d2, b1, W2⟩ := x_ends (zs := zs) (n := n) (w := bdA w) ⟨m3, m4, m5⟩ a2 hcL hcO
  have W1 : XW o r h nx M eL eO_ cL cO w h1 nx M eL eO_ cL cO (bdA w) 0 0 0 := XW.here a2 hcL hcO (bdA_nL G) (fun q _ hn => a3 q (fun z => hn (by rw [z]; exact Or.inl ⟨by omega, by omega⟩)) (fun z => hn (by rw [z]; exact Or.inl ⟨by omega, by omega⟩)))
  have W := W1.trans W2
  rw [show wkE (bdA w) = omE w from rfl] at W
  refine ⟨h1, h2, M2, eL2, eO2, cL2, cO2, c2, d2, _, _, a1, R1.o1, b1, ?_⟩
  obtain ⟨w1, w2, w3, w4, w5, w6, w7, w8, w9, w10, w11, w12, w13⟩ := W
  exact ⟨w1, w2, w3, w4, w5, w6, w7, w8, w9, w10, by omega, by omega, w13⟩
theorem x_go2 {K : Nat} (hK : K ≤ 1000) : ∀ (k j m : Nat) (w : Rw) (h : AH) (nx : Nat) (M : Nat → Prop) (eL eO_ cL cO : Nat), j + k = K → Gd w → wN w 232 + k ≤ 999 → RX h nx M o r eL eO_ cL cO w → cL < 60 → cO < 60 →
    ∃ (h' : AH) (M' : Nat → Prop) (eL' eO' cL' cO' c d : Nat), f_X2_goes_2 (m + k + 1) (dE zs (n + 5)) r (nI K) (nI j) h nx = some ((), h', c, d) ∧ XW o r h nx M eL eO_ cL cO w h' (nx + c) M' eL' eO' cL' cO' (omN k w) (30 * k) (90 * k) d
  | 0, j, m, w, h, nx, M, eL, eO_, cL, cO, hj, G, hw, X, hcL, hcO => by
    refine ⟨h, M, eL, eO_, cL, cO, 0, 0, ?_, XW.here X hcL hcO rfl (fun _ _ _ => rfl)⟩
    simp only [f_X2_goes_2]
    rw [if_pos (by rw [show j = K by omega]; exact nI_leR _)]
  | k + 1, j, m, w, h, nx, M, eL, eO_, cL, cO, hj, G, hw, X, hcL, hcO => by
    obtain ⟨_, F, wk, rf, sc, la, oa, R, -⟩ := id X
    obtain ⟨o1, G1, K1, l1, w1, oo, -⟩ := m_oneMore G (by omega)
    obtain ⟨h1, h2, M2, eL2, eO2, cL2, cO2, c2, d2, v, u, a1, a2, a3, W1⟩ := x_oneMore (zs := zs) (n := n) G X hcL hcO
    have hw1 : wN (omE w) 232 + k ≤ 999 := by
      have : wN (omE w) 232 = wN w 232 + 1 := by
        unfold wN at w1 ⊢
        rw [w1]
        exact nI_clamp (by unfold wN at hw; omega)
      omega
    obtain ⟨h3, M3, eL3, eO3, cL3, cO3, c3, d3, b1, W2⟩ := x_go2 hK k (j + 1) m (omE w) h2 (nx + c2) M2 eL2 eO2 cL2 cO2 (by omega) G1 hw1 W1.1 W1.2.2.2.2.2.2.2.1 W1.2.2.2.2.2.2.2.2.1
    rw [show m + (k + 1) + 1 = (m + k + 1) + 1 by omega, f_X2_goes_2, if_neg (nI_ge (show j < K by omega) (by omega))]
    simp only [R.o1, gdT, a1, Option.bind_some, aC00, a2, a3, Nat.add_zero, nI_1]
    rw [b1, aC_some]
    have W := W1.trans W2
    refine ⟨h3, M3, eL3, eO3, cL3, cO3, _, _, rfl, ?_⟩
    rw [Nat.add_assoc, show omN k (omE w) = omN (k + 1) w from rfl] at W
    obtain ⟨w1, w2, w3, w4, w5, w6, w7, w8, w9, w10, w11, w12, w13⟩ := W
    exact ⟨w1, w2, w3, w4, w5, w6, w7, w8, w9, w10, by omega, by omega, w13⟩
/-- Register.goes = so many of the reference's weeks -/
theorem x_goes {K : Nat} (hK : K ≤ 1000) (G : Gd w) (hw : wN w 232 + K ≤ 999) (X : RX h nx M o r eL eO_ cL cO w) (hcL : cL < 60) (hcO : cO < 60) : ∃ (h' : AH) (M' : Nat → Prop) (eL' eO' cL' cO' c d : Nat), f_X2_goes (dE zs (n + 5)) h nx r (nI K) = some ((), h', c, d) ∧ XW o r h nx M eL eO_ cL cO w h' (nx + c) M' eL' eO' cL' cO' (omN K w) (30 * K) (90 * K) d := by
  have key := x_go2 (zs := zs) (n := n) hK K 0 (9999 - K) w h nx M eL eO_ cL cO (by omega) G hw X hcL hcO
  rw [show 9999 - K + K + 1 = FU by show _ = 10000; omega] at key
  exact key
end PZU
