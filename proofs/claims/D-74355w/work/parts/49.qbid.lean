/-! THE COMPONENT's side: all bid as they would -/
section PQD
variable {h h1 : AH} {nx nx' : Nat} {M M' : Nat → Prop} {o r eL eO_ cL cO : Nat} {w W : Rw} {p x a b dn : Nat} {zs : Nat → Nat} {n : Nat}
theorem x_bidsOne (X : RX h nx M o r eL eO_ cL cO w) (G : Gd w) (hp : p < nP w) (k7 : Nat → Int32 → Int32 → AH → Nat → Option (Int32 × AH × Nat × Nat)) (x1 : Int32) : ∃ h' : AH, f_X2_bidsAll_53 FU k7 (dE zs (n + 1)) r x1 (nI p) (nI (bdM w p)) 0 h nx = k7 r x1 (nI (p + 1)) h' nx ∧ RX h' nx M o r eL eO_ cL cO (bdP p w) ∧ ∀ q, q ≠ r → q ≠ r + 6 → h' q = h q := by
  obtain ⟨Z, C, N⟩ := id G
  have b1 := Z.gH.2
  have b2 := Z.gP.2
  have hp8 : p < 8 := by omega
  have hM := bdM_le Z hp8
  have h2 : 2 ^ nH w ≤ 2 ^ 10 := Nat.pow_le_pow_right (by decide) b1
  obtain ⟨e10, l10⟩ := Z.p10 hp8
  obtain ⟨e11, l11⟩ := Z.p11 hp8
  have key := lp_ex (fun n' k (s : Nat × AH) => f_X2_bidsAll_53 n' k7 (dE zs (n + 1)) r x1 (nI p) (nI (bdM w p)) (nI k) s.2 nx) (bdM w p) (fun k s => s.1 = flN (bdn w p) 0 k (pN w p 10) ∧ s.1 < 2 ^ nH w ∧ RX s.2 nx M o r eL eO_ cL cO (bw w p s.1) ∧ ∀ q, q ≠ r → q ≠ r + 6 → s.2 q = h q) ?_ FU 0 (pN w p 10, h) (Nat.zero_le _) (FU_lt (by omega)) ⟨rfl, C.2.2.2.2.2 p hp, by rw [bw_self e10]; exact X, fun _ _ _ => rfl⟩
  · obtain ⟨⟨m, hc⟩, f, ⟨k1, k2, k3, k4⟩, k5⟩ := key
    dsimp only at k1 k2 k3 k4 k5
    refine ⟨hc, ?_, by unfold bdP bdV; rw [← k1]; exact k3, k4⟩
    show f_X2_bidsAll_53 FU k7 (dE zs (n + 1)) r x1 (nI p) (nI (bdM w p)) (nI 0) h nx = _
    rw [k5]
    simp only [f_X2_bidsAll_53]
    rw [if_pos (nI_leR _), nI_1]
  · intro n' k s hk hs
    obtain ⟨m, hc⟩ := s
    obtain ⟨k1, k2, k3, k4⟩ := hs
    dsimp only at k1 k2 k3 k4
    have hm2 : m < 1024 := by omega
    have hh := bdH_lt Z C hp hk
    have Gb : Gd (bw w p m) := Gd_bw G hp k2
    obtain ⟨⟨aH, eH, aP, eP, rN, rA, hm, hs, nh, np, tl, O, T, TI, ho, hM'⟩, F, wk, rf, sc, la, oa, R, Q, L, K, s0, il, io, hOwn, hno⟩ := id k3
    have r11 : pF (bw w p m) p 11 = pF w p 11 := bw_p hp8 (by decide) (by omega)
    have hpb : p < nP (bw w p m) := by rw [bw_nP hp8]; exact hp
    have hpn : pN (bw w p m) p 10 = m := by unfold pN; rw [bw_s]; exact nI_clamp (by omega)
    have r80 : ∃ s' : Nat × AH, (s'.1 = flN (bdn w p) 0 (k + 1) (pN w p 10) ∧ s'.1 < 2 ^ nH w ∧ RX s'.2 nx M o r eL eO_ cL cO (bw w p s'.1) ∧ ∀ q, q ≠ r → q ≠ r + 6 → s'.2 q = h q) ∧ f_X2_bidsAll_80 (f_X2_bidsAll_53 n' k7 (dE zs (n + 1))) (dE zs (n + 1)) r x1 (nI p) (nI (bdM w p)) (nI k) (nI (bdH w p k)) hc nx = f_X2_bidsAll_53 n' k7 (dE zs (n + 1)) r x1 (nI p) (nI (bdM w p)) (nI (k + 1)) s'.2 nx := by
      obtain ⟨h1, c1, c2, c3⟩ := x_whyNot (zs := zs) (n := n) k3 Gb.1 Gb.2.1 hpb (by rw [bw_nH hp8]; exact hh)
      have hfl : flN (bdn w p) 0 (k + 1) (pN w p 10) = bdn w p k m := by rw [flN_1, ← k1, Nat.zero_add]
      have hok := bdn_ok Z C hp hk k2
      simp only [f_X2_bidsAll_80, R.o1, gdT, c1, Option.bind_some, aC00, nI_1]
      obtain ⟨H1, F1, wk1, rf1, sc1, la1, oa1, R1, Q1, -⟩ := id c2
      by_cases h0 : whN (bw w p m) p (bdH w p k) = 0
      · have hbd : bdn w p k m = m ||| 2 ^ bdH w p k := by unfold bdn; rw [if_pos h0]
        obtain ⟨h3, d1, d2, d3⟩ := x_putsBid (E := dE zs (n + 1)) c2 Gb.1 hpb (x := bdH w p k) (by omega)
        rw [hpn, show bw (bw w p m) p (m ||| 2 ^ bdH w p k) = bw w p (m ||| 2 ^ bdH w p k) from bw_bw] at d2
        rw [if_pos (by rw [h0]; rfl), R1.o1, gdT, show nx + 0 = nx from rfl, d1, Option.bind_some, aC00]
        exact ⟨(bdn w p k m, h3), ⟨hfl.symm, hok.1, by rw [hbd]; exact d2, fun q n1 n2 => (d3 q n2).trans ((c3 q n1).trans (k4 q n1 n2))⟩, rfl⟩
      · have hle := whN_lt (w := bw w p m) (p := p) (h := bdH w p k)
        have hbd : bdn w p k m = m := by unfold bdn; rw [if_neg h0]
        rw [if_neg (nI_ne0 (by omega) (by omega))]
        exact ⟨(bdn w p k m, h1), ⟨hfl.symm, hok.1, by rw [hbd]; exact c2, fun q n1 n2 => (c3 q n1).trans (k4 q n1 n2)⟩, rfl⟩
    obtain ⟨s', p1, p2⟩ := r80
    refine ⟨s', p1, ?_⟩
    rw [← p2]
    simp only [f_X2_bidsAll_53, R.g6, Option.bind_some, R.o1, gdT]
    rw [if_neg (nI_ge hk (by omega)), R.a6 (by omega), Option.bind_some, (Q.2.1 p hpb).2.2.2.2.2.1, r11]
    by_cases e : pF w p 11 = 0
    · rw [if_pos e, show bdH w p k = k by unfold bdH; rw [if_pos e]]
    · have hk11 : k < pN w p 11 := by unfold bdM at hk; rw [if_neg e] at hk; exact hk
      have e11b : pN (bw w p m) p 11 = pN w p 11 := by unfold pN; rw [r11]
      rw [if_neg e, c_wishAt R Q Gb.1 hpb (by rw [e11b]; exact hk11), Option.bind_some, bw_p hp8 (by omega) (by omega), (Z.pw hp8 (by omega)).1, show bdH w p k = pN w p (12 + k) by unfold bdH; rw [if_neg e]]
theorem bdj_ok (G : Gd w) : ∀ j, j ≤ nP w → Gd (flN bdP 0 j w) ∧ BS w (flN bdP 0 j w) := by
  intro j hj
  have b1 := G.1.gH.2
  have b2 := G.1.gP.2
  have := flN_i (f := bdP) (fun _ s => Gd s ∧ BS w s) j 0 w ⟨G, fun _ _ => rfl⟩ (fun i s h1 h2 H => by
    obtain ⟨Gs, Bs⟩ := H
    have hi : i < nP s := by rw [Bs.kt.eP]; omega
    obtain ⟨-, m2, -⟩ := m_bidsBy Gs.1 Gs.2.1 hi
    refine ⟨Gd_bw Gs hi m2, fun q hq => ?_⟩
    show bw s i (bdV s i) q = w q
    rw [bw_o (hq i (by omega))]; exact Bs q hq)
  exact this
theorem x_bidsAll (X : RX h nx M o r eL eO_ cL cO w) (G : Gd w) : ∃ h' : AH, f_X2_bidsAll (dE zs (n + 1)) h nx r = some (nI (tot (bdA w) - tot w), h', 0, 0) ∧ RX h' nx M o r eL eO_ cL cO (bdA w) ∧ ∀ q, q ≠ r → q ≠ r + 6 → h' q = h q := by
  obtain ⟨Z, C, N⟩ := id G
  have b1 := Z.gH.2
  have b2 := Z.gP.2
  have ht := (m_allBid Z C N).2.1
  have key := lp_ex (fun n' j (s : AH) => f_X2_bidsAll_7 n' (dE zs (n + 1)) r (nI (tot w)) (nI j) s nx) (nP w) (fun j s => RX s nx M o r eL eO_ cL cO (flN bdP 0 j w) ∧ ∀ q, q ≠ r → q ≠ r + 6 → s q = h q) ?_ FU 0 h (Nat.zero_le _) (FU_lt (by omega)) ⟨X, fun _ _ _ => rfl⟩
  · obtain ⟨hc, f, ⟨k1, k2⟩, k3⟩ := key
    have Gj := (bdj_ok G (nP w) (Nat.le_refl _)).1
    have k1 : RX hc nx M o r eL eO_ cL cO (bdA w) := k1
    have Gj : Gd (bdA w) := Gj
    have eP : nP (bdA w) = nP w := (bdj_ok G (nP w) (Nat.le_refl _)).2.kt.eP
    refine ⟨hc, ?_, k1, k2⟩
    have Xo := X
    obtain ⟨H0, F0, wk0, rf0, sc0, la0, oa0, R0, -⟩ := Xo
    simp only [f_X2_bidsAll, R0.o1, gdT, x_together X Z, Option.bind_some]
    show f_X2_bidsAll_7 FU (dE zs (n + 1)) r (nI (tot w)) (nI 0) h nx = _
    rw [k3]
    obtain ⟨⟨aH, eH, aP, eP', rN, rA, hm, hs, nh, np, tl, O, T, TI, ho, hM'⟩, F, wk, rf, sc, la, oa, R, Q, L, K, s0, il, io, hOwn, hno⟩ := id k1
    simp only [f_X2_bidsAll_7, R.g26, Option.bind_some, O.g1, T.2.1.o, gdT, T.2.1.size, R.o1, x_together k1 Gj.1]
    rw [eP, if_pos (nI_leR _), pk_sub ht]
  · intro n' j hc hj hs
    obtain ⟨k1, k2⟩ := hs
    obtain ⟨Gj, Bj⟩ := bdj_ok G j (by omega)
    have eP : nP (flN bdP 0 j w) = nP w := Bj.kt.eP
    have hjb : j < nP (flN bdP 0 j w) := by rw [eP]; exact hj
    obtain ⟨h', c1, c2, c3⟩ := x_bidsOne (zs := zs) (n := n) k1 Gj hjb (f_X2_bidsAll_7 n' (dE zs (n + 1))) (nI (tot w))
    refine ⟨h', ⟨by rw [flN_1, Nat.zero_add]; exact c2, fun q n1 n2 => (c3 q n1 n2).trans (k2 q n1 n2)⟩, ?_⟩
    obtain ⟨⟨aH, eH, aP, eP', rN, rA, hm, hs, nh, np, tl, O, T, TI, ho, hM'⟩, F, wk, rf, sc, la, oa, R, Q, L, K, s0, il, io, hOwn, hno⟩ := id k1
    simp only [f_X2_bidsAll_7, R.g26, Option.bind_some, O.g1, O.g0, T.2.1.o, T.1.o, gdT, T.2.1.size, T.1.size, R.g6]
    rw [eP, if_neg (nI_ge hj (by omega)), R.a6 (by omega), Option.bind_some, (Q.2.1 j hjb).2.2.2.2.2.1, Option.bind_some, ← c1]
    have e11 := (Gj.1.p11 (p := j) (by omega)).1
    unfold bdM
    by_cases e : pF (flN bdP 0 j w) j 11 = 0
    · rw [if_pos e, if_pos e]
    · rw [if_neg e, if_neg e, ← e11]
end PQD
