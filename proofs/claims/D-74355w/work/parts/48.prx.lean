/-! THE COMPONENT's side: a register with all around it, and its row -/
def NI (nx : Nat) (M : Nat → Prop) (q : Nat) : Prop := q < nx ∧ ¬ M q
def CXT (h : AH) (nx : Nat) (M : Nat → Prop) (o : Nat) (w : Rw) : Prop := ∃ (aH eH aP eP rN rA : Nat) (hm hs nh np tl : Nat → Nat), ObjO h o aH aP rN rA ∧ Told h aH eH aP eP hm hs nh np tl w ∧ ToldI (NI nx M) aH eH aP eP hm hs tl w ∧ o < nx ∧ M o ∧ ∀ q, M q → q < nx
def RX (h : AH) (nx : Nat) (M : Nat → Prop) (o r eL eO_ cL cO : Nat) (w : Rw) : Prop := CXT h nx M o w ∧ ∃ (F : Nat → Nat → Int32) (wk rf : Int32) (sc : Int32 × Int32 × Int32 × Int32) (la oa : Nat → Nat), RegH h o r eL eO_ F wk rf sc (nL w) la (nO w) oa cL cO ∧ RelF F wk rf w ∧ LetsH h (nL w) la w ∧ OffH h (nO w) oa w ∧ sc.2.2.1 = 0 ∧ (∀ i, i < nL w → NI nx M (la i)) ∧ (∀ i, i < nO w → NI nx M (oa i)) ∧ (∀ q, Own r eL eO_ q → M q ∧ q < nx) ∧ ¬ Own r eL eO_ o
/-- what may be written has grown, by new cells alone -/
def Ext (M M' : Nat → Prop) (nx : Nat) : Prop := (∀ q, M q → M' q) ∧ ∀ q, M' q → M q ∨ nx ≤ q
section PRX
variable {h h1 : AH} {nx nx' : Nat} {M M' : Nat → Prop} {o r eL eO_ cL cO : Nat} {w W : Rw} {p x a b dn : Nat} {zs : Nat → Nat} {n : Nat}
theorem Ext.rfl' : Ext M M nx := ⟨fun _ h => h, fun _ h => Or.inl h⟩
theorem Ext.trans {M'' : Nat → Prop} (h1 : Ext M M' nx) (hn : nx ≤ nx') (h2 : Ext M' M'' nx') : Ext M M'' nx := ⟨fun q h => h2.1 q (h1.1 q h), fun q h => by
  rcases h2.2 q h with z | z
  · exact h1.2 q z
  · exact Or.inr (by omega)⟩
theorem NI.ext {q : Nat} (H : NI nx M q) (hn : nx ≤ nx') (E : Ext M M' nx) : NI nx' M' q := ⟨Nat.lt_of_lt_of_le H.1 hn, fun z => by
  rcases E.2 q z with y | y
  · exact H.2 y
  · exact absurd H.1 (by omega)⟩
theorem CXT.bd (H : CXT h nx M o w) : ∀ q, M q → q < nx := by
  obtain ⟨aH, eH, aP, eP, rN, rA, hm, hs, nh, np, tl, O, T, TI, ho, hM⟩ := H
  exact hM.2
theorem CXT.step (H : CXT h nx M o w) (hn : nx ≤ nx') (E : Ext M M' nx) (hB : ∀ q, M' q → q < nx') (hk : ∀ q, q < nx → ¬ M q ∨ q = o → h1 q = h q) : CXT h1 nx' M' o w := by
  obtain ⟨aH, eH, aP, eP, rN, rA, hm, hs, nh, np, tl, O, T, TI, ho, hM⟩ := H
  obtain ⟨t1, t2, t3, t4, t5, t6⟩ := TI
  exact ⟨aH, eH, aP, eP, rN, rA, hm, hs, nh, np, tl, O.kept (hk o ho (Or.inr rfl)), T.kept ⟨t1, t2, t3, t4, t5, t6⟩ (fun q hq => hk q hq.1 (Or.inl hq.2)), ⟨t1.ext hn E, t2.ext hn E, t3.ext hn E, t4.ext hn E, fun i hi => (t5 i hi).ext hn E, fun p hp => ⟨(t6 p hp).1.ext hn E, (t6 p hp).2.ext hn E⟩⟩, by omega, E.1 _ hM.1, hB⟩
theorem CXT.row (H : CXT h nx M o w) (K : KT w W) (Z : Rng w) : CXT h nx M o W := by
  obtain ⟨aH, eH, aP, eP, rN, rA, hm, hs, nh, np, tl, O, T, TI, ho, hM⟩ := H
  have b1 := Z.gH.2
  have b2 := Z.gP.2
  refine ⟨aH, eH, aP, eP, rN, rA, hm, hs, nh, np, tl, O, ⟨?_, ?_, fun i hi => ?_, fun p hp => ?_⟩, ?_, ho, hM⟩
  · rw [K.eH]; exact T.1
  · rw [K.eP]; exact T.2.1
  · rw [K.eH] at hi
    rw [K.2.1 i 0 (by omega) (by omega), K.2.1 i 1 (by omega) (by omega)]
    exact T.2.2.1 i hi
  · rw [K.eP] at hp
    rw [K.1 p 0 (by omega) (by decide) (by omega), K.1 p 2 (by omega) (by decide) (by omega), K.1 p 3 (by omega) (by decide) (by omega)]
    exact T.2.2.2 p hp
  · obtain ⟨t1, t2, t3, t4, t5, t6⟩ := TI
    exact ⟨t1, t2, t3, t4, fun i hi => t5 i (by rw [← K.eH]; exact hi), fun p hp => t6 p (by rw [← K.eP]; exact hp)⟩
/-- its own cell's scratch is written -/
theorem RX.scr (X : RX h nx M o r eL eO_ cL cO w) : ∃ (wk rf : Int32) (sc : Int32 × Int32 × Int32 × Int32), h r = some (.inr (.inl (1, rFs o r wk rf sc))) ∧ sc.2.2.1 = 0 ∧ ∀ sc' : Int32 × Int32 × Int32 × Int32, sc'.2.2.1 = 0 → RX (hu h r (.inr (.inl (1, rFs o r wk rf sc')))) nx M o r eL eO_ cL cO w := by
  obtain ⟨H, F, wk, rf, sc, la, oa, R, Q, L, K, s0, il, io, hOwn, hno⟩ := X
  have hr : M r := (hOwn r (Or.inl ⟨by omega, by omega⟩)).1
  have hor : o ≠ r := fun z => hno (by rw [z]; exact Or.inl ⟨by omega, by omega⟩)
  have hk : ∀ sc', ∀ q, q < nx → ¬ M q ∨ q = o → hu h r (.inr (.inl (1, rFs o r wk rf sc'))) q = h q := fun sc' q hq hz => hu_n (fun e => by
    subst e
    rcases hz with z | z
    · exact z hr
    · exact hor z.symm)
  exact ⟨wk, rf, sc, R.1, s0, fun sc' h0 => ⟨H.step (Nat.le_refl _) Ext.rfl' H.bd (hk sc'), F, wk, rf, sc', la, oa, R.setO wk rf sc', Q, L.kept (fun i hi => hk sc' _ (il i hi).1 (Or.inl (il i hi).2)), K.kept (fun i hi => hk sc' _ (io i hi).1 (Or.inl (io i hi).2)), h0, il, io, hOwn, hno⟩⟩
theorem x_compare (X : RX h nx M o r eL eO_ cL cO w) (Z : Rng w) (C : Con w) (ha : a < nP w) (hb : b < nP w) (hx : x < nH w) : ∃ (h1 : AH) (v : Int32), f_X2_compare (dE zs (n + 5)) h nx r (nI x) (nI a) (nI b) = some (v, h1, 0, 0) ∧ RX h1 nx M o r eL eO_ cL cO w ∧ (∀ q, q ≠ r → h1 q = h q) ∧ (v < 0 ↔ wgt w x a < wgt w x b) ∧ (0 < v ↔ wgt w x b < wgt w x a) := by
  have X0 := X
  obtain ⟨H, F, wk, rf, sc, la, oa, R, Q, L, K, s0, il, io, hOwn, hno⟩ := X
  obtain ⟨wk', rf', sc', hr', -, hs⟩ := X0.scr
  rw [R.1] at hr'
  have e1 : wk' = wk ∧ rf' = rf := by
    have := hr'
    simp only [Option.some.injEq, Sum.inr.injEq, Sum.inl.injEq, Prod.mk.injEq, rFs, List.cons.injEq, Value.int.injEq, true_and] at this
    exact ⟨this.1.symm, this.2.1.symm⟩
  obtain ⟨rfl, rfl⟩ := e1
  have X1 := hs (nI x, sc.2.1, sc.2.2.1, sc.2.2.2) s0
  obtain ⟨⟨aH, eH, aP, eP, rN, rA, hm, hs', nh, np, tl, O, T, TI, ho, hM⟩, -⟩ := id X1
  have R1 := R.setO wk' rf' (nI x, sc.2.1, sc.2.2.1, sc.2.2.2)
  have hr : M r := (hOwn r (Or.inl ⟨by omega, by omega⟩)).1
  have L1 : LetsH (hu h r (.inr (.inl (1, rFs o r wk' rf' (nI x, sc.2.1, sc.2.2.1, sc.2.2.2))))) (nL w) la w := L.kept (fun i hi => hu_n (fun e => (il i hi).2 (by rw [e]; exact hr)))
  refine ⟨_, cmI w sc.2.1 sc.2.2.1 x a b, ?_, X1, fun q hq => hu_n hq, by rw [s0]; exact cm_0 Z C ha hb⟩
  simp only [f_X2_compare, R.w19, Option.bind_some, R1.g22, c_order R1 Q O T Z C L1 ha hb hx rfl, aC00]
theorem x_whyNot (X : RX h nx M o r eL eO_ cL cO w) (Z : Rng w) (C : Con w) (hp : p < nP w) (hx : x < nH w) : ∃ h1 : AH, f_X2_whyNot (dE zs (n + 1)) h nx r (nI p) (nI x) = some (nI (whN w p x), h1, 0, 0) ∧ RX h1 nx M o r eL eO_ cL cO w ∧ ∀ q, q ≠ r → h1 q = h q := by
  have X0 := X
  obtain ⟨H, F, wk, rf, sc, la, oa, R, Q, L, K, s0, il, io, hOwn, hno⟩ := X
  obtain ⟨wk', rf', sc', hr', -, hs⟩ := X0.scr
  rw [R.1] at hr'
  have e1 : wk' = wk ∧ rf' = rf := by
    have := hr'
    simp only [Option.some.injEq, Sum.inr.injEq, Sum.inl.injEq, Prod.mk.injEq, rFs, List.cons.injEq, Value.int.injEq, true_and] at this
    exact ⟨this.1.symm, this.2.1.symm⟩
  obtain ⟨rfl, rfl⟩ := e1
  have X1 := hs (sc.1, sc.2.1, sc.2.2.1, nI p) s0
  obtain ⟨⟨aH, eH, aP, eP, rN, rA, hm, hs', nh, np, tl, O, T, TI, ho, hM⟩, -⟩ := id X1
  have R1 := R.setO wk' rf' (sc.1, sc.2.1, sc.2.2.1, nI p)
  refine ⟨_, ?_, X1, fun q hq => hu_n hq⟩
  simp only [f_X2_whyNot, R.w25, Option.bind_some]
  exact c_why0 R1 Q O T Z C hp hx rfl
/-- a loop whose states are known by a property alone -/
theorem lp_ex {S R : Type} (F : Nat → Nat → S → Option R) (N : Nat) (P : Nat → S → Prop) (h1 : ∀ n i s, i < N → P i s → ∃ s', P (i + 1) s' ∧ F (n + 1) i s = F n (i + 1) s') : ∀ n i s, i ≤ N → N - i < n → P i s → ∃ s' m, P N s' ∧ F n i s = F (m + 1) N s'
  | 0, _, _, _, h, _ => absurd h (by omega)
  | n + 1, i, s, hi, hn, hp => by
    by_cases h : i < N
    · obtain ⟨s', p1, e1⟩ := h1 n i s h hp
      rw [e1]
      exact lp_ex F N P h1 n (i + 1) s' (by omega) (by omega) p1
    · have : i = N := by omega
      subst this
      exact ⟨s, n, hp, rfl⟩
theorem x_nextFor (X : RX h nx M o r eL eO_ cL cO w) (Z : Rng w) (C : Con w) (hx : x < nH w) (hd : dn < 256) : ∃ h1 : AH, f_X2_nextFor (dE zs (n + 5)) h nx r (nI x) (nI dn) = some (eO (nxt w x dn), h1, 0, 0) ∧ RX h1 nx M o r eL eO_ cL cO w ∧ ∀ q, q ≠ r → h1 q = h q := by
  have b2 := Z.gP.2
  have key := lp_ex (fun n' j (s : Option Nat × AH) => f_X2_nextFor_5 n' (dE zs (n + 5)) r (nI x) (nI dn) (eO s.1) (nI j) s.2 nx) (nP w) (fun j s => s.1 = am (fun p => iBd w p x && mayH w p && !dn.testBit p) (wgt w x) j ∧ RX s.2 nx M o r eL eO_ cL cO w ∧ ∀ q, q ≠ r → s.2 q = h q) ?_ FU 0 (none, h) (Nat.zero_le _) (FU_lt (by omega)) ⟨rfl, X, fun _ _ => rfl⟩
  · obtain ⟨⟨s1, s2⟩, m, ⟨k1, k2, k3⟩, k4⟩ := key
    dsimp only at k1 k2 k3 k4
    obtain ⟨⟨aH, eH, aP, eP, rN, rA, hm, hs, nh, np, tl, O, T, TI, ho, hM⟩, F, wk, rf, sc, la, oa, R, Q, L, K, s0, il, io, hOwn, hno⟩ := id k2
    refine ⟨s2, ?_, k2, k3⟩
    show f_X2_nextFor_5 FU (dE zs (n + 5)) r (nI x) (nI dn) (eO none) (nI 0) h nx = _
    rw [k4]
    simp only [f_X2_nextFor_5, R.g26, Option.bind_some, O.g1, T.2.1.o, gdT, T.2.1.size]
    rw [if_pos (nI_leR _), k1]
    rfl
  · intro n' j s hj hs
    obtain ⟨best, hc⟩ := s
    obtain ⟨k1, k2, k3⟩ := hs
    dsimp only at k1 k2 k3
    obtain ⟨⟨aH, eH, aP, eP, rN, rA, hm, hs, nh, np, tl, O, T, TI, ho, hM⟩, F, wk, rf, sc, la, oa, R, Q, L, K, s0, il, io, hOwn, hno⟩ := id k2
    have hb := btV dn (by omega) j (by omega)
    have hbest : ∀ q, best = some q → q < nP w := fun q hq => by rw [k1] at hq; have := (am_some hq).1; omega
    simp only [f_X2_nextFor_5, R.g26, Option.bind_some, O.g1, T.2.1.o, gdT, T.2.1.size, R.o1, c_bidsFor R Q Z hj, c_isWaiting R Q Z hj, bI_0, nI_1, hb]
    rw [if_neg (nI_ge hj (by omega))]
    have ham : am (fun p => iBd w p x && mayH w p && !dn.testBit p) (wgt w x) (j + 1) = amF (fun p => iBd w p x && mayH w p && !dn.testBit p) (wgt w x) j best := by rw [am_1, k1]
    by_cases hB : (iBd w j x && mayH w j && !dn.testBit j) = true
    · have hB2 := hB
      rw [Bool.and_eq_true, Bool.and_eq_true, Bool.not_eq_true'] at hB2
      rw [hB2.1.1, hB2.1.2, if_neg (by nofun), if_neg (by nofun), if_pos hB2.2]
      cases hbe : best with
      | none =>
        rw [if_pos (show eO none < 0 by decide)]
        refine ⟨(some j, hc), ⟨?_, k2, k3⟩, rfl⟩
        rw [ham, hbe]
        unfold amF
        rw [if_pos hB]
      | some q =>
        have hq := hbest q hbe
        rw [if_neg (show ¬ eO (some q) < 0 from nI_pos (by omega))]
        obtain ⟨h1, v, c1, c2, c3, c4, c5⟩ := x_compare (zs := zs) (n := n) k2 Z C hj hq hx
        rw [show eO (some q) = nI q from rfl, c1, Option.bind_some, aC00]
        dsimp only
        by_cases hv : v < 0
        · rw [if_neg (Int32.not_le.mpr hv)]
          refine ⟨(some j, h1), ⟨?_, c2, fun z hz => (c3 z hz).trans (k3 z hz)⟩, rfl⟩
          rw [ham, hbe]
          unfold amF
          rw [if_pos hB]
          dsimp only
          rw [if_pos (c4.mp hv)]
        · rw [if_pos (Int32.not_lt.mp hv)]
          refine ⟨(some q, h1), ⟨?_, c2, fun z hz => (c3 z hz).trans (k3 z hz)⟩, rfl⟩
          rw [ham, hbe]
          unfold amF
          rw [if_pos hB]
          dsimp only
          rw [if_neg (fun z => hv (c4.mpr z))]
    · refine ⟨(best, hc), ⟨?_, k2, k3⟩, ?_⟩
      · rw [ham]
        unfold amF
        rw [if_neg hB]
      · cases h1 : iBd w j x
        · rw [if_pos rfl]
        · rw [if_neg (by nofun)]
          cases h2 : mayH w j
          · rw [if_pos rfl]
          · rw [if_neg (by nofun)]
            rw [h1, h2] at hB
            rw [if_neg (fun z => hB (by rw [z]; rfl))]
end PRX
