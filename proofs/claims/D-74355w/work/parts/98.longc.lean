/-! longest: the component's side (Moves) -/
def mvE (o n0 best : Nat) (bg bb : Int32) : hE := .inr (.inl (10, [.ref (n0 + 1), .ref (n0 + 2), .int (nI best), .int bg, .int bb, .ref o]))
/-- the path that led to a home: whose row, whence -/
def Pth (w : Rw) (b n home : Nat) (s : MvS) : Prop := (n = 0 → home = b) ∧ (0 < n → s.2.1 0 = nI b) ∧ ∀ k, k < n → ∃ p, p < nP w ∧ s.1 k = nI p ∧ pF w p 4 = if k + 1 < n then s.2.1 (k + 1) else nI home
/-- the best row: told on the heap by its houses and where it begins -/
def Bst (w : Rw) (s : MvS) (bb : Int32) (f2 : Nat → Int32) : Prop := s.2.2.1 ≤ 8 ∧ (∀ k, k < s.2.2.1 → f2 k = s.2.2.2.1 k) ∧ (0 < s.2.2.1 → bb = s.2.2.2.2 0) ∧ ∀ k, k + 1 < s.2.2.1 → ∃ p, p < nP w ∧ s.2.2.2.1 k = nI p ∧ pF w p 4 = s.2.2.2.2 (k + 1)
def LM (A : Nat → Nat) (w : Rw) (h0 : AH) (n0 : Nat) (b n : Nat) (s : MvS) (h : AH) (nx : Nat) : Prop := (∀ q, q < n0 → h q = h0 q) ∧ n0 + 3 ≤ nx ∧ ∃ (bb : Int32) (f1 f2 : Nat → Int32), h n0 = some (mvE (A 0) n0 s.2.2.1 (nI b) bb) ∧ h (n0 + 1) = some (.inl (0, 9, .inl f1)) ∧ h (n0 + 2) = some (.inl (0, 9, .inl f2)) ∧ (∀ k, k < n → f1 k = s.1 k) ∧ Bst w s bb f2
section PLH
variable {A : Nat → Nat} {I : Nat → Int32} {M : Nat → Prop} {w : Rw} {st : Int32} {h h0 h1 h2 h' : AH} {nx nx' n0 n1 : Nat} {E : bE} {v a b' u : Int32} {p x y k q d b n home gone i : Nat} {f : Option (Int32 × AH × Nat × Nat)} {zs : Nat → Nat} {m : Nat} {s : MvS}
theorem mg2 {c o n0 best : Nat} {bg bb : Int32} (q : h c = some (mvE o n0 best bg bb)) : gI h c 10 2 = some (nI best) := by simp [gI, rd, q, mvE, vI]
theorem mg3 {c o n0 best : Nat} {bg bb : Int32} (q : h c = some (mvE o n0 best bg bb)) : gI h c 10 3 = some bg := by simp [gI, rd, q, mvE, vI]
theorem mg4 {c o n0 best : Nat} {bg bb : Int32} (q : h c = some (mvE o n0 best bg bb)) : gI h c 10 4 = some bb := by simp [gI, rd, q, mvE, vI]
theorem mg0 {c o n0 best : Nat} {bg bb : Int32} (q : h c = some (mvE o n0 best bg bb)) : gA h c 10 0 = some (n0 + 1) := by simp [gA, rd, q, mvE, vR]
theorem mg1 {c o n0 best : Nat} {bg bb : Int32} (q : h c = some (mvE o n0 best bg bb)) : gA h c 10 1 = some (n0 + 2) := by simp [gA, rd, q, mvE, vR]
theorem mg5 {c o n0 best : Nat} {bg bb : Int32} (q : h c = some (mvE o n0 best bg bb)) : gA h c 10 5 = some o := by simp [gA, rd, q, mvE, vR]
theorem mgo {c o n0 best : Nat} {bg bb : Int32} (q : h c = some (mvE o n0 best bg bb)) : isO h c 10 = true := by simp [isO, q, mvE]
theorem cI_k {t N k : Nat} {f g : Nat → Int32} {a b : Nat} (q1 : h a = some (.inl (t, N, .inl f))) (q2 : h b = some (.inl (t, N, .inl g))) (hk : k ≤ N) (hN : N < 2 ^ 30) : cI h t a 0 b 0 (nI k) = some (hu h b (.inl (t, N, .inl (va_cpy f g 0 0 k)))) := by
  have r0 : cpR 0 (nI k) N = true := by
    unfold cpR
    rw [nI_toInt (by omega)]
    exact decide_eq_true ⟨by decide, by omega, by rw [show (0 : Int32).toInt = 0 by decide]; omega⟩
  simp only [cI, arI, q1, q2, if_true, Option.bind_some, r0, gdT]
  rw [nI_clamp (by omega)]
  rfl
theorem mvD_low : ∀ (d h n gone : Nat) (s : MvS) (k : Nat), k < n → (mvD w d h n gone s).1 k = s.1 k ∧ (mvD w d h n gone s).2.1 k = s.2.1 k
  | 0, _, _, _, _, _, _ => ⟨rfl, rfl⟩
  | d + 1, h, n, gone, s, k, hk => by
    have rc : ∀ (t : MvS) (p : Nat), (rcd n (stR n p h t)).1 k = t.1 k ∧ (rcd n (stR n p h t)).2.1 k = t.2.1 k := fun t p => by
      unfold rcd
      split
      · exact ⟨upd_n (by omega), upd_n (by omega)⟩
      · exact ⟨upd_n (by omega), upd_n (by omega)⟩
    have key := flN_i (f := mvF w (mvD w d) h n gone) (fun _ t => t.1 k = s.1 k ∧ t.2.1 k = s.2.1 k) (nP w) 0 s ⟨rfl, rfl⟩ (fun i t _ _ ht => by
      unfold mvF
      split
      · exact ht
      · split
        · exact ht
        · split
          · exact ⟨(rc t i).1.trans ht.1, (rc t i).2.trans ht.2⟩
          · obtain ⟨z1, z2⟩ := mvD_low d (pN w i 4) (n + 1) (gone ||| 2 ^ i) (rcd n (stR n i h t)) k (by omega)
            exact ⟨z1.trans ((rc t i).1.trans ht.1), z2.trans ((rc t i).2.trans ht.2)⟩)
    exact key
theorem Pth.low (J : Pth w b n home s) {t : MvS} (ht : ∀ k, k < n → t.1 k = s.1 k ∧ t.2.1 k = s.2.1 k) : Pth w b n home t := by
  obtain ⟨j1, j2, j3⟩ := J
  refine ⟨j1, fun h => by rw [(ht 0 h).2]; exact j2 h, fun k hk => ?_⟩
  obtain ⟨p, z1, z2, z3⟩ := j3 k hk
  refine ⟨p, z1, by rw [(ht k hk).1]; exact z2, ?_⟩
  by_cases h : k + 1 < n
  · rw [if_pos h] at z3 ⊢; rw [(ht _ h).2]; exact z3
  · rw [if_neg h] at z3 ⊢; exact z3
theorem Pth.one (J : Pth w b n home s) (hp : p < nP w) {y : Nat} (hy : pF w p 4 = nI y) : Pth w b (n + 1) y (stR n p home s) := by
  obtain ⟨j1, j2, j3⟩ := J
  refine ⟨fun h => by omega, fun _ => ?_, fun k hk => ?_⟩
  · show upd s.2.1 n (nI home) 0 = nI b
    by_cases h0 : n = 0
    · subst h0; rw [upd_s, j1 rfl]
    · rw [upd_n (by omega)]; exact j2 (by omega)
  · by_cases hkn : k = n
    · subst hkn
      exact ⟨p, hp, upd_s, by rw [if_neg (by omega)]; exact hy⟩
    · obtain ⟨q, z1, z2, z3⟩ := j3 k (by omega)
      refine ⟨q, z1, (upd_n (by omega)).trans z2, ?_⟩
      rw [if_pos (by omega)]
      show pF w q 4 = upd s.2.1 n (nI home) (k + 1)
      by_cases hk1 : k + 1 < n
      · rw [if_pos hk1] at z3; rw [upd_n (by omega)]; exact z3
      · rw [if_neg hk1] at z3
        rw [show k + 1 = n by omega, upd_s]; exact z3
/-- what is recorded, as the abstract state says -/
theorem Bst_rcd {bb : Int32} {f1 f2 : Nat → Int32} (J : Pth w b n home s) (hn : n < 8) (hr : s.2.2.1 < n + 1) (h1 : ∀ k, k < n + 1 → f1 k = (stR n p home s).1 k) : Bst w (rcd n (stR n p home s)) (nI b) (va_cpy f1 f2 0 0 (n + 1)) := by
  have er : rcd n (stR n p home s) = (upd s.1 n (nI p), upd s.2.1 n (nI home), n + 1, (fun k => if k ≤ n then upd s.1 n (nI p) k else s.2.2.2.1 k), fun k => if k ≤ n then upd s.2.1 n (nI home) k else s.2.2.2.2 k) := if_pos hr
  obtain ⟨j1, j2, j3⟩ := J
  rw [er]
  refine ⟨by show n + 1 ≤ 8; omega, fun k hk => ?_, fun _ => ?_, fun k hk => ?_⟩
  · have hk : k < n + 1 := hk
    show va_cpy f1 f2 0 0 (n + 1) k = if k ≤ n then upd s.1 n (nI p) k else s.2.2.2.1 k
    rw [if_pos (by omega)]
    unfold va_cpy
    rw [if_pos ⟨by omega, by omega⟩, show 0 + (k - 0) = k by omega]
    exact h1 k hk
  · show nI b = if 0 ≤ n then upd s.2.1 n (nI home) 0 else s.2.2.2.2 0
    rw [if_pos (by omega)]
    by_cases h0 : n = 0
    · subst h0; rw [upd_s, j1 rfl]
    · rw [upd_n (by omega)]; exact (j2 (by omega)).symm
  · have hk : k + 1 < n + 1 := hk
    obtain ⟨q, z1, z2, z3⟩ := j3 k (by omega)
    refine ⟨q, z1, ?_, ?_⟩
    · show (if k ≤ n then upd s.1 n (nI p) k else s.2.2.2.1 k) = nI q
      rw [if_pos (by omega), upd_n (by omega)]; exact z2
    · show pF w q 4 = if k + 1 ≤ n then upd s.2.1 n (nI home) (k + 1) else s.2.2.2.2 (k + 1)
      rw [if_pos (by omega)]
      by_cases hk1 : k + 1 < n
      · rw [if_pos hk1] at z3; rw [upd_n (by omega)]; exact z3
      · rw [if_neg hk1] at z3
        rw [show k + 1 = n by omega, upd_s]; exact z3
/-- recording on the heap -/
theorem LM_rec {K : AH → Option (Unit × AH × Nat × Nat)} (L : LM A w h0 n0 b (n + 1) (stR n p home s) h nx) (J : Pth w b n home s) (hn : n < 8) (hr : s.2.2.1 < n + 1) : ∃ h8, ((wr h n0 10 2 (.int (nI (n + 1)))).bind fun h3 => (gI h3 n0 10 3).bind fun v4 => (wr h3 n0 10 4 (.int v4)).bind fun h5 => (gA h5 n0 10 0).bind fun v6 => (gA h5 n0 10 1).bind fun v7 => (cI h5 0 v6 0 v7 0 (nI (n + 1))).bind K) = K h8 ∧ LM A w h0 n0 b (n + 1) (rcd n (stR n p home s)) h8 nx := by
  obtain ⟨l1, l2, bb, f1, f2, l3, l4, l5, l6, l7⟩ := L
  have er1 : (rcd n (stR n p home s)).1 = (stR n p home s).1 := by unfold rcd; split <;> rfl
  have er3 : (rcd n (stR n p home s)).2.2.1 = n + 1 := by
    have : rcd n (stR n p home s) = _ := if_pos hr
    rw [this]
  have w1 : wr h n0 10 2 (.int (nI (n + 1))) = some (hu h n0 (mvE (A 0) n0 (n + 1) (nI b) bb)) := by
    have l3 : h n0 = some (.inr (.inl (10, [.ref (n0 + 1), .ref (n0 + 2), .int (nI s.2.2.1), .int (nI b), .int bb, .ref (A 0)]))) := l3
    rw [wr_at l3 (by show 2 < 6; decide)]; rfl
  have g3 := mg3 (h := hu h n0 (mvE (A 0) n0 (n + 1) (nI b) bb)) (c := n0) hu_s
  have w2 : wr (hu h n0 (mvE (A 0) n0 (n + 1) (nI b) bb)) n0 10 4 (.int (nI b)) = some (hu h n0 (mvE (A 0) n0 (n + 1) (nI b) (nI b))) := by
    have : hu h n0 (mvE (A 0) n0 (n + 1) (nI b) bb) n0 = some (.inr (.inl (10, [.ref (n0 + 1), .ref (n0 + 2), .int (nI (n + 1)), .int (nI b), .int bb, .ref (A 0)]))) := hu_s
    rw [wr_at this (by show 4 < 6; decide), hu_hu]; rfl
  have hb : hu h n0 (mvE (A 0) n0 (n + 1) (nI b) (nI b)) n0 = some (mvE (A 0) n0 (n + 1) (nI b) (nI b)) := hu_s
  have g0 := mg0 hb
  have g1 := mg1 hb
  have c1 : hu h n0 (mvE (A 0) n0 (n + 1) (nI b) (nI b)) (n0 + 1) = some (.inl (0, 9, .inl f1)) := (hu_n (by omega)).trans l4
  have c2 : hu h n0 (mvE (A 0) n0 (n + 1) (nI b) (nI b)) (n0 + 2) = some (.inl (0, 9, .inl f2)) := (hu_n (by omega)).trans l5
  refine ⟨_, by rw [w1, Option.bind_some, g3, Option.bind_some, w2, Option.bind_some, g0, Option.bind_some, g1, Option.bind_some, cI_k c1 c2 (by omega) (by decide), Option.bind_some], fun q hq => by rw [hu_n (by omega), hu_n (by omega)]; exact l1 q hq, l2, nI b, f1, va_cpy f1 f2 0 0 (n + 1), ?_, ?_, hu_s, fun k hk => by rw [er1]; exact l6 k hk, Bst_rcd (bb := bb) J hn hr l6⟩
  · rw [hu_n (by omega), hu_s, er3]
  · rw [hu_n (by omega)]; exact c1
theorem LM.le (L : LM A w h0 n0 b (n + 1) s h nx) : LM A w h0 n0 b n s h nx := by
  obtain ⟨l1, l2, bb, f1, f2, l3, l4, l5, l6, l7⟩ := L
  exact ⟨l1, l2, bb, f1, f2, l3, l4, l5, fun k hk => l6 k (by omega), l7⟩
theorem LM.sn (L : LM A w h0 n0 b n s h nx) (S : SN A I M w st h0 n0) : SN A I M w st h nx := S.grow (by have := L.2.1; omega) L.1
theorem rcd_low {t : MvS} {k : Nat} (hk : k < n) : (rcd n (stR n p home t)).1 k = t.1 k ∧ (rcd n (stR n p home t)).2.1 k = t.2.1 k := by
  unfold rcd
  split
  · exact ⟨upd_n (by omega), upd_n (by omega)⟩
  · exact ⟨upd_n (by omega), upd_n (by omega)⟩
theorem rcd_row {t : MvS} : (rcd n t).1 = t.1 ∧ (rcd n t).2.1 = t.2.1 := by unfold rcd; split <;> exact ⟨rfl, rfl⟩
/-- its row is written -/
theorem LM.row (L : LM A w h0 n0 b n s h nx) (hn : n < 8) : ∃ h3, sI h (n0 + 1) 0 (nI n) (nI p) = some h3 ∧ LM A w h0 n0 b (n + 1) (stR n p home s) h3 nx := by
  obtain ⟨l1, l2, bb, f1, f2, l3, l4, l5, l6, l7⟩ := L
  refine ⟨_, sI_at l4 (by omega) (by decide) _, fun q hq => by rw [hu_n (by omega)]; exact l1 q hq, l2, bb, upd f1 n (nI p), f2, by rw [hu_n (by omega)]; exact l3, hu_s, by rw [hu_n (by omega)]; exact l5, fun k hk => ?_, l7⟩
  show upd f1 n (nI p) k = upd s.1 n (nI p) k
  by_cases hkn : k = n
  · subst hkn; rw [upd_s, upd_s]
  · rw [upd_n hkn, upd_n hkn]; exact l6 k (by omega)
def Rcd (w : Rw) (b n : Nat) (t0 t : MvS) : Prop := (n = 0 ∧ t = t0) ∨ ∃ n' p hm s, n = n' + 1 ∧ n' < 8 ∧ t0 = stR n' p hm s ∧ t = rcd n' t0 ∧ Pth w b n' hm s
theorem y_goes (S : SN A I M w st h0 n0) (G : Gd w) : ∀ (d home n gone : Nat) (t0 t : MvS) (h : AH), 9 ≤ d + n → home < nH w → gone < 2 ^ nP w → pc gone = n → LM A w h0 n0 b n t0 h nx → Rcd w b n t0 t → Pth w b n home t → ∃ h', f_X11_goes (d + 3) E h nx n0 (nI home) (nI gone) (nI n) = some ((), h', 0, 0) ∧ LM A w h0 n0 b n (mvD w d home n gone t) h' nx
  | 0, home, n, gone, t0, t, h, hd, hh, hg, hn, L, hR, J => by
    have b1 := G.1.gP.2
    have := pc_8 gone (Nat.lt_of_lt_of_le hg (Nat.pow_le_pow_right (n := 2) (by decide) b1))
    omega
  | d + 1, home, n, gone, t0, t, h, hd, hh, hg, hn, L, hR, J => by
    have Z := G.1
    have b1 := Z.gP.2
    have b2 := Z.gH.2
    have hg2 : gone < 1024 := Nat.lt_of_lt_of_le hg (Nat.le_trans (Nat.pow_le_pow_right (n := 2) (by decide) b1) (by decide))
    have loop : ∀ (k i m : Nat) (s : MvS) (h : AH), i + k = nP w → LM A w h0 n0 b n s h nx → (∀ z, z < n → s.1 z = t.1 z ∧ s.2.1 z = t.2.1 z) → ∃ h', f_X11_goes_38 (m + k + 1) E (f_X11_goes (d + 3) E) n0 (nI home) (nI gone) (nI n) (nI i) h nx = some ((), h', 0, 0) ∧ LM A w h0 n0 b n (flN (mvF w (mvD w d) home n gone) i k s) h' nx := by
      intro k
      induction k with
      | zero =>
        intro i m s h hi L hs
        have S' := L.sn S
        obtain ⟨l1, l2, bb, f1, f2, l3, l4, l5, l6, l7⟩ := id L
        have e1 : gA h (A 0) 0 1 = some (A 7) := by simp [gA, rd, S'.2, oE, oFs, vR]
        have eT : isO h (A 7) 11 = true ∧ f_J2_size E h (A 7) = some (nI (nP w)) := by
          have S2 := S'.1
          obtain ⟨⟨aH, eH, aP, eP, rN, rA, hm, hs, nh, np, tl, O, T, TI, ho, hM⟩, F, wk, rf, sc, la, oa, R, Q, L, K, s0, il, io, hOwn, hno⟩ := id S2
          have : aP = A 7 := Option.some.inj (O.g1.symm.trans e1)
          subst this
          exact ⟨T.2.1.o, T.2.1.size⟩
        refine ⟨h, ?_, L⟩
        rw [f_X11_goes_38, mg5 l3, Option.bind_some, e1, Option.bind_some, eT.1, gdT, eT.2, Option.bind_some, if_pos (by rw [show i = nP w by omega]; exact nI_leR _)]
      | succ k ih =>
        intro i m s h hi L hs
        have S' := L.sn S
        obtain ⟨l1, l2, bb, f1, f2, l3, l4, l5, l6, l7⟩ := id L
        have e1 : gA h (A 0) 0 1 = some (A 7) := by simp [gA, rd, S'.2, oE, oFs, vR]
        have eT : isO h (A 7) 11 = true ∧ f_J2_size E h (A 7) = some (nI (nP w)) := by
          have S2 := S'.1
          obtain ⟨⟨aH, eH, aP, eP, rN, rA, hm, hs, nh, np, tl, O, T, TI, ho, hM⟩, F, wk, rf, sc, la, oa, R, Q, L, K, s0, il, io, hOwn, hno⟩ := id S2
          have : aP = A 7 := Option.some.inj (O.g1.symm.trans e1)
          subst this
          exact ⟨T.2.1.o, T.2.1.size⟩
        have ec : isO h (A 1) 1 = true ∧ f_X2_couldHave E h (A 1) (nI i) (nI home) = some (bI (cHv w i home)) := by
          have S2 := S'.1
          obtain ⟨⟨aH, eH, aP, eP, rN, rA, hm, hs, nh, np, tl, O, T, TI, ho, hM⟩, F, wk, rf, sc, la, oa, R, Q, L, K, s0, il, io, hOwn, hno⟩ := id S2
          exact ⟨R.o1, c_couldHave R Q O T Z (by omega) hh⟩
        have ef : flN (mvF w (mvD w d) home n gone) i (k + 1) s = flN (mvF w (mvD w d) home n gone) (i + 1) k (mvF w (mvD w d) home n gone i s) := rfl
        rw [ef, show m + (k + 1) + 1 = (m + k + 1) + 1 by omega, f_X11_goes_38, mg5 l3, Option.bind_some, e1, Option.bind_some, eT.1, gdT, eT.2, Option.bind_some, if_neg (nI_ge (by omega) (by omega)), btV gone hg2 i (by omega), nI_1]
        cases ht : gone.testBit i
        case true =>
          rw [if_pos (show bI true = 1 from rfl), mvF_1 ht]
          exact ih (i + 1) m s h (by omega) L hs
        case false =>
          obtain ⟨g1, g2, g3⟩ := gone_n (show i < nP w by omega) Z hg hn ht
          rw [if_neg (show ¬ bI false = 1 by decide), Option.bind_some, S'.g2, Option.bind_some, ec.1, gdT, ec.2, Option.bind_some]
          cases hc : cHv w i home
          case false =>
            rw [if_pos (show bI false = 0 from rfl), mvF_2 hc]
            exact ih (i + 1) m s h (by omega) L hs
          case true =>
            rw [if_neg (show ¬ bI true = 0 by decide), mvF_3 ht hc]
            have J' : Pth w b n home s := J.low hs
            obtain ⟨h3, e3, L3⟩ := L.row (p := i) (home := home) g3
            have S3 := L3.sn S
            obtain ⟨z1, z2, bb3, f13, f23, z3, z4, z5, z6, z7⟩ := id L3
            have e4 : gA h3 (A 1) 1 1 = some (A 1 + 2) ∧ aI h3 (A 1 + 2) 0 (nI i) = some (pF w i 4) := by
              have S2 := S3.1
              obtain ⟨⟨aH, eH, aP, eP, rN, rA, hm, hs, nh, np, tl, O, T, TI, ho, hM⟩, F, wk, rf, sc, la, oa, R, Q, L, K, s0, il, io, hOwn, hno⟩ := id S2
              exact ⟨R.g1, by rw [R.a1 (by omega), (Q.2.1 i (by omega)).1]⟩
            rw [mg0 l3, Option.bind_some, e3, Option.bind_some, mg5 z3, Option.bind_some, S3.g2, Option.bind_some, e4.1, Option.bind_some, e4.2, Option.bind_some]
            have low1 : ∀ z, z < n → (rcd n (stR n i home s)).1 z = t.1 z ∧ (rcd n (stR n i home s)).2.1 z = t.2.1 z := fun z hz => ⟨(rcd_low hz).1.trans (hs z hz).1, (rcd_low hz).2.trans (hs z hz).2⟩
            rcases G.2.1.2.1 i (by omega) with h4 | ⟨y, hy, h4, -⟩
            · rw [if_pos (by rw [h4]; decide), if_pos h4, mgo z3, gdT]
              obtain ⟨h5, e5, L5⟩ : ∃ h5, f_X11_ends E h3 nx n0 (nI (n + 1)) = some ((), h5, 0, 0) ∧ LM A w h0 n0 b (n + 1) (rcd n (stR n i home s)) h5 nx := by
                unfold f_X11_ends
                have hb8 : s.2.2.1 ≤ 8 := l7.1
                rw [mg2 z3, Option.bind_some]
                by_cases hr : s.2.2.1 < n + 1
                · rw [if_pos (show nI (stR n i home s).2.2.1 < nI (n + 1) from nI_lt hr (by omega))]
                  obtain ⟨h8, e8, L8⟩ := LM_rec (K := fun h8 => some ((), h8, 0, 0)) L3 J' g3 hr
                  exact ⟨h8, e8, L8⟩
                · rw [if_neg (show ¬ nI (stR n i home s).2.2.1 < nI (n + 1) from nI_nlt (show n + 1 ≤ s.2.2.1 by omega) (by show s.2.2.1 < 2 ^ 31; omega))]
                  have er : rcd n (stR n i home s) = stR n i home s := if_neg hr
                  rw [er]
                  exact ⟨h3, rfl, L3⟩
              obtain ⟨h6, e6, L6⟩ := ih (i + 1) m _ h5 (by omega) L5.le low1
              refine ⟨h6, ?_, L6⟩
              rw [nI_1, e5, Option.bind_some]
              dsimp only
              rw [Nat.add_zero, aC00]
              exact e6
            · have hne : ¬ pF w i 4 = -1 := by rw [h4]; exact nI_m1 (by omega)
              have ey : pN w i 4 = y := by show (pF w i 4).toNatClampNeg = y; rw [h4, nI_clamp (by omega)]
              rw [if_neg (by rw [h4]; exact nI_pos (by omega)), if_neg hne, Option.bind_some, S3.g2, Option.bind_some, e4.1, Option.bind_some, e4.2, Option.bind_some, mgo z3, gdT, ey, h4, or_n gone hg2 i (by omega), nI_1]
              have J1 : Pth w b (n + 1) y (rcd n (stR n i home s)) := (J'.one (show i < nP w by omega) h4).low (fun z hz => ⟨by rw [rcd_row.1], by rw [rcd_row.2]⟩)
              obtain ⟨h5, e5, L5⟩ := y_goes S G d y (n + 1) (gone ||| 2 ^ i) (stR n i home s) (rcd n (stR n i home s)) h3 (by omega) hy g1 g2 L3 (Or.inr ⟨n, i, home, s, rfl, g3, rfl, rfl, J'⟩) J1
              obtain ⟨h6, e6, L6⟩ := ih (i + 1) m _ h5 (by omega) L5.le (fun z hz => by
                obtain ⟨q1, q2⟩ := mvD_low (w := w) d y (n + 1) (gone ||| 2 ^ i) (rcd n (stR n i home s)) z (by omega)
                exact ⟨q1.trans (low1 z hz).1, q2.trans (low1 z hz).2⟩)
              refine ⟨h6, ?_, L6⟩
              rw [e5, Option.bind_some]
              dsimp only
              rw [Nat.add_zero, aC00]
              exact e6
    have fin : ∀ h2, LM A w h0 n0 b n t h2 nx → ∃ h', f_X11_goes_38 FU E (f_X11_goes (d + 3) E) n0 (nI home) (nI gone) (nI n) 0 h2 nx = some ((), h', 0, 0) ∧ LM A w h0 n0 b n (mvD w (d + 1) home n gone t) h' nx := fun h2 L2 => by
      obtain ⟨h', e, L'⟩ := loop (nP w) 0 (FU - nP w - 1) t h2 (by omega) L2 (fun _ _ => ⟨rfl, rfl⟩)
      rw [show FU - nP w - 1 + nP w + 1 = FU by unfold FU; omega] at e
      exact ⟨h', e, L'⟩
    obtain ⟨l1, l2, bb, f1, f2, l3, l4, l5, l6, l7⟩ := id L
    rw [show d + 1 + 3 = (d + 3) + 1 by omega, f_X11_goes, mg2 l3, Option.bind_some]
    rcases hR with ⟨rfl, rfl⟩ | ⟨n', p, hm, s, rfl, hn', rfl, rfl, Js⟩
    · rw [if_pos (show nI 0 ≤ nI t.2.2.1 from nI_le (by omega) (by have := l7.1; omega))]
      exact fin h L
    · have hb8 : s.2.2.1 ≤ 8 := l7.1
      by_cases hr : s.2.2.1 < n' + 1
      · rw [if_neg (show ¬ nI (n' + 1) ≤ nI (stR n' p hm s).2.2.1 from nI_ge hr (by omega))]
        obtain ⟨h8, e8, L8⟩ := LM_rec (K := fun h8 => f_X11_goes_38 FU E (f_X11_goes (d + 3) E) n0 (nI home) (nI gone) (nI (n' + 1)) 0 h8 nx) L Js hn' hr
        rw [e8]
        exact fin h8 L8
      · rw [if_pos (show nI (n' + 1) ≤ nI (stR n' p hm s).2.2.1 from nI_le (show n' + 1 ≤ s.2.2.1 by omega) (by show s.2.2.1 < 2 ^ 31; omega))]
        have er : rcd n' (stR n' p hm s) = stR n' p hm s := if_neg hr
        rw [er] at fin ⊢
        exact fin h L
/-- between two homes -/
def LB (A : Nat → Nat) (w : Rw) (h0 : AH) (n0 : Nat) (s : MvS) (h : AH) (nx : Nat) : Prop := (∀ q, q < n0 → h q = h0 q) ∧ n0 + 3 ≤ nx ∧ ∃ (bg bb : Int32) (f1 f2 : Nat → Int32), h n0 = some (mvE (A 0) n0 s.2.2.1 bg bb) ∧ h (n0 + 1) = some (.inl (0, 9, .inl f1)) ∧ h (n0 + 2) = some (.inl (0, 9, .inl f2)) ∧ Bst w s bb f2
theorem LM.lb (L : LM A w h0 n0 b n s h nx) : LB A w h0 n0 s h nx := by
  obtain ⟨l1, l2, bb, f1, f2, l3, l4, l5, l6, l7⟩ := L
  exact ⟨l1, l2, _, bb, f1, f2, l3, l4, l5, l7⟩
theorem LB.bg (L : LB A w h0 n0 s h nx) (b : Nat) : ∃ h3, wr h n0 10 3 (.int (nI b)) = some h3 ∧ LM A w h0 n0 b 0 s h3 nx := by
  obtain ⟨l1, l2, bg, bb, f1, f2, l3, l4, l5, l7⟩ := L
  refine ⟨hu h n0 (mvE (A 0) n0 s.2.2.1 (nI b) bb), ?_, fun q hq => by rw [hu_n (by omega)]; exact l1 q hq, l2, bb, f1, f2, hu_s, by rw [hu_n (by omega)]; exact l4, by rw [hu_n (by omega)]; exact l5, fun k hk => absurd hk (by omega), l7⟩
  have l3 : h n0 = some (.inr (.inl (10, [.ref (n0 + 1), .ref (n0 + 2), .int (nI s.2.2.1), .int bg, .int bb, .ref (A 0)]))) := l3
  rw [wr_at l3 (by show 3 < 6; decide)]; rfl
theorem y_mv37 (S : SN A I M w st h0 n0) (G : Gd w) : ∀ (k i m : Nat) (s : MvS) (h : AH), i + k = nH w → LB A w h0 n0 s h nx → ∃ h', f_X11_init_37 (m + k + 1) E n0 (A 0) (nI i) h nx = some ((), h', 0, 0) ∧ LB A w h0 n0 (flN (fun h s => if isFr w h = true then mvD w 9 h 0 0 s else s) i k s) h' nx
  | 0, i, m, s, h, hi, L => by
    have b2 := G.1.gH.2
    have S' : SN A I M w st h nx := S.grow (by have := L.2.1; omega) L.1
    have e1 : gA h (A 0) 0 0 = some (A 6) := S'.g0
    have eT : isO h (A 6) 11 = true ∧ f_J2_size E h (A 6) = some (nI (nH w)) := by
      have S2 := S'.1
      obtain ⟨⟨aH, eH, aP, eP, rN, rA, hm, hs, nh, np, tl, O, T, TI, ho, hM⟩, F, wk, rf, sc, la, oa, R, Q, L, K, s0, il, io, hOwn, hno⟩ := id S2
      have : aH = A 6 := Option.some.inj (O.g0.symm.trans e1)
      subst this
      exact ⟨T.1.o, T.1.size⟩
    refine ⟨h, ?_, L⟩
    rw [f_X11_init_37, e1, Option.bind_some, eT.1, gdT, eT.2, Option.bind_some, if_pos (by rw [show i = nH w by omega]; exact nI_leR _)]
  | k + 1, i, m, s, h, hi, L => by
    have Z := G.1
    have b2 := G.1.gH.2
    have S' : SN A I M w st h nx := S.grow (by have := L.2.1; omega) L.1
    have e1 : gA h (A 0) 0 0 = some (A 6) := S'.g0
    have eT : isO h (A 6) 11 = true ∧ f_J2_size E h (A 6) = some (nI (nH w)) := by
      have S2 := S'.1
      obtain ⟨⟨aH, eH, aP, eP, rN, rA, hm, hs, nh, np, tl, O, T, TI, ho, hM⟩, F, wk, rf, sc, la, oa, R, Q, L, K, s0, il, io, hOwn, hno⟩ := id S2
      have : aH = A 6 := Option.some.inj (O.g0.symm.trans e1)
      subst this
      exact ⟨T.1.o, T.1.size⟩
    obtain ⟨h3, e3, L3⟩ := L.bg i
    have S3 := L3.sn S
    have ef : isO h3 (A 1) 1 = true ∧ f_X2_isFree E h3 (A 1) (nI i) = some (bI (isFr w i)) := by
      have S2 := S3.1
      obtain ⟨⟨aH, eH, aP, eP, rN, rA, hm, hs, nh, np, tl, O, T, TI, ho, hM⟩, F, wk, rf, sc, la, oa, R, Q, L, K, s0, il, io, hOwn, hno⟩ := id S2
      exact ⟨R.o1, c_isFree R Q O T Z G.2.1 (by omega)⟩
    have efl : flN (fun h s => if isFr w h = true then mvD w 9 h 0 0 s else s) i (k + 1) s = flN (fun h s => if isFr w h = true then mvD w 9 h 0 0 s else s) (i + 1) k (if isFr w i = true then mvD w 9 i 0 0 s else s) := rfl
    rw [efl, show m + (k + 1) + 1 = (m + k + 1) + 1 by omega, f_X11_init_37, e1, Option.bind_some, eT.1, gdT, eT.2, Option.bind_some, if_neg (nI_ge (by omega) (by omega)), e3, Option.bind_some, S3.g2, Option.bind_some, ef.1, gdT, ef.2, Option.bind_some, nI_1]
    cases hf : isFr w i
    · rw [if_pos (show bI false = 0 from rfl), if_neg (by nofun)]
      exact y_mv37 S G k (i + 1) m s h3 (by omega) L3.lb
    · obtain ⟨l1, l2, bb, f1, f2, l3, -⟩ := id L3
      obtain ⟨h4, e4, L4⟩ := y_goes (E := E) S G 9 i 0 0 s s h3 (by omega) (by omega) (Nat.two_pow_pos _) pc_0 L3 (Or.inl ⟨rfl, rfl⟩) ⟨fun _ => rfl, fun h => absurd h (by omega), fun k hk => absurd hk (by omega)⟩
      obtain ⟨h5, e5, L5⟩ := y_mv37 S G k (i + 1) m _ h4 (by omega) L4.lb
      have e4' : f_X11_goes 12 E h3 nx n0 (nI i) 0 0 = some ((), h4, 0, 0) := e4
      rw [if_neg (show ¬ bI true = 0 by decide), if_pos rfl, mgo l3, gdT, e4', Option.bind_some]
      refine ⟨h5, ?_, L5⟩
      dsimp only
      rw [Nat.add_zero, aC00]
      exact e5
theorem y_moves (S : SN A I M w 0 h1 nx) (G : Gd w) (s0 : MvS) (hs0 : s0.2.2.1 = 0) : ∃ h', f_X11_init E (hu h1 nx (.inr (.inl (10, df_X11)))) (nx + 1) nx (A 0) = some ((), h', 2, 18) ∧ LB A w h1 nx (mvA w s0) h' (nx + 3) := by
  have b2 := G.1.gH.2
  have w5 : wr (hu h1 nx (.inr (.inl (10, df_X11)))) nx 10 5 (.ref (A 0)) = some (hu h1 nx (.inr (.inl (10, [.null, .null, .int 0, .int 0, .int 0, .ref (A 0)])))) := by
    rw [wr_at hu_s (by decide), hu_hu]; rfl
  have q1 : hu (hu h1 nx (.inr (.inl (10, [.null, .null, .int 0, .int 0, .int 0, .ref (A 0)])))) (nx + 1) (.inl (0, 9, .inl (fun _ => 0))) nx = some (.inr (.inl (10, [.null, .null, .int 0, .int 0, .int 0, .ref (A 0)]))) := by rw [hu_n (by omega)]; exact hu_s
  have w0 := wr_at (k := 0) (v := .ref (nx + 1)) q1 (by show 0 < 6; decide)
  generalize e0 : hu (hu (hu h1 nx (.inr (.inl (10, [.null, .null, .int 0, .int 0, .int 0, .ref (A 0)])))) (nx + 1) (.inl (0, 9, .inl (fun _ => 0)))) nx (.inr (.inl (10, [.null, .null, .int 0, .int 0, .int 0, .ref (A 0)].set 0 (.ref (nx + 1))))) = h2 at w0
  have c1 : h2 (nx + 1) = some (.inl (0, 9, .inl (fun _ => 0))) := by rw [← e0, hu_n (by omega)]; exact hu_s
  have c0 : h2 nx = some (.inr (.inl (10, [.ref (nx + 1), .null, .int 0, .int 0, .int 0, .ref (A 0)]))) := by rw [← e0, hu_s]; rfl
  have ck : ∀ q, q < nx → h2 q = h1 q := fun q hq => by rw [← e0, hu_n (by omega), hu_n (by omega), hu_n (by omega)]
  have q2 : hu h2 (nx + 1 + 1) (.inl (0, 9, .inl (fun _ => 0))) nx = some (.inr (.inl (10, [.ref (nx + 1), .null, .int 0, .int 0, .int 0, .ref (A 0)]))) := by rw [hu_n (by omega)]; exact c0
  have w1 := wr_at (k := 1) (v := .ref (nx + 1 + 1)) q2 (by show 1 < 6; decide)
  generalize e1 : hu (hu h2 (nx + 1 + 1) (.inl (0, 9, .inl (fun _ => 0)))) nx (.inr (.inl (10, [.ref (nx + 1), .null, .int 0, .int 0, .int 0, .ref (A 0)].set 1 (.ref (nx + 1 + 1))))) = h3 at w1
  have d0 : h3 nx = some (.inr (.inl (10, [.ref (nx + 1), .ref (nx + 2), .int 0, .int 0, .int 0, .ref (A 0)]))) := by rw [← e1, hu_s]; rfl
  have d1 : h3 (nx + 1) = some (.inl (0, 9, .inl (fun _ => 0))) := by rw [← e1, hu_n (by omega), hu_n (by omega)]; exact c1
  have d2 : h3 (nx + 2) = some (.inl (0, 9, .inl (fun _ => 0))) := by rw [← e1, hu_n (by omega)]; exact hu_s
  have dk : ∀ q, q < nx → h3 q = h1 q := fun q hq => by rw [← e1, hu_n (by omega), hu_n (by omega)]; exact ck q hq
  have w3 : wr h3 nx 10 3 (.int (-1)) = some (hu h3 nx (.inr (.inl (10, [.ref (nx + 1), .ref (nx + 2), .int 0, .int (-1), .int 0, .ref (A 0)])))) := by
    rw [wr_at d0 (by show 3 < 6; decide)]; rfl
  have q4 : hu h3 nx (.inr (.inl (10, [.ref (nx + 1), .ref (nx + 2), .int 0, .int (-1), .int 0, .ref (A 0)]))) nx = some (.inr (.inl (10, [.ref (nx + 1), .ref (nx + 2), .int 0, .int (-1), .int 0, .ref (A 0)]))) := hu_s
  have w4 : wr (hu h3 nx (.inr (.inl (10, [.ref (nx + 1), .ref (nx + 2), .int 0, .int (-1), .int 0, .ref (A 0)])))) nx 10 4 (.int (-1)) = some (hu h3 nx (mvE (A 0) nx 0 (-1) (-1))) := by
    rw [wr_at q4 (by show 4 < 6; decide), hu_hu]; rfl
  have L0 : LB A w h1 nx s0 (hu h3 nx (mvE (A 0) nx 0 (-1) (-1))) (nx + 3) := by
    refine ⟨fun q hq => by rw [hu_n (by omega)]; exact dk q hq, Nat.le_refl _, -1, -1, fun _ => 0, fun _ => 0, by rw [hs0]; exact hu_s, by rw [hu_n (by omega)]; exact d1, by rw [hu_n (by omega)]; exact d2, by omega, fun k hk => by omega, fun h => by omega, fun k hk => by omega⟩
  obtain ⟨h', e', L'⟩ := y_mv37 (E := E) S G (nH w) 0 (FU - nH w - 1) s0 _ (by omega) L0
  rw [show FU - nH w - 1 + nH w + 1 = FU by unfold FU; omega] at e'
  refine ⟨h', ?_, L'⟩
  unfold f_X11_init
  rw [w5, Option.bind_some, w0, Option.bind_some, w1, Option.bind_some, w3, Option.bind_some, w4, Option.bind_some]
  have e'' : f_X11_init_37 FU E nx (A 0) 0 (hu h3 nx (mvE (A 0) nx 0 (-1) (-1))) (nx + 1 + 1 + 1) = some ((), h', 0, 0) := e'
  rw [e'']
  rfl
theorem y_longest (S : SN A I M w st h nx) (G : Gd w) (s0 : MvS) (hs0 : s0.2.2.1 = 0) : An A I M w h nx (f_X1_longest E h nx (A 0) a b') (an_longest w s0 a b') := by
  have Z := G.1
  unfold f_X1_longest an_longest f_X1_longest_11
  by_cases ha : a < -1
  · rw [if_neg (Int32.not_le.mpr ha), if_pos ha]
    exact An.cn S (by decide)
  rw [if_pos (Int32.not_lt.mp ha), if_neg ha]
  refine An.can0 S (fun h1 S1 q1 => ?_)
  simp only [Nat.add_zero]
  obtain ⟨h2, e2, L2⟩ := y_moves (E := E) S1 G s0 hs0
  have S2 : SN A I M w 0 h2 (nx + 3) := S1.grow (by omega) L2.1
  obtain ⟨l1, l2, bg, bb, f1, f2, l3, l4, l5, l6, l7, l8, l9⟩ := L2
  have QL : QS A h1 nx h2 (nx + 3) := ⟨by omega, fun q hq _ _ => l1 q hq⟩
  rw [e2, Option.bind_some]
  dsimp only
  by_cases h1' : a = -1
  · rw [if_pos h1', if_pos h1', mg2 l3, Option.bind_some, aC_some, aC_some]
    exact ⟨h2, 1 + (2 + 0), 6 + (18 + 0), rfl, S2, QL, by omega, by omega⟩
  · rw [if_neg h1', if_neg h1', mg2 l3, Option.bind_some]
    by_cases hlt : a < nI (mvA w s0).2.2.1
    · have h0' : ¬ a < 0 := fun z => by
        rw [Int32.lt_iff_toInt_lt] at z ha
        rw [← Int32.toInt_inj] at h1'
        rw [show (0 : Int32).toInt = 0 by decide] at z
        rw [show (-1 : Int32).toInt = -1 by decide] at ha h1'
        omega
      obtain ⟨k, hk, rfl⟩ := nI_of h0'
      have hkb : k < (mvA w s0).2.2.1 := by
        rw [Int32.lt_iff_toInt_lt, nI_toInt hk, nI_toInt (by omega)] at hlt
        omega
      rw [if_pos hlt, if_pos hlt, nI_clamp hk]
      by_cases hb : b' = 0
      · rw [if_pos hb, if_pos hb, mg1 l3, Option.bind_some, aI_at (i := k) l5 (by omega) (by decide), Option.bind_some, aC_some, aC_some, l7 k hkb]
        exact ⟨h2, 1 + (2 + 0), 6 + (18 + 0), rfl, S2, QL, by omega, by omega⟩
      · rw [if_neg hb, if_neg hb, mgo l3, gdT]
        have eh : f_X11_homeOf E h2 nx (nI k) = some ((mvA w s0).2.2.2.2 k) := by
          unfold f_X11_homeOf
          by_cases hk0 : k = 0
          · subst hk0
            rw [if_pos (show nI 0 = 0 from rfl), mg4 l3, Option.bind_some, l8 (by omega)]
          · obtain ⟨k', rfl⟩ : ∃ k', k = k' + 1 := ⟨k - 1, by omega⟩
            obtain ⟨p, z1, z2, z3⟩ := l9 k' hkb
            have b1 := Z.gP.2
            have e4 : gA h2 (A 1) 1 1 = some (A 1 + 2) ∧ aI h2 (A 1 + 2) 0 (nI p) = some (pF w p 4) := by
              have S3 := S2.1
              obtain ⟨⟨aH, eH, aP, eP, rN, rA, hm, hs, nh, np, tl, O, T, TI, ho, hM⟩, F, wk, rf, sc, la, oa, R, Q, L, K, s0, il, io, hOwn, hno⟩ := id S3
              exact ⟨R.g1, by rw [R.a1 (by omega), (Q.2.1 p z1).1]⟩
            rw [if_neg (nI_ne0 (by omega) (by omega)), mg5 l3, Option.bind_some, S2.g2, Option.bind_some, e4.1, Option.bind_some, mg1 l3, Option.bind_some, nI_pred, aI_at (i := k') l5 (by omega) (by decide), Option.bind_some, l7 k' (by omega), z2, e4.2, Option.bind_some, z3]
        rw [eh, Option.bind_some, aC_some, aC_some]
        exact ⟨h2, 1 + (2 + 0), 6 + (18 + 0), rfl, S2, QL, by omega, by omega⟩
    · rw [if_neg hlt, if_neg hlt, S2.i0, gdT]
      obtain ⟨h3, e3, S3, q3⟩ := S2.no E (nI 5)
      have e3' : f_X1_none E h2 (nx + 1 + 2) (A 0) (nI 5) = some (-1, h3, 0, 0) := e3
      rw [e3', Option.bind_some]
      exact ⟨h3, 1 + (2 + (0 + 0)), 6 + (18 + (0 + 0)), rfl, S3, QL.trans q3, by omega, by omega⟩
end PLH
