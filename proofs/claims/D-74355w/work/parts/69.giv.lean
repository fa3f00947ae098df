/-! most, gift: the component's side (Giving) -/
def gvE (o n0 : Nat) (mo : Int32) : hE := .inr (.inl (8, [.ref (n0 + 1), .ref (n0 + 2), .int mo, .ref o]))
/-- Giving's cells: the object at n0, its arrays behind it; all else below as it was -/
def GS (A : Nat → Nat) (h0 : AH) (n0 : Nat) (mo : Int32) (m : Mt) (gf : Nat → Int32) (h : AH) (nx : Nat) : Prop := (∀ q, q < n0 → h q = h0 q) ∧ h n0 = some (gvE (A 0) n0 mo) ∧ (∃ g : Nat → Int32, h (n0 + 1) = some (.inl (0, 10, .inl g)) ∧ ∀ i, i < 10 → g i = eO (m i)) ∧ h (n0 + 2) = some (.inl (0, 8, .inl gf)) ∧ n0 + 3 ≤ nx
def SeenH (h : AH) (q : Nat) (s : Nat → Bool) : Prop := ∃ g : Nat → Int32, h q = some (.inl (3, 10, .inl g)) ∧ ∀ i, i < 10 → g i = bI (s i)
section PGV
variable {A : Nat → Nat} {I : Nat → Int32} {M : Nat → Prop} {w : Rw} {st mo : Int32} {h h0 h1 h2 h' : AH} {nx nx' n0 n1 n2 : Nat} {E : bE} {v a b u : Int32} {p x y N k q less d tk qs : Nat} {f : Option (Int32 × AH × Nat × Nat)} {zs : Nat → Nat} {n : Nat} {m : Mt} {gf : Nat → Int32} {s : Nat → Bool}
theorem SN.grow (S : SN A I M w st h0 n0) (hn : n0 ≤ nx) (hk : ∀ q, q < n0 → h q = h0 q) : SN A I M w st h nx := ⟨RX.grow S.1 hn hk, by rw [hk _ S.1.ne.2.1]; exact S.2⟩
theorem GS.sn (B : GS A h0 n0 mo m gf h nx) (S : SN A I M w st h0 n0) : SN A I M w st h nx := S.grow (by have := B.2.2.2.2; omega) B.1
theorem GS.o (B : GS A h0 n0 mo m gf h nx) : isO h n0 8 = true := by simp [isO, B.2.1, gvE]
theorem GS.g0 (B : GS A h0 n0 mo m gf h nx) : gA h n0 8 0 = some (n0 + 1) := by simp [gA, rd, B.2.1, gvE, vR]
theorem GS.g1 (B : GS A h0 n0 mo m gf h nx) : gA h n0 8 1 = some (n0 + 2) := by simp [gA, rd, B.2.1, gvE, vR]
theorem GS.g2 (B : GS A h0 n0 mo m gf h nx) : gI h n0 8 2 = some mo := by simp [gI, rd, B.2.1, gvE, vI]
theorem GS.g3 (B : GS A h0 n0 mo m gf h nx) : gA h n0 8 3 = some (A 0) := by simp [gA, rd, B.2.1, gvE, vR]
theorem aI_at {h : AH} {a t N i : Nat} {g : Nat → Int32} (q : h a = some (.inl (t, N, .inl g))) (hi : i < N) (hN : N < 2 ^ 31) : aI h a t (nI i) = some (g i) := by
  simp only [aI, arI, q, if_true, Option.bind_some]
  rw [gdn ⟨hi, hN⟩, nI_clamp (by omega)]
theorem GS.am (B : GS A h0 n0 mo m gf h nx) (hx : x < 10) : aI h (n0 + 1) 0 (nI x) = some (eO (m x)) := by
  obtain ⟨g, g1, g2⟩ := B.2.2.1
  rw [aI_at g1 hx (by decide), g2 x hx]
theorem GS.sm (B : GS A h0 n0 mo m gf h nx) (hx : x < 10) (v : Option Nat) : ∃ h', sI h (n0 + 1) 0 (nI x) (eO v) = some h' ∧ GS A h0 n0 mo (upM m x v) gf h' nx ∧ ∀ q, q ≠ n0 + 1 → h' q = h q := by
  obtain ⟨b1, b2, ⟨g, g1, g2⟩, b4, b5⟩ := B
  refine ⟨_, sI_at g1 hx (by decide) _, ⟨fun q hq => by rw [hu_n (by omega)]; exact b1 q hq, by rw [hu_n (by omega)]; exact b2, ⟨_, hu_s, fun i hi => ?_⟩, by rw [hu_n (by omega)]; exact b4, b5⟩, fun q hq => hu_n hq⟩
  by_cases h : i = x
  · subst h; rw [upd_s, upM_s]
  · rw [upd_n h, upM_n h]; exact g2 i hi
theorem GS.sf (B : GS A h0 n0 mo m gf h nx) (hx : x < 8) (v : Int32) : ∃ h', sI h (n0 + 2) 0 (nI x) v = some h' ∧ GS A h0 n0 mo m (upd gf x v) h' nx := by
  obtain ⟨b1, b2, ⟨g, g1, g2⟩, b4, b5⟩ := B
  exact ⟨_, sI_at b4 hx (by decide) _, fun q hq => by rw [hu_n (by omega)]; exact b1 q hq, by rw [hu_n (by omega)]; exact b2, ⟨g, by rw [hu_n (by omega)]; exact g1, g2⟩, hu_s, b5⟩
theorem GS.up (B : GS A h0 n0 mo m gf h nx) (hn : nx ≤ nx') (hk : ∀ q, q < nx → h' q = h q) : GS A h0 n0 mo m gf h' nx' := by
  obtain ⟨b1, b2, ⟨g, g1, g2⟩, b4, b5⟩ := B
  exact ⟨fun q hq => (hk q (by omega)).trans (b1 q hq), by rw [hk _ (by omega)]; exact b2, ⟨g, by rw [hk _ (by omega)]; exact g1, g2⟩, by rw [hk _ (by omega)]; exact b4, by omega⟩
theorem GS.wm (B : GS A h0 n0 mo m gf h nx) (v : Int32) : ∃ h', wr h n0 8 2 (.int v) = some h' ∧ GS A h0 n0 v m gf h' nx := by
  obtain ⟨b1, b2, ⟨g, g1, g2⟩, b4, b5⟩ := B
  refine ⟨_, wr_at b2 (by show 2 < 4; decide), fun q hq => by rw [hu_n (by omega)]; exact b1 q hq, hu_s, ⟨g, by rw [hu_n (by omega)]; exact g1, g2⟩, by rw [hu_n (by omega)]; exact b4, b5⟩
theorem c_isGood (S : SN A I M w st h0 n0) (G : Gd w) (B : GS A h0 n0 mo m gf h nx) (hk : k < nP w) (hx : x < nH w) (ht : tk < 1024) : f_X9_isGood E h n0 (nI k) (nI x) (nI tk) = some (bI (gG (GV w) tk k x)) := by
  have b3 := G.1.gH.2
  have S' := B.sn S
  obtain ⟨⟨aH, eH, aP, eP, rN, rA, hm, hs, nh, np, tl, O, T, TI, ho, hM⟩, F, wk, rf, sc, la, oa, R, Q, L, K, s0, il, io, hOwn, hno⟩ := id S'.1
  simp only [f_X9_isGood]
  rw [btV tk ht x (by omega), B.g3, Option.bind_some, S'.g2, Option.bind_some, R.o1, gdT, c_isFree R Q O T G.1 G.2.1 hx, Option.bind_some, Option.bind_some, S'.g2, Option.bind_some, R.o1, gdT, c_couldHave R Q O T G.1 hk hx, Option.bind_some]
  unfold gG GV
  cases tk.testBit x
  · rw [if_pos (show bI false = 0 from rfl)]
    cases isFr w x <;> cases cHv w k x <;> simp [bI]
  · rw [if_neg (show ¬ bI true = 0 by decide)]
    simp [bI]
theorem SeenH.at (B : SeenH h q s) (hx : x < 10) : aI h q 3 (nI x) = some (bI (s x)) := by
  obtain ⟨g, g1, g2⟩ := B
  rw [aI_at g1 hx (by decide), g2 x hx]
theorem SeenH.set (B : SeenH h q s) (hx : x < 10) : ∃ h', sI h q 3 (nI x) (vp_nar .boolean 1) = some h' ∧ SeenH h' q (upS s x) ∧ ∀ z, z ≠ q → h' z = h z := by
  obtain ⟨g, g1, g2⟩ := B
  refine ⟨_, sI_at g1 hx (by decide) _, ⟨_, hu_s, fun i hi => ?_⟩, fun z hz => hu_n hz⟩
  by_cases h : i = x
  · subst h; rw [upd_s, upS_s]; rfl
  · rw [upd_n h, upS_n h]; exact g2 i hi
theorem GS.keep (B : GS A h0 n0 mo m gf h nx) (hk : ∀ q, q < n0 + 3 → h' q = h q) : GS A h0 n0 mo m gf h' nx := by
  obtain ⟨b1, b2, ⟨g, g1, g2⟩, b4, b5⟩ := B
  exact ⟨fun q hq => (hk q (by omega)).trans (b1 q hq), by rw [hk _ (by omega)]; exact b2, ⟨g, by rw [hk _ (by omega)]; exact g1, g2⟩, by rw [hk _ (by omega)]; exact b4, b5⟩
theorem y_finds (S : SN A I M w st h0 n0) (G : Gd w) (ht : tk < 1024) (hqs : n0 + 3 ≤ qs) : ∀ (dp : Nat) (m : Mt) (s : Nat → Bool) (k : Nat) (h : AH) (res : kT), GS A h0 n0 mo m gf h nx → SeenH h qs s → k < nP w → (∀ i z, i < 10 → m i = some z → z < nP w) → kf (gG (GV w) tk) (nH w) dp m s k = some res → ∃ h', f_X9_finds dp E h nx n0 (nI k) (nI tk) qs = some (bI res.1, h', 0, 0) ∧ GS A h0 n0 mo res.2.1 gf h' nx ∧ SeenH h' qs res.2.2 ∧ (∀ i z, i < 10 → res.2.1 i = some z → z < nP w) ∧ ∀ q, q ≠ n0 + 1 → q ≠ qs → h' q = h q
  | 0, m, s, k, h, res, _, _, _, _, e => by cases e
  | dp + 1, m, s, k, h, res, B, W, hk, hm, e => by
    have b1 := G.1.gP.2
    have b3 := G.1.gH.2
    have loop : ∀ (c i f : Nat) (m : Mt) (s : Nat → Bool) (h : AH) (res : kT), i + c = nH w → GS A h0 n0 mo m gf h nx → SeenH h qs s → (∀ i z, i < 10 → m i = some z → z < nP w) → kfL (gG (GV w) tk) (kf (gG (GV w) tk) (nH w) dp) k c i m s = some res → ∃ h', f_X9_finds_3 (f + c + 1) E (f_X9_finds dp E) n0 (nI k) (nI tk) qs (nI i) h nx = some (bI res.1, h', 0, 0) ∧ GS A h0 n0 mo res.2.1 gf h' nx ∧ SeenH h' qs res.2.2 ∧ (∀ i z, i < 10 → res.2.1 i = some z → z < nP w) ∧ ∀ q, q ≠ n0 + 1 → q ≠ qs → h' q = h q := by
      intro c
      induction c with
      | zero =>
        intro i f m s h res hi B W hm e
        cases e
        have S' := B.sn S
        refine ⟨h, ?_, B, W, hm, fun _ _ _ => rfl⟩
        obtain ⟨⟨aH, eH, aP, eP, rN, rA, hm, hs, nh, np, tl, O, T, TI, ho, hM⟩, F, wk, rf, sc, la, oa, R, Q, L, K, s0, il, io, hOwn, hno⟩ := id S'.1
        simp only [f_X9_finds_3]
        rw [B.g3, Option.bind_some, O.g0, Option.bind_some, T.1.o, gdT, T.1.size, Option.bind_some, if_pos (nI_le (by omega) (by omega))]
        rfl
      | succ c ih =>
        intro i f m s h res hi B W hm e
        have S' := B.sn S
        unfold kfL at e
        have hend : ∀ (h1 : AH) (m1 : Mt) (s1 : Nat → Bool), GS A h0 n0 mo m1 gf h1 nx → SeenH h1 qs s1 → (∀ i z, i < 10 → m1 i = some z → z < nP w) → ∃ h', f_X9_finds_73 E (f_X9_finds dp E) n0 (nI k) (nI i) h1 nx = some (bI true, h', 0, 0) ∧ GS A h0 n0 mo (upM m1 i (some k)) gf h' nx ∧ SeenH h' qs s1 ∧ (∀ j z, j < 10 → upM m1 i (some k) j = some z → z < nP w) ∧ ∀ q, q ≠ n0 + 1 → q ≠ qs → h' q = h1 q := by
          intro h1 m1 s1 B1 W1 hm1
          obtain ⟨h2, e2, B2, k2⟩ := B1.sm (x := i) (by omega) (some k)
          refine ⟨h2, ?_, B2, ?_, fun j z hj hz => ?_, fun q hq _ => k2 q hq⟩
          · simp only [f_X9_finds_73]
            rw [B1.g0, Option.bind_some, show nI k = eO (some k) from rfl, e2]
            rfl
          · obtain ⟨g, g1, g2⟩ := W1
            exact ⟨g, by rw [k2 qs (by omega)]; exact g1, g2⟩
          · by_cases hji : j = i
            · rw [hji, upM_s] at hz; cases hz; exact hk
            · rw [upM_n hji] at hz; exact hm1 j z hj hz
        rw [show f + (c + 1) + 1 = (f + c + 1) + 1 by omega]
        have hd : (gA h n0 8 3).bind (fun v1 => (gA h v1 0 0).bind fun v2 => gd (isO h v2 11) (f_J2_size E h v2)) = some (nI (nH w)) := by
          obtain ⟨⟨aH, eH, aP, eP, rN, rA, hm, hs, nh, np, tl, O, T, TI, ho, hM⟩, F, wk, rf, sc, la, oa, R, Q, L, K, s0, il, io, hOwn, hno⟩ := id S'.1
          rw [B.g3, Option.bind_some, O.g0, Option.bind_some, T.1.o, gdT, T.1.size]
        obtain ⟨aH, d1, d2, d3⟩ : ∃ aH, gA h (A 0) 0 0 = some aH ∧ isO h aH 11 = true ∧ f_J2_size E h aH = some (nI (nH w)) := by
          obtain ⟨⟨aH, eH, aP, eP, rN, rA, hm, hs, nh, np, tl, O, T, TI, ho, hM⟩, F, wk, rf, sc, la, oa, R, Q, L, K, s0, il, io, hOwn, hno⟩ := id S'.1
          exact ⟨_, O.g0, T.1.o, T.1.size⟩
        rw [f_X9_finds_3, B.g3, Option.bind_some, d1, Option.bind_some, d2, gdT, d3, Option.bind_some, if_neg (nI_ge (by omega) (by omega)), W.at (by omega), Option.bind_some, B.o, gdT, c_isGood S G B hk (by omega) ht, Option.bind_some, nI_1]
        by_cases hc : s i = false ∧ gG (GV w) tk k i = true
        · rw [if_pos hc] at e
          rw [hc.1, hc.2, if_pos (show bI false = 0 from rfl), if_neg (show ¬ bI true = 0 by decide)]
          obtain ⟨h1, e1, W1, k1⟩ := W.set (x := i) (by omega)
          have B1 : GS A h0 n0 mo m gf h1 nx := B.keep (fun q hq => k1 q (by omega))
          rw [e1, Option.bind_some, B1.g0, Option.bind_some, B1.am (by omega), Option.bind_some]
          cases hmi : m i with
          | none =>
            rw [hmi] at e
            cases e
            rw [if_pos (show eO none < 0 by decide)]
            obtain ⟨h2, e2, B2, W2, m2, k2⟩ := hend h1 m _ B1 W1 hm
            exact ⟨h2, e2, B2, W2, m2, fun q q1 q2 => (k2 q q1 q2).trans (k1 q q2)⟩
          | some k' =>
            rw [hmi] at e
            have hk' := hm i k' (by omega) hmi
            rw [if_neg (show ¬ eO (some k') < 0 from nI_pos (by omega)), Option.bind_some, B1.am (by omega), hmi, Option.bind_some, B1.o, gdT, show eO (some k') = nI k' from rfl]
            obtain ⟨r1, hr1, hr2⟩ := Option.bind_eq_some_iff.mp e
            obtain ⟨h2, e2, B2, W2, m2, k2⟩ := y_finds S G ht hqs dp m (upS s i) k' h1 r1 B1 W1 hk' hm hr1
            rw [e2, Option.bind_some]
            dsimp only
            rw [aC00, Nat.add_zero]
            cases hb : r1.1 with
            | true =>
              rw [hb, if_pos rfl] at hr2
              cases hr2
              rw [if_neg (show ¬ bI true = 0 by decide)]
              obtain ⟨h3, e3, B3, W3, m3, k3⟩ := hend h2 _ _ B2 W2 m2
              exact ⟨h3, e3, B3, W3, m3, fun q q1 q2 => ((k3 q q1 q2).trans (k2 q q1 q2)).trans (k1 q q2)⟩
            | false =>
              rw [hb, if_neg (by nofun)] at hr2
              rw [if_pos (show bI false = 0 from rfl)]
              obtain ⟨h3, e3, B3, W3, m3, k3⟩ := ih (i + 1) f _ _ h2 res (by omega) B2 W2 m2 hr2
              exact ⟨h3, e3, B3, W3, m3, fun q q1 q2 => ((k3 q q1 q2).trans (k2 q q1 q2)).trans (k1 q q2)⟩
        · rw [if_neg hc] at e
          obtain ⟨h3, e3, B3, W3, m3, k3⟩ := ih (i + 1) f m s h res (by omega) B W hm e
          refine ⟨h3, ?_, B3, W3, m3, k3⟩
          cases hs : s i
          · rw [if_pos (show bI false = 0 from rfl)]
            cases hg : gG (GV w) tk k i
            · rw [if_pos (show bI false = 0 from rfl)]; exact e3
            · exact absurd ⟨hs, hg⟩ hc
          · rw [if_neg (show ¬ bI true = 0 by decide)]; exact e3
    have := loop (nH w) 0 (FU - nH w - 1) m s h res (by omega) B W hm e
    rw [show FU - nH w - 1 + nH w + 1 = FU by unfold FU; omega] at this
    exact this
theorem y_mostFrom26 (S : SN A I M w st h0 n0) (G : Gd w) (ht : tk < 1024) : ∀ (c k f nn : Nat) (m : Mt) (h : AH) (nx : Nat) (res : Nat × Mt), k + c = nP w → nn + c < 1000 → GS A h0 n0 mo m gf h nx → (∀ i z, i < 10 → m i = some z → z < nP w) → kfA (gG (GV w) tk) (nH w) c k m nn = some res → ∃ h', f_X9_mostFrom_26 (f + c + 1) E n0 (nI tk) (nI nn) (nI k) h nx = some (nI res.1, h', c, 10 * c) ∧ GS A h0 n0 mo res.2 gf h' (nx + c) := by
  intro c
  induction c with
  | zero =>
    intro k f nn m h nx res hk hn B hm e
    cases e
    have S' := B.sn S
    refine ⟨h, ?_, B⟩
    have b1 := G.1.gP.2
    obtain ⟨⟨aH, eH, aP, eP, rN, rA, hm, hs, nh, np, tl, O, T, TI, ho, hM⟩, F, wk, rf, sc, la, oa, R, Q, L, K, s0, il, io, hOwn, hno⟩ := id S'.1
    simp only [f_X9_mostFrom_26]
    rw [B.g3, Option.bind_some, O.g1, Option.bind_some, T.2.1.o, gdT, T.2.1.size, Option.bind_some, if_pos (nI_le (by omega) (by omega))]
  | succ c ih =>
    intro k f nn m h nx res hk hn B hm e
    have b1 := G.1.gP.2
    have S' := B.sn S
    have hn3 := B.2.2.2.2
    unfold kfA at e
    obtain ⟨r1, hr1, hr2⟩ := Option.bind_eq_some_iff.mp e
    have B1 : GS A h0 n0 mo m gf (hu h nx (.inl (3, 10, .inl (fun _ => 0)))) (nx + 1) := B.up (by omega) (fun q hq => hu_n (by omega))
    obtain ⟨h2, e2, B2, W2, m2, k2⟩ := y_finds (E := E) S G ht (qs := nx) (by omega) 12 m (fun _ => false) k _ r1 B1 ⟨fun _ => 0, hu_s, fun _ _ => rfl⟩ (by omega) hm hr1
    rw [show f + (c + 1) + 1 = (f + c + 1) + 1 by omega]
    have hsum : (nI nn + bI r1.1) = nI (nn + if r1.1 = true then 1 else 0) := by rw [bI_n, nI_add]
    obtain ⟨h3, e3, B3⟩ := ih (k + 1) f _ r1.2.1 h2 (nx + 1) res (by omega) (by split <;> omega) B2 m2 hr2
    refine ⟨h3, ?_, by rw [show nx + (c + 1) = nx + 1 + c by omega]; exact B3⟩
    obtain ⟨⟨aH, eH, aP, eP, rN, rA, hm, hs, nh, np, tl, O, T, TI, ho, hM⟩, F, wk, rf, sc, la, oa, R, Q, L, K, s0, il, io, hOwn, hno⟩ := id S'.1
    rw [f_X9_mostFrom_26, B.g3, Option.bind_some, O.g1, Option.bind_some, T.2.1.o, gdT, T.2.1.size, Option.bind_some, if_neg (nI_ge (by omega) (by omega)), B1.o, gdT, e2, Option.bind_some]
    dsimp only
    rw [one_b, Option.bind_some, hsum, nI_1, Nat.add_zero, e3, aC_some, aC_some]
    simp only [Option.some.injEq, Prod.mk.injEq, true_and]
    omega
theorem y_mostFrom (S : SN A I M w st h0 n0) (G : Gd w) (ht : tk < 1024) (hd : d ≤ nP w) (B : GS A h0 n0 mo m gf h nx) : ∃ h' m', f_X9_mostFrom E h nx n0 (nI (nP w - d)) (nI tk) = some (nI (dpW w d tk), h', d, 10 * d) ∧ GS A h0 n0 mo m' gf h' (nx + d) := by
  have b1 := G.1.gP.2
  have b3 := G.1.gH.2
  obtain ⟨m', e⟩ := kfA_dp (G := GV w) (nh := nH w) (np := nP w) (d := d) (g := tk) b3 hd
  obtain ⟨h1, f, ⟨B1, H1⟩, e1⟩ := lp_ex (fun f i h => f_X9_mostFrom_2 f E n0 (nI (nP w - d)) (nI tk) (nI i) h nx) 10 (fun i h => (∃ m, GS A h0 n0 mo m gf h nx ∧ ∀ j, j < i → m j = none) ∧ True) (fun f i h hi hP => by
    obtain ⟨⟨m, B, hm⟩, -⟩ := hP
    obtain ⟨h2, e2, B2, k2⟩ := B.sm (x := i) hi none
    refine ⟨h2, ⟨⟨_, B2, fun j hj => ?_⟩, trivial⟩, ?_⟩
    · by_cases hji : j = i
      · rw [hji, upM_s]
      · rw [upM_n hji]; exact hm j (by omega)
    · simp only [f_X9_mostFrom_2]
      rw [if_neg (nI_ge hi (by decide)), B.g0, Option.bind_some, show (-1 : Int32) = eO none from rfl, e2, Option.bind_some, nI_1]) FU 0 h (Nat.zero_le _) (FU_lt (by decide)) ⟨⟨m, B, fun j hj => absurd hj (by omega)⟩, trivial⟩
  obtain ⟨m1, B1, hm1⟩ := B1
  have B1' : GS A h0 n0 mo (fun _ => none) gf h1 nx := by
    obtain ⟨c1, c2, ⟨g, g1, g2⟩, c4, c5⟩ := B1
    exact ⟨c1, c2, ⟨g, g1, fun i hi => by rw [g2 i hi, hm1 i hi]⟩, c4, c5⟩
  obtain ⟨h2, e2, B2⟩ := y_mostFrom26 (E := E) S G ht d (nP w - d) (FU - d - 1) 0 (fun _ => none) h1 nx (dp (GV w) (nP w) (nH w) d tk, m') (by omega) (by omega) B1' (fun i z _ hz => by cases hz) e
  rw [show FU - d - 1 + d + 1 = FU by unfold FU; omega] at e2
  refine ⟨h2, m', ?_, B2⟩
  have e0 : f_X9_mostFrom E h nx n0 (nI (nP w - d)) (nI tk) = f_X9_mostFrom_2 (f + 1) E n0 (nI (nP w - d)) (nI tk) (nI 10) h1 nx := e1
  rw [e0]
  simp only [f_X9_mostFrom_2]
  rw [if_pos (nI_leR 10)]
  exact e2
/-- the whole of Giving.<init>: what is given -/
def gfE (w : Rw) (gf : Nat → Int32) (k : Nat) : Prop := ∀ j, j < k → gf j = eO (gfI w j (gfT w j))
theorem gf_left (hk : k < nP w) : dpW w (nP w - (k + 1)) (gfT w (k + 1)) = dpW w (nP w - k) (gfT w k) - (if (gfI w k (gfT w k)).isSome = true then 1 else 0) := by
  have hfl := flmax (G := GV w) (p := k) (g := gfT w k) (sub := dpW w (nP w - (k + 1))) (nH w) 0 (dpW w (nP w - (k + 1)) (gfT w k))
  have hd : dpW w (nP w - k) (gfT w k) = flN (dpF (GV w) k (gfT w k) (dpW w (nP w - (k + 1)))) 0 (nH w) (dpW w (nP w - (k + 1)) (gfT w k)) := by
    unfold dpW
    rw [show nP w - k = (nP w - (k + 1)) + 1 by omega]
    show flN (dpF (GV w) (nP w - (nP w - (k + 1) + 1)) (gfT w k) (dp (GV w) (nP w) (nH w) (nP w - (k + 1)))) 0 (nH w) _ = _
    rw [show nP w - (nP w - (k + 1) + 1) = k by omega]
  show dpW w (nP w - (k + 1)) (match gfI w k (gfT w k) with | none => gfT w k | some h => gfT w k ||| 2 ^ h) = _
  cases hg : gfI w k (gfT w k) with
  | some x =>
    have h3 := (fdN_some hg).2.2.1
    rw [Bool.and_eq_true] at h3
    have := of_decide_eq_true h3.2
    simp
    omega
  | none =>
    simp
    rcases hfl.2.2 with h | ⟨z, z1, z2, z3, z4, z5⟩
    · rw [hd, h]
    · exfalso
      have := fdN_none.mp hg z (by omega) z2
      rw [← hd] at z5
      rw [show gG (GV w) (gfT w k) k z = true by unfold gG; rw [z4, z3]; rfl, decide_eq_true z5.symm] at this
      cases this
def tkO (tk : Nat) (o : Option Nat) : Nat := match o with
  | none => tk
  | some z => tk ||| 2 ^ z
theorem y_158 (B : GS A h0 n0 mo m gf h nx) (hk : k < 8) {o : Option Nat} (hg : gf k = eO o) (ho : ∀ z, o = some z → z < 10) (ht : tk < 1024) {L : Nat} (hL : o.isSome = true → 1 ≤ L) (k66 : Nat → Nat → Int32 → Int32 → Int32 → AH → Nat → Option (Unit × AH × Nat × Nat)) : f_X9_init_158 k66 E n0 (A 0) (nI tk) (nI L) (nI k) h nx = k66 n0 (A 0) (nI (tkO tk o)) (nI (L - if o.isSome = true then 1 else 0)) (nI (k + 1)) h nx := by
  have ha : aI h (n0 + 2) 0 (nI k) = some (eO o) := by rw [aI_at B.2.2.2.1 hk (by decide), hg]
  simp only [f_X9_init_158]
  rw [B.g1, Option.bind_some, ha, Option.bind_some, Option.bind_some, ha, Option.bind_some, nI_1]
  cases o with
  | none => rw [if_neg (show ¬ (0 : Int32) ≤ eO none by decide)]; rfl
  | some z =>
    have hz := ho z rfl
    have h1 := hL rfl
    rw [if_pos (show (0 : Int32) ≤ eO (some z) from nI_pos' (by omega)), show eO (some z) = nI z from rfl, or_n tk ht z hz, show nI L + (-1) = nI (L - 1) by rw [show L = (L - 1) + 1 by omega, pk_m1]; rfl]
    rfl
def gfC (w : Rw) (k tk L x : Nat) : Bool := gG (GV w) tk k x && decide (1 + dpW w (nP w - (k + 1)) (tk ||| 2 ^ x) = L)
theorem y_89 (S : SN A I M w st h0 n0) (G : Gd w) (ht : tk < 1024) (hk : k < nP w) {L : Nat} (hL : L < 100) (k66 : Nat → Nat → Int32 → Int32 → Int32 → AH → Nat → Option (Unit × AH × Nat × Nat)) : ∀ (c i f : Nat) (m : Mt) (gf : Nat → Int32) (h : AH) (nx : Nat), i + c = nH w → GS A h0 n0 mo m gf h nx → gf k = -1 → ∃ h' cc m' gf', f_X9_init_89 (f + c + 2) k66 E n0 (A 0) (nI tk) (nI L) (nI k) (nI i) h nx = aC cc (10 * cc) (f_X9_init_158 k66 E n0 (A 0) (nI tk) (nI L) (nI k) h' (nx + cc)) ∧ GS A h0 n0 mo m' gf' h' (nx + cc) ∧ (∀ j, j ≠ k → gf' j = gf j) ∧ gf' k = eO (fdN (gfC w k tk L) i c) ∧ cc ≤ c * 8 := by
  have b1 := G.1.gP.2
  have b3 := G.1.gH.2
  have hd : ∀ {mo m gf} {h : AH} {nx : Nat}, GS A h0 n0 mo m gf h nx → ∃ aH, gA h (A 0) 0 0 = some aH ∧ isO h aH 11 = true ∧ f_J2_size E h aH = some (nI (nH w)) := fun B => by
    obtain ⟨⟨aH, eH, aP, eP, rN, rA, hm, hs, nh, np, tl, O, T, TI, ho, hM⟩, F, wk, rf, sc, la, oa, R, Q, L, K, s0, il, io, hOwn, hno⟩ := id (B.sn S).1
    exact ⟨_, O.g0, T.1.o, T.1.size⟩
  intro c
  induction c with
  | zero =>
    intro i f m gf h nx hi B hg
    obtain ⟨aH, d1, d2, d3⟩ := hd B
    refine ⟨h, 0, m, gf, ?_, B, fun _ _ => rfl, hg, by omega⟩
    rw [f_X9_init_89, d1, Option.bind_some, d2, gdT, d3, Option.bind_some, if_pos (nI_le (by omega) (by omega))]
    exact (aC00 _).symm
  | succ c ih =>
    intro i f m gf h nx hi B hg
    obtain ⟨aH, d1, d2, d3⟩ := hd B
    have ha : aI h (n0 + 2) 0 (nI k) = some (-1) := by rw [aI_at B.2.2.2.1 (by omega) (by decide), hg]
    rw [show f + (c + 1) + 2 = (f + c + 2) + 1 by omega, f_X9_init_89, d1, Option.bind_some, d2, gdT, d3, Option.bind_some, if_neg (nI_ge (by omega) (by omega)), B.g1, Option.bind_some, ha, Option.bind_some, if_neg (show ¬ (0 : Int32) ≤ -1 by decide), B.o, gdT, c_isGood S G B hk (by omega) ht, Option.bind_some, nI_1, nI_1]
    cases hg2 : gG (GV w) tk k i
    · rw [if_pos (show bI false = 0 from rfl)]
      obtain ⟨h', cc, m', gf', e, B', j1, j2, j3⟩ := ih (i + 1) f m gf h nx (by omega) B hg
      refine ⟨h', cc, m', gf', e, B', j1, ?_, by omega⟩
      rw [j2]
      show eO _ = eO (if gfC w k tk L i = true then some i else fdN (gfC w k tk L) (i + 1) c)
      rw [if_neg (by unfold gfC; rw [hg2]; simp)]
    · rw [if_neg (show ¬ bI true = 0 by decide), gdT, or_n tk ht i (by omega)]
      have hle : dpW w (nP w - (k + 1)) (tk ||| 2 ^ i) ≤ nP w - (k + 1) := dp_le _ _
      obtain ⟨h2, m2, e2, B2⟩ := y_mostFrom (E := E) S G (tk := tk ||| 2 ^ i) (or_lt (m := 10) ht (by omega)) (d := nP w - (k + 1)) (by omega) B
      rw [show nP w - (nP w - (k + 1)) = k + 1 by omega] at e2
      rw [e2, Option.bind_some]
      dsimp only
      rw [show (1 : Int32) + nI (dpW w (nP w - (k + 1)) (tk ||| 2 ^ i)) = nI (1 + dpW w (nP w - (k + 1)) (tk ||| 2 ^ i)) from nI_add 1 _]
      by_cases he : 1 + dpW w (nP w - (k + 1)) (tk ||| 2 ^ i) = L
      · obtain ⟨h3, e3, B3⟩ := B2.sf (x := k) (by omega) (nI i)
        have ha3 : aI h3 (n0 + 2) 0 (nI k) = some (nI i) := by rw [aI_at B3.2.2.2.1 (by omega) (by decide), upd_s]
        obtain ⟨aH3, d4, d5, d6⟩ := hd B3
        rw [if_pos (by rw [he]), B2.g1, Option.bind_some, e3, Option.bind_some]
        refine ⟨h3, nP w - (k + 1), m2, upd gf k (nI i), ?_, B3, fun j hj => upd_n hj, ?_, by omega⟩
        · have : f_X9_init_89 (f + c + 2) k66 E n0 (A 0) (nI tk) (nI L) (nI k) (nI (i + 1)) h3 (nx + (nP w - (k + 1))) = f_X9_init_158 k66 E n0 (A 0) (nI tk) (nI L) (nI k) h3 (nx + (nP w - (k + 1))) := by
            rw [show f + c + 2 = (f + c + 1) + 1 by omega, f_X9_init_89, d4, Option.bind_some, d5, gdT, d6, Option.bind_some]
            by_cases hl : nI (nH w) ≤ nI (i + 1)
            · rw [if_pos hl]
            · rw [if_neg hl, B3.g1, Option.bind_some, ha3, Option.bind_some, if_pos (nI_pos' (by omega))]
          rw [this]
        · rw [upd_s]
          show _ = eO (if gfC w k tk L i = true then some i else fdN (gfC w k tk L) (i + 1) c)
          rw [if_pos (by unfold gfC; rw [hg2, decide_eq_true he]; rfl)]
          rfl
      · rw [if_neg (fun z => he ((nI_eq (by omega) (by omega)).mp z))]
        obtain ⟨h', cc, m', gf', e, B', j1, j2, j3⟩ := ih (i + 1) f m2 gf h2 _ (by omega) B2 hg
        refine ⟨h', nP w - (k + 1) + cc, m', gf', ?_, by rw [← Nat.add_assoc]; exact B', j1, ?_, by omega⟩
        · rw [e]
          have hac : ∀ (o : Option (Unit × AH × Nat × Nat)) (a b c d : Nat), aC a b (aC c d o) = aC (a + c) (b + d) o := fun o a b c d => by cases o <;> simp [aC, Nat.add_assoc]
          rw [hac, Nat.add_assoc, ← Nat.mul_add]
        · rw [j2]
          show eO _ = eO (if gfC w k tk L i = true then some i else fdN (gfC w k tk L) (i + 1) c)
          rw [if_neg (by unfold gfC; rw [hg2, decide_eq_false he]; simp)]
theorem y_66 (S : SN A I M w st h0 n0) (G : Gd w) : ∀ (c k f : Nat) (m : Mt) (gf : Nat → Int32) (h : AH) (nx : Nat), k + c = nP w → GS A h0 n0 mo m gf h nx → gfE w gf k → ∃ h' cc m' gf', f_X9_init_66 (f + c + 1) E n0 (A 0) (nI (gfT w k)) (nI (dpW w (nP w - k) (gfT w k))) (nI k) h nx = some ((), h', cc, 10 * cc) ∧ GS A h0 n0 mo m' gf' h' (nx + cc) ∧ gfE w gf' (nP w) ∧ cc ≤ c * 80 := by
  have b1 := G.1.gP.2
  have b3 := G.1.gH.2
  have hd : ∀ {mo m gf} {h : AH} {nx : Nat}, GS A h0 n0 mo m gf h nx → ∃ aH, gA h (A 0) 0 1 = some aH ∧ isO h aH 11 = true ∧ f_J2_size E h aH = some (nI (nP w)) := fun B => by
    obtain ⟨⟨aH, eH, aP, eP, rN, rA, hm, hs, nh, np, tl, O, T, TI, ho, hM⟩, F, wk, rf, sc, la, oa, R, Q, L, K, s0, il, io, hOwn, hno⟩ := id (B.sn S).1
    exact ⟨_, O.g1, T.2.1.o, T.2.1.size⟩
  intro c
  induction c with
  | zero =>
    intro k f m gf h nx hk B hg
    obtain ⟨aH, d1, d2, d3⟩ := hd B
    refine ⟨h, 0, m, gf, ?_, B, by rw [show nP w = k by omega]; exact hg, by omega⟩
    rw [f_X9_init_66, d1, Option.bind_some, d2, gdT, d3, Option.bind_some, if_pos (nI_le (by omega) (by omega))]
  | succ c ih =>
    intro k f m gf h nx hk B hg
    obtain ⟨aH, d1, d2, d3⟩ := hd B
    have hT := gfT_lt (w := w) b3 k
    have hle : dpW w (nP w - k) (gfT w k) ≤ nP w - k := dp_le _ _
    obtain ⟨h1, e1, B1⟩ := B.sf (x := k) (by omega) (-1)
    obtain ⟨h2, c2, m2, gf2, e2, B2, j1, j2, j3⟩ := y_89 (E := E) S G hT (k := k) (by omega) (L := dpW w (nP w - k) (gfT w k)) (by omega) (f_X9_init_66 (f + c + 1) E) (nH w) 0 (FU - nH w - 2) m (upd gf k (-1)) h1 nx (by omega) B1 upd_s
    rw [show FU - nH w - 2 + nH w + 2 = FU by unfold FU; omega] at e2
    have hgI : fdN (gfC w k (gfT w k) (dpW w (nP w - k) (gfT w k))) 0 (nH w) = gfI w k (gfT w k) := rfl
    rw [hgI] at j2
    have h158 := y_158 (E := E) B2 (k := k) (by omega) (o := gfI w k (gfT w k)) j2 (fun z hz => by have := (fdN_some hz).2.1; omega) hT (L := dpW w (nP w - k) (gfT w k)) (fun hz => by
      cases hq : gfI w k (gfT w k) with
      | none => rw [hq] at hz; cases hz
      | some z =>
        have h3 := (fdN_some hq).2.2.1
        rw [Bool.and_eq_true] at h3
        have := of_decide_eq_true h3.2
        omega) (f_X9_init_66 (f + c + 1) E)
    have hT1 : gfT w (k + 1) = tkO (gfT w k) (gfI w k (gfT w k)) := rfl
    rw [← hT1, ← gf_left (by omega)] at h158
    obtain ⟨h3, c3, m3, gf3, e3, B3, j4, j5⟩ := ih (k + 1) f m2 gf2 h2 _ (by omega) B2 (fun j hj => by
      by_cases hjk : j = k
      · rw [hjk, j2]
      · rw [j1 j hjk, upd_n hjk]; exact hg j (by omega))
    refine ⟨h3, c2 + c3, m3, gf3, ?_, by rw [← Nat.add_assoc]; exact B3, j4, by omega⟩
    rw [show f + (c + 1) + 1 = (f + c + 1) + 1 by omega, f_X9_init_66, d1, Option.bind_some, d2, gdT, d3, Option.bind_some, if_neg (nI_ge (by omega) (by omega)), B.g1, Option.bind_some, e1, Option.bind_some]
    have e2' : f_X9_init_89 FU (f_X9_init_66 (f + c + 1) E) E n0 (A 0) (nI (gfT w k)) (nI (dpW w (nP w - k) (gfT w k))) (nI k) 0 h1 nx = _ := e2
    rw [e2', h158, e3, aC_some, ← Nat.mul_add]
theorem y_giv (S : SN A I M w st h nx) (G : Gd w) : ∃ h' c d m' gf, f_X9_init E (hu h nx (.inr (.inl (8, df_X9)))) (nx + 1) nx (A 0) = some ((), h', c, d) ∧ GS A h nx (nI (dpW w (nP w) 0)) m' gf h' (nx + 1 + c) ∧ gfE w gf (nP w) ∧ c ≤ 660 ∧ d ≤ 6700 := by
  have b1 := G.1.gP.2
  have hne := S.1.ne
  have hle : dpW w (nP w) 0 ≤ nP w := dp_le _ _
  have w1 : wr (hu h nx (.inr (.inl (8, df_X9)))) nx 8 3 (.ref (A 0)) = some (hu h nx (.inr (.inl (8, [.null, .null, .int 0, .ref (A 0)])))) := by
    rw [wr_at hu_s (by show 3 < 4; decide), hu_hu]; rfl
  have w2 : wr (hu (hu h nx (.inr (.inl (8, [.null, .null, .int 0, .ref (A 0)])))) (nx + 1) (.inl (0, 10, .inl (fun _ => 0)))) nx 8 0 (.ref (nx + 1)) = some (hu (hu h nx (.inr (.inl (8, [.ref (nx + 1), .null, .int 0, .ref (A 0)])))) (nx + 1) (.inl (0, 10, .inl (fun _ => 0)))) := by
    rw [wr_at (by rw [hu_n (by omega)]; exact hu_s) (by show 0 < 4; decide), hu_comm (by omega), hu_hu]; rfl
  have w3 : wr (hu (hu (hu h nx (.inr (.inl (8, [.ref (nx + 1), .null, .int 0, .ref (A 0)])))) (nx + 1) (.inl (0, 10, .inl (fun _ => 0)))) (nx + 1 + 1) (.inl (0, 8, .inl (fun _ => 0)))) nx 8 1 (.ref (nx + 1 + 1)) = some (hu (hu (hu h nx (gvE (A 0) nx 0)) (nx + 1) (.inl (0, 10, .inl (fun _ => 0)))) (nx + 1 + 1) (.inl (0, 8, .inl (fun _ => 0)))) := by
    rw [wr_at (by rw [hu_n (by omega), hu_n (by omega)]; exact hu_s) (by show 1 < 4; decide), hu_comm (a := nx + 1 + 1) (b := nx) (by omega), hu_comm (a := nx + 1) (b := nx) (by omega), hu_hu]; rfl
  have B0 : GS A h nx 0 (fun _ => some 0) (fun _ => 0) (hu (hu (hu h nx (gvE (A 0) nx 0)) (nx + 1) (.inl (0, 10, .inl (fun _ => 0)))) (nx + 1 + 1) (.inl (0, 8, .inl (fun _ => 0)))) (nx + 3) :=
    ⟨fun q hq => by rw [hu_n (by omega), hu_n (by omega), hu_n (by omega)], by rw [hu_n (by omega), hu_n (by omega)]; exact hu_s, ⟨_, by rw [hu_n (by omega)]; exact hu_s, fun _ _ => rfl⟩, hu_s, Nat.le_refl _⟩
  obtain ⟨h1, f1, ⟨m1, B1⟩, e1⟩ := lp_ex (fun f i h' => f_X9_init_27 f E nx (A 0) (nI i) h' (nx + 3)) 10 (fun i h' => ∃ m, GS A h nx 0 m (fun _ => 0) h' (nx + 3)) (fun f i h' hi hP => by
    obtain ⟨m, B⟩ := hP
    obtain ⟨h2, e2, B2, k2⟩ := B.sm (x := i) hi none
    refine ⟨h2, ⟨_, B2⟩, ?_⟩
    simp only [f_X9_init_27]
    rw [if_neg (nI_ge hi (by decide)), B.g0, Option.bind_some, show (-1 : Int32) = eO none from rfl, e2, Option.bind_some, nI_1]) FU 0 _ (Nat.zero_le _) (FU_lt (by decide)) ⟨_, B0⟩
  obtain ⟨h2, m2, e2, B2⟩ := y_mostFrom (E := E) S G (tk := 0) (by decide) (d := nP w) (Nat.le_refl _) B1
  rw [Nat.sub_self] at e2
  obtain ⟨h3, e3, B3⟩ := B2.wm (nI (dpW w (nP w) 0))
  obtain ⟨h4, c4, m4, gf4, e4, B4, j4, j5⟩ := y_66 (E := E) S G (nP w) 0 (FU - nP w - 1) m2 (fun _ => 0) h3 _ (by omega) B3 (fun j hj => absurd hj (by omega))
  rw [show FU - nP w - 1 + nP w + 1 = FU by unfold FU; omega, Nat.sub_zero] at e4
  refine ⟨h4, 2 + nP w + c4, 18 + 10 * nP w + 10 * c4, m4, gf4, ?_, by rw [show nx + 1 + (2 + nP w + c4) = nx + 3 + nP w + c4 by omega]; exact B4, j4, by omega, by omega⟩
  unfold f_X9_init
  rw [w1, Option.bind_some, w2, Option.bind_some, w3, Option.bind_some, show nx + 1 + 1 + 1 = nx + 3 by omega]
  have e1' : f_X9_init_27 FU E nx (A 0) 0 (hu (hu (hu h nx (gvE (A 0) nx 0)) (nx + 1) (.inl (0, 10, .inl (fun _ => 0)))) (nx + 1 + 1) (.inl (0, 8, .inl (fun _ => 0)))) (nx + 3) = f_X9_init_27 (f1 + 1) E nx (A 0) (nI 10) h1 (nx + 3) := e1
  rw [e1']
  simp only [f_X9_init_27]
  have e2' : f_X9_mostFrom E h1 (nx + 3) nx 0 0 = some (nI (dpW w (nP w) 0), h2, nP w, 10 * nP w) := e2
  rw [if_pos (nI_leR 10), B1.o, gdT, e2', Option.bind_some]
  dsimp only
  rw [e3, Option.bind_some, B3.g2, Option.bind_some]
  have e4' : f_X9_init_66 FU E nx (A 0) 0 (nI (dpW w (nP w) 0)) 0 h3 (nx + 3 + nP w) = some ((), h4, c4, 10 * c4) := e4
  rw [e4']
  simp only [aC_some, Option.some.injEq, Prod.mk.injEq, true_and]
  omega
theorem y_most (S : SN A I M w st h nx) (G : Gd w) : An A I M w h nx (f_X1_most E h nx (A 0)) (an_most w) := by
  unfold f_X1_most
  refine An.can0 S (fun h1 S1 q1 => ?_)
  simp only [Nat.add_zero]
  obtain ⟨h2, c, d, m', gf, e, B, j1, j2, j3⟩ := y_giv (E := E) S1 G
  rw [e, Option.bind_some]
  dsimp only
  rw [B.g2, Option.bind_some, aC_some, aC_some]
  refine ⟨h2, _, _, rfl, ?_, ⟨by omega, fun q hq _ _ => B.1 q hq⟩, by omega, by omega⟩
  rw [show nx + (1 + (c + 0)) = nx + 1 + c by omega]
  exact B.sn S1
theorem y_gift (S : SN A I M w st h nx) (G : Gd w) : An A I M w h nx (f_X1_gift E h nx (A 0) a) (an_gift w a) := by
  have Z := G.1
  rw [f_X1_gift, S.i0, gdT, c_isHouse S Z, Option.bind_some]
  unfold an_gift f_X1_gift_14
  cases hh : isHs w a
  · rw [if_pos (show bI false = 0 from rfl), if_pos (show false = false from rfl)]
    exact An.cn S (by decide)
  rw [if_neg (show ¬ bI true = 0 by decide), if_neg (show ¬ true = false by nofun)]
  obtain ⟨p, hp, rfl⟩ := (hs_t Z).mp hh
  have b1 := Z.gP.2
  have b2 := Z.gH.2
  rw [nI_clamp (by omega)]
  refine An.can0 S (fun h1 S1 q1 => ?_)
  simp only [Nat.add_zero]
  obtain ⟨h2, c, d, m', gf, e, B, j1, j2, j3⟩ := y_giv (E := E) S1 G
  have S2 := B.sn S1
  obtain ⟨h3, e3, S3, q3⟩ := S2.told E (o := gfI w p (gfT w p)) (fun z hz => by have := (fdN_some hz).2.1; omega)
  rw [e, Option.bind_some]
  dsimp only
  rw [B.g1, Option.bind_some, aI_at B.2.2.2.1 (by omega) (by decide), Option.bind_some, j1 p hp, S2.i0, gdT, aC_id, e3, aC_some, aC_some]
  refine ⟨h3, _, _, rfl, ?_, ⟨by omega, fun q hq h4 h5 => ?_⟩, by omega, by omega⟩
  · rw [show nx + (1 + (c + 0)) = nx + 1 + c by omega]; exact S3
  · rw [q3.2 q (by omega) h4 h5]; exact B.1 q hq
end PGV
