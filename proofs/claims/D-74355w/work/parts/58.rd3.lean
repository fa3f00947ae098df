/-! firsts, one behind the other; scratch cells -/
def pk (key : Nat → Nat) (N T : Nat) : Option Nat := am (fun p => T.testBit p) key N
def ordN (key : Nat → Nat) (N : Nat) : Nat → Nat → Option Nat
  | 0, T => pk key N T
  | k + 1, T => match pk key N T with
    | none => none
    | some p => ordN key N k (clr T p)
theorem pc_clr {n k : Nat} (hk : k < 10) (hn : n < 1024) (hb : n.testBit k = true) : pc n = pc (clr n k) + 1 := by
  have h1 : clr n k ||| 2 ^ k = n := ext_tb (or_lt (m := 10) (Nat.lt_of_le_of_lt (clr_le n k) hn) hk) hn (fun j hj => by
    rw [or_tb, clr_tb hj]
    by_cases h : j = k
    · subst h; simp [hb]
    · simp [h])
  have h2 := pc_or (n := clr n k) hk (by rw [clr_tb hk]; simp)
  rw [h1] at h2
  exact h2
section PPK
variable {key : Nat → Nat} {N T : Nat}
theorem p2_le (hN : N ≤ 10) : 2 ^ N ≤ 1024 := Nat.pow_le_pow_right (n := 2) (by decide) hN
theorem pk_none (hN : N ≤ 10) (hT : T < 2 ^ N) : pk key N T = none ↔ T = 0 := by
  unfold pk
  rw [am_none]
  constructor
  · intro h
    by_cases h0 : T = 0
    · exact h0
    · obtain ⟨j, h1, h2⟩ := bit_ex h0 hT
      rw [h j h1] at h2; cases h2
  · intro h p _
    rw [h, Nat.zero_testBit]
theorem pk_some {p : Nat} (hN : N ≤ 10) (hT : T < 2 ^ N) (hp : pk key N T = some p) : p < N ∧ T.testBit p = true ∧ clr T p < 2 ^ N ∧ pc T = pc (clr T p) + 1 := by
  obtain ⟨h1, h2, -⟩ := am_some hp
  have := p2_le hN
  exact ⟨h1, h2, Nat.lt_of_le_of_lt (clr_le _ _) hT, pc_clr (by omega) (by omega) h2⟩
theorem pc_0 : pc 0 = 0 := by decide
theorem ordN_none (hN : N ≤ 10) : ∀ (k T : Nat), T < 2 ^ N → (ordN key N k T = none ↔ pc T ≤ k)
  | 0, T, hT => by
    show pk key N T = none ↔ _
    cases hp : pk key N T with
    | none => rw [(pk_none hN hT).mp hp, pc_0]; simp
    | some p => have := (pk_some hN hT hp).2.2.2; constructor <;> intro z <;> first | (cases z; done) | omega
  | k + 1, T, hT => by
    unfold ordN
    cases hp : pk key N T with
    | none => rw [(pk_none hN hT).mp hp, pc_0]; simp
    | some p =>
      have h4 := pk_some hN hT hp
      show ordN key N k (clr T p) = none ↔ _
      rw [ordN_none hN k (clr T p) h4.2.2.1]
      omega
theorem ordN_lt (hN : N ≤ 10) : ∀ (k T q : Nat), T < 2 ^ N → ordN key N k T = some q → q < N
  | 0, T, q, hT, h => (pk_some hN hT h).1
  | k + 1, T, q, hT, h => by
    unfold ordN at h
    cases hp : pk key N T with
    | none => rw [hp] at h; cases h
    | some p => rw [hp] at h; exact ordN_lt hN k _ q (pk_some hN hT hp).2.2.1 h
end PPK
section PRXM
variable {h h1 : AH} {nx n0 n1 : Nat} {M M' : Nat → Prop} {o r eL eO_ cL cO : Nat} {w W : Rw} {q : Nat} {e : hE}
/-- a region of scratch cells -/
def MR (M : Nat → Prop) (n0 n1 : Nat) : Nat → Prop := fun q => M q ∨ (n0 ≤ q ∧ q < n1)
theorem RX.reg (X : RX h n0 M o r eL eO_ cL cO w) (hk : ∀ q, q < n0 → h1 q = h q) (h01 : n0 ≤ n1) : RX h1 n1 (MR M n0 n1) o r eL eO_ cL cO w := by
  obtain ⟨H, F, wk, rf, sc, la, oa, R, Q, L, K, s0, il, io, hOwn, hno⟩ := X
  have bd := H.bd
  have E : Ext M (MR M n0 n1) n0 := ⟨fun q hq => Or.inl hq, fun q hq => by
    rcases hq with z | z
    · exact Or.inl z
    · exact Or.inr z.1⟩
  refine ⟨H.step h01 E (fun q hq => by
    rcases hq with z | z
    · have := bd q z; omega
    · exact z.2) (fun q hq _ => hk q hq), F, wk, rf, sc, la, oa, R.kept (fun q hq => hk q (hOwn q hq).2), Q, L.kept (fun i hi => hk _ (il i hi).1), K.kept (fun i hi => hk _ (io i hi).1), s0, fun i hi => (il i hi).ext h01 E, fun i hi => (io i hi).ext h01 E, fun q hq => ⟨Or.inl (hOwn q hq).1, by have := (hOwn q hq).2; omega⟩, hno⟩
/-- cells that may be written, but for the register's and the object -/
theorem RX.chg (X : RX h nx M o r eL eO_ cL cO w) (hk : ∀ q, ¬ M q ∨ Own r eL eO_ q ∨ q = o → h1 q = h q) : RX h1 nx M o r eL eO_ cL cO w := by
  obtain ⟨H, F, wk, rf, sc, la, oa, R, Q, L, K, s0, il, io, hOwn, hno⟩ := X
  have E : Ext M M nx := Ext.rfl'
  refine ⟨H.step (Nat.le_refl _) E H.bd (fun q hq hz => hk q (by
    rcases hz with z | z
    · exact Or.inl z
    · exact Or.inr (Or.inr z))), F, wk, rf, sc, la, oa, R.kept (fun q hq => hk q (Or.inr (Or.inl hq))), Q, L.kept (fun i hi => hk _ (Or.inl (il i hi).2)), K.kept (fun i hi => hk _ (Or.inl (io i hi).2)), s0, il, io, hOwn, hno⟩
theorem RX.less (X : RX h nx M' o r eL eO_ cL cO w) (hM : ∀ q, M q → M' q) (Mo : M o) (MO : ∀ q, Own r eL eO_ q → M q) : RX h nx M o r eL eO_ cL cO w := by
  obtain ⟨⟨aH, eH, aP, eP, rN, rA, hm, hs, nh, np, tl, O, T, TI, ho, hMM⟩, F, wk, rf, sc, la, oa, R, Q, L, K, s0, il, io, hOwn, hno⟩ := X
  have ni : ∀ q, NI nx M' q → NI nx M q := fun q hq => ⟨hq.1, fun z => hq.2 (hM q z)⟩
  obtain ⟨t1, t2, t3, t4, t5, t6⟩ := TI
  exact ⟨⟨aH, eH, aP, eP, rN, rA, hm, hs, nh, np, tl, O, T, ⟨ni _ t1, ni _ t2, ni _ t3, ni _ t4, fun i hi => ni _ (t5 i hi), fun p hp => ⟨ni _ (t6 p hp).1, ni _ (t6 p hp).2⟩⟩, ho, Mo, fun q hq => hMM.2 q (hM q hq)⟩, F, wk, rf, sc, la, oa, R, Q, L, K, s0, fun i hi => ni _ (il i hi), fun i hi => ni _ (io i hi), fun q hq => ⟨MO q hq, (hOwn q hq).2⟩, hno⟩
theorem RX.mo (X : RX h nx M o r eL eO_ cL cO w) : M o ∧ ∀ q, Own r eL eO_ q → M q := by
  obtain ⟨⟨aH, eH, aP, eP, rN, rA, hm, hs, nh, np, tl, O, T, TI, ho, hMM⟩, F, wk, rf, sc, la, oa, R, Q, L, K, s0, il, io, hOwn, hno⟩ := X
  exact ⟨hMM.1, fun q hq => (hOwn q hq).1⟩
end PRXM
section PSNM
variable {A : Nat → Nat} {I : Nat → Int32} {M M' : Nat → Prop} {w : Rw} {st : Int32} {h h1 h2 h' : AH} {nx nx' n0 n1 n2 : Nat} {E : bE} {v a b u : Int32} {p x y N k q : Nat} {f : Option (Int32 × AH × Nat × Nat)} {zs : Nat → Nat} {n : Nat}
theorem SN.reg (S : SN A I M w st h n0) (hk : ∀ q, q < n0 → h1 q = h q) (h01 : n0 ≤ n1) : SN A I (MR M n0 n1) w st h1 n1 := ⟨RX.reg S.1 hk h01, by rw [hk _ S.1.ne.2.1]; exact S.2⟩
theorem SN.back (S : SN A I (MR M n0 n1) w st h1 nx) (X0 : RA A M w h n0) : SN A I M w st h1 nx := ⟨RX.less S.1 (fun q hq => Or.inl hq) (RX.mo X0).1 (RX.mo X0).2, S.2⟩
/-- a scratch cell is written -/
theorem SN.wr (S : SN A I (MR M n0 n1) w st h nx) (X0 : RA A M w h2 n0) (hk : ∀ q, q < n0 ∨ n1 ≤ q → h1 q = h q) : SN A I (MR M n0 n1) w st h1 nx := by
  have hb : ∀ q, Own (A 1) (A 2) (A 3) q → q < n0 := by
    obtain ⟨⟨aH, eH, aP, eP, rN, rA, hm, hs, nh, np, tl, O, T, TI, ho, hM⟩, F, wk, rf, sc, la, oa, R, Q, L, K, s0, il, io, hOwn, hno⟩ := id X0
    exact fun q hq => (hOwn q hq).2
  refine ⟨RX.chg S.1 (fun q hq => hk q ?_), by rw [hk _ (Or.inl X0.ne.2.1)]; exact S.2⟩
  rcases hq with z | z | z
  · by_cases h0 : q < n0
    · exact Or.inl h0
    · by_cases h1 : n1 ≤ q
      · exact Or.inr h1
      · exact absurd (Or.inr ⟨by omega, by omega⟩) z
  · exact Or.inl (hb q z)
  · rw [z]; exact Or.inl X0.ne.2.1
/-- Register.firstFor, by a function that reads -/
theorem y_firstFor {B : Nat → Bool} {e : hE} (S : SN A I M w st h nx) (G : Gd w) (hx : x < nH w) (hq : h q = some e) (hqn : q < nx ∧ q ≠ A 1) (hl : ∀ h' nx' j, j < nP w → SN A I M w st h' nx' → Lt (A 1) h nx h' nx' → h' q = some e → (dE zs (n + 6)).2.1 h' nx' q (nI j) = some (bI (B j), h', 0, 0)) : ∃ h2, f_X2_firstFor (dE zs (n + 6)) h nx (A 1) (nI x) q = some (eO (am B (wgt w x) (nP w)), h2, 1, 2) ∧ SN A I M w st h2 (nx + 1) ∧ Lt (A 1) h nx h2 (nx + 1) := by
  have hne := S.1.ne
  have b1 := G.1.gP.2
  obtain ⟨h2, c, d, e1, ⟨p1, p2⟩, c1, c2⟩ := x_first (E := dE zs (n + 6)) (q := q) (q2 := nx) (P := fun h' nx' => SN A I M w st h' nx' ∧ Lt (A 1) (hu h nx (.inr (.inr (20, [.ref (A 1), .int (nI x)])))) (nx + 1) h' nx') (bc := 0) (bs := 0) (B := B) (key := wgt w x) (N := nP w) (by omega) (fun h' nx' k hk hP => ⟨h', 0, 0, hl h' nx' k hk hP.1 (Lt.new.trans hP.2) (by rw [hP.2.2 q (by omega) hqn.2, hu_n (by omega)]; exact hq), hP, by omega, by omega⟩) (fun h' nx' a b ha hb _ _ _ hP => by
    obtain ⟨h3, v, g1, g2, g3, g4, g5⟩ := x_compare (zs := zs) (n := n) hP.1.1 G.1 G.2.1 ha hb hx
    refine ⟨h3, v, 0, 0, ?_, ⟨hP.1.lt g2 (Lt.one g3), hP.2.trans (Lt.one g3)⟩, g4, by omega, by omega⟩
    rw [E_by (n := n + 5) (by rw [hP.2.2 nx (by omega) (by omega)]; exact hu_s)]
    show lL20 (dE zs (n + 5)) h' nx' [.ref (A 1), .int (nI x)] (nI a) (nI b) = _
    have o1 : isO h' (A 1) 1 = true := by
      obtain ⟨⟨aH, eH, aP, eP, rN, rA, hm, hs, nh, np, tl, O, T, TI, ho, hM⟩, F, wk, rf, sc, la, oa, R, Q, L, K, s0, il, io, hOwn, hno⟩ := id hP.1.1
      exact R.o1
    simp only [lL20, f_X2_lambda_firstFor_6, o1, gdT, aC_id, g1]) (h := hu h nx (.inr (.inr (20, [.ref (A 1), .int (nI x)])))) (nx := nx + 1) ⟨S.new, Lt.rfl'⟩
  have hc : c = 0 := by omega
  have hd : d = 0 := by omega
  subst hc hd
  refine ⟨h2, ?_, p1, Lt.new.trans p2⟩
  obtain ⟨⟨aH, eH, aP, eP, rN, rA, hm, hs, nh, np, tl, O, T, TI, ho, hM⟩, F, wk, rf, sc, la, oa, R, Q, L, K, s0, il, io, hOwn, hno⟩ := id S.1
  simp only [f_X2_firstFor, R.g26, Option.bind_some, O.g1, T.2.1.o, gdT, T.2.1.size, aC_id, e1]
  rfl
end PSNM
