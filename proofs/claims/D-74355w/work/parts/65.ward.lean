/-! ward: both sides -/
def muP (w : Rw) (d : Nat) : Nat := cnN (fun p => isIn_ w p && decide (pF w p 2 = nI d)) (nP w)
def muH (w : Rw) (d : Nat) : Nat := cnN (fun x => isFr w x && decide (hF w x 1 = nI d)) (nH w)
def muI (w : Rw) (d : Nat) : Int32 := nI (muP w d) - nI (muH w d)
def wdK (w : Rw) (d : Nat) : Nat := 100 + muH w d - muP w d
def wdJ (w : Rw) (j d : Nat) : Bool := (fdN (fun x => decide (hF w x 1 = nI d)) 0 j).isSome
def wdO (w : Rw) (j : Nat) : Option Nat := am (wdJ w j) (wdK w) 8
def an_ward (w : Rw) (a : Int32) : Int32 × Int32 := match wdO w (nH w) with
  | none => (-1, nI 5)
  | some d => (if a = 0 then nI d else muI w d, 0)
section PWD
variable {w : Rw} {th st ac a b : Int32} {p q x y i s d : Nat}
theorem am_ins {B C : Nat → Bool} {key : Nat → Nat} {d n : Nat} (hd : d < n) (hn : n ≤ 100) (hC : ∀ z, z < n → (C z = true ↔ B z = true ∨ z = d)) : am C key n = match am B key n with
    | none => some d
    | some q => if key d < key q ∨ (key d = key q ∧ d < q) then some d else some q := by
  have k1 : am C key n = am C (fun z => key z * 100 + z) n := am_k n (fun p q h1 h2 _ _ => by omega)
  have k2 : am B key n = am B (fun z => key z * 100 + z) n := am_k n (fun p q h1 h2 _ _ => by omega)
  rw [k1, k2]
  cases hm : am B (fun z => key z * 100 + z) n with
  | none =>
    have h := am_none.mp hm
    refine am_is hd ((hC d hd).mpr (Or.inr rfl)) (fun p hp hc hne => ?_)
    rcases (hC p hp).mp hc with z | z
    · rw [h p hp] at z; cases z
    · exact absurd z hne
  | some q =>
    obtain ⟨g1, g2, g3⟩ := am_some hm
    show _ = if key d < key q ∨ (key d = key q ∧ d < q) then some d else some q
    by_cases hk : key d < key q ∨ (key d = key q ∧ d < q)
    · rw [if_pos hk]
      refine am_is hd ((hC d hd).mpr (Or.inr rfl)) (fun p hp hc hne => ?_)
      rcases (hC p hp).mp hc with z | z
      · have := g3 p hp z
        omega
      · exact absurd z hne
    · rw [if_neg hk]
      refine am_is g1 ((hC q g1).mpr (Or.inl g2)) (fun p hp hc hne => ?_)
      rcases (hC p hp).mp hc with z | z
      · have := g3 p hp z
        omega
      · subst z
        omega
theorem Rng.h1 (Z : Rng w) (hh : x < 10) : hF w x 1 = nI (hN_ w x 1) ∧ hN_ w x 1 ≤ 7 := inI_n (Z.1 x 1 hh (by decide)) (by decide)
theorem mu_le (Z : Rng w) : muP w d ≤ 8 ∧ muH w d ≤ 10 := by
  have b1 := Z.gP.2
  have b2 := Z.gH.2
  have h1 := cnN_le (B := fun p => isIn_ w p && decide (pF w p 2 = nI d)) (nP w)
  have h2 := cnN_le (B := fun x => isFr w x && decide (hF w x 1 = nI d)) (nH w)
  unfold muP muH
  omega
theorem mu_lt (Z : Rng w) {c : Nat} : (muI w c < muI w d ↔ wdK w d < wdK w c) ∧ (muI w d = muI w c ↔ wdK w d = wdK w c) := by
  have h1 := mu_le (d := d) Z
  have h2 := mu_le (d := c) Z
  have t1 := pk_sub_toInt (a := muP w d) (b := muH w d) (by omega) (by omega)
  have t2 := pk_sub_toInt (a := muP w c) (b := muH w c) (by omega) (by omega)
  unfold wdK
  constructor
  · unfold muI
    rw [Int32.lt_iff_toInt_lt, t1, t2]
    omega
  · unfold muI
    rw [← Int32.toInt_inj, t1, t2]
    omega
theorem m_lackOf (Z : Rng w) : f_X3_lackOf w (nI d) = some (muI w d) := by
  obtain ⟨e1, b1⟩ := Z.gP
  obtain ⟨e3, b3⟩ := Z.gH
  have two : ∀ c : Int32, f_X3_lackOf_50 FU w (nI d) c 0 = some (c - nI (muH w d)) := by
    intro c
    have := lp_up (fun n i s => f_X3_lackOf_50 n w (nI d) (c - nI s) (nI i)) (fun s => some (c - nI s)) (fun i s => s + if (isFr w i && decide (hF w i 1 = nI d)) = true then 1 else 0) (nH w) ?_ ?_ FU 0 0 (Nat.zero_le _) (FU_lt (by omega))
    · rw [show f_X3_lackOf_50 FU w (nI d) c 0 = f_X3_lackOf_50 FU w (nI d) (c - nI 0) (nI 0) by rw [show c - nI 0 = c by rw [nI_0]; grind]; rfl]
      exact this
    · intro n s
      simp only [f_X3_lackOf_50]
      rw [e3, if_pos (nI_leR _)]
    · intro n i s hi
      simp only [f_X3_lackOf_50]
      rw [e3, if_neg (nI_ge hi (by omega)), m_isFree (by omega), Option.bind_some, m_h01 (by omega), Option.bind_some, nI_1, show c - nI s - 0 = c - nI s by grind, show c - nI s - 1 = c - nI (s + 1) by rw [← nI_1]; grind]
      cases hb : isFr w i
      · simp [bI]
      · by_cases hr : hF w i 1 = nI d <;> simp [hr, bI]
  refine (lp_up (fun n i s => f_X3_lackOf_4 n w (nI d) (nI s) (nI i)) (fun s => some (nI s - nI (muH w d))) (fun i s => s + if (isIn_ w i && decide (pF w i 2 = nI d)) = true then 1 else 0) (nP w) ?_ ?_ FU 0 0 (Nat.zero_le _) (FU_lt (by omega)))
  · intro n s
    simp only [f_X3_lackOf_4]
    rw [e1, if_pos (nI_leR _), two]
  · intro n i s hi
    simp only [f_X3_lackOf_4]
    rw [e1, if_neg (nI_ge hi (by omega)), m_isIn (by omega), Option.bind_some, m_of (k := 2) (by omega), Option.bind_some, nI_1, nI_1, iadd0]
    cases hb : isIn_ w i
    · simp [bI]
    · by_cases hr : pF w i 2 = nI d <;> simp [hr, bI]
theorem wdJ_1 (Z : Rng w) {j : Nat} (hj : j < nH w) : ∀ z, z < 8 → (wdJ w (j + 1) z = true ↔ wdJ w j z = true ∨ z = hN_ w j 1) := by
  have b3 := Z.gH.2
  obtain ⟨e1, e2⟩ := Rng.h1 Z (x := j) (by omega)
  intro z hz
  unfold wdJ
  rw [fdN_any, fdN_any]
  constructor
  · rintro ⟨q, h1, h2, h3⟩
    by_cases hq : q = j
    · subst hq
      have := of_decide_eq_true h3
      rw [e1] at this
      exact Or.inr ((nI_eq (by omega) (by omega)).mp this).symm
    · exact Or.inl ⟨q, h1, by omega, h3⟩
  · rintro (⟨q, h1, h2, h3⟩ | h)
    · exact ⟨q, h1, by omega, h3⟩
    · exact ⟨j, by omega, by omega, decide_eq_true (by rw [e1, h])⟩
theorem m_ward (Z : Rng w) : f_X3_ward w th st a = rA (an_ward w a) := by
  obtain ⟨e3, b3⟩ := Z.gH
  simp only [f_X3_ward, f_X3_refuse, Option.bind_some]
  have w0 : wdO w 0 = none := am_none.mpr (fun p _ => rfl)
  by_cases h0 : w 230 = 0
  · rw [if_pos h0]
    have : nH w = 0 := by rw [e3] at h0; exact (nI_eq (b := 0) (by omega) (by decide)).mp h0
    unfold an_ward
    rw [this, w0]
    rfl
  rw [if_neg h0]
  refine lp_sq (fun n i s => f_X3_ward_21 n w a s (nI i) th st) (fun j => eO (wdO w j)) (rA (an_ward w a)) (nH w) ?_ ?_ FU 0 (Nat.zero_le _) (FU_lt (by omega))
  · intro n
    simp only [f_X3_ward_21]
    rw [e3, if_pos (nI_leR _)]
    have hne : ∃ d, wdO w (nH w) = some d := by
      cases ho : wdO w (nH w) with
      | some d => exact ⟨d, rfl⟩
      | none =>
        exfalso
        have h1 : 0 < nH w := Nat.pos_of_ne_zero (fun z => h0 (by rw [e3, z]; rfl))
        have h2 := am_none.mp ho
        obtain ⟨g1, g2⟩ := Rng.h1 Z (x := 0) (by omega)
        have h3 := h2 (hN_ w 0 1) (by omega)
        have h4 : wdJ w (nH w) (hN_ w 0 1) = true := fdN_any.mpr ⟨0, by omega, by omega, decide_eq_true g1⟩
        rw [h3] at h4; cases h4
    obtain ⟨d, hd⟩ := hne
    unfold an_ward
    rw [hd, show eO (some d) = nI d from rfl]
    by_cases ha : a = 0
    · rw [if_pos ha]
      simp only [if_pos ha]
      rfl
    · rw [if_neg ha, m_lackOf Z]
      simp only [if_neg ha]
      rfl
  · intro n j hj
    simp only [f_X3_ward_21]
    obtain ⟨g1, g2⟩ := Rng.h1 Z (x := j) (by omega)
    rw [e3, if_neg (nI_ge hj (by omega)), m_h01 (by omega), Option.bind_some, g1, nI_1]
    have hs : wdO w (j + 1) = match wdO w j with
      | none => some (hN_ w j 1)
      | some q => if wdK w (hN_ w j 1) < wdK w q ∨ (wdK w (hN_ w j 1) = wdK w q ∧ hN_ w j 1 < q) then some (hN_ w j 1) else some q := am_ins (B := wdJ w j) (C := wdJ w (j + 1)) (key := wdK w) (n := 8) (d := hN_ w j 1) (by omega) (by decide) (wdJ_1 Z hj)
    rw [hs]
    cases ho : wdO w j with
    | none => rw [if_pos (show eO none = -1 from rfl)]; rfl
    | some q =>
      have hq := am_lt ho
      rw [if_neg (show ¬ eO (some q) = -1 from nI_m1 (by omega)), show eO (some q) = nI q from rfl, m_lackOf Z, Option.bind_some, m_lackOf Z, Option.bind_some, Option.bind_some, Option.bind_some]
      have hl := mu_lt Z (d := hN_ w j 1) (c := q)
      dsimp only
      by_cases h1 : wdK w (hN_ w j 1) < wdK w q
      · rw [if_pos (hl.1.mpr h1), if_pos (Or.inl h1)]; rfl
      rw [if_neg (fun z => h1 (hl.1.mp z))]
      by_cases h2 : wdK w (hN_ w j 1) = wdK w q
      · rw [if_pos (hl.2.mpr h2)]
        by_cases h3 : hN_ w j 1 < q
        · rw [if_neg (nI_ge h3 (by omega)), if_pos (Or.inr ⟨h2, h3⟩)]; rfl
        · rw [if_pos (nI_le (by omega) (by omega)), if_neg (by omega)]; rfl
      · rw [if_neg (fun z => h2 (hl.2.mp z)), if_neg (by omega)]; rfl
end PWD
section PWC
variable {A : Nat → Nat} {I : Nat → Int32} {M : Nat → Prop} {w : Rw} {st : Int32} {h h1 h2 h' : AH} {nx nx' n0 n1 n2 : Nat} {E : bE} {v a b u : Int32} {p x y N k q less d : Nat} {f : Option (Int32 × AH × Nat × Nat)} {zs : Nat → Nat} {n : Nat}
theorem z_38 (S : SN A I M w st h nx) (G : Gd w) {q : Nat} (hq : h q = some (.inr (.inr (38, [.ref (A 0), .int (nI d)])))) (hp : p < nP w) : (dE zs (n + 1)).2.1 h nx q (nI p) = some (bI (isIn_ w p && decide (pF w p 2 = nI d)), h, 0, 0) := by
  have b1 := G.1.gP.2
  obtain ⟨⟨aH, eH, aP, eP, rN, rA, hm, hs, nh, np, tl, O, T, TI, ho, hM⟩, F, wk, rf, sc, la, oa, R, Q, L, K, s0, il, io, hOwn, hno⟩ := id S.1
  rw [E_is hq]
  show lL38 (dE zs n) h nx [.ref (A 0), .int (nI d)] (nI p) = _
  obtain ⟨w0, w1, w2, w3, w4, w5, w6, w7, w8⟩ := Q.2.1 p hp
  simp only [lL38, S.i0, gdT, f_X1_lambda_muchOf_23, S.g2, Option.bind_some, R.g13, R.a13 (show p < 8 by omega), w7, T.houseAt O hp, T.o6 hp, T.tie hp]
  unfold isIn_
  by_cases h0 : pF w p 8 = 0
  · rw [if_pos h0, decide_eq_true h0, Bool.true_and, bI_ite]; rfl
  · rw [if_neg h0, decide_eq_false h0]; rfl
theorem z_39 (S : SN A I M w st h nx) (G : Gd w) {q : Nat} (hq : h q = some (.inr (.inr (39, [.ref (A 0), .int (nI d)])))) (hx : x < nH w) : (dE zs (n + 1)).2.1 h nx q (nI x) = some (bI (isFr w x && decide (hF w x 1 = nI d)), h, 0, 0) := by
  obtain ⟨⟨aH, eH, aP, eP, rN, rA, hm, hs, nh, np, tl, O, T, TI, ho, hM⟩, F, wk, rf, sc, la, oa, R, Q, L, K, s0, il, io, hOwn, hno⟩ := id S.1
  rw [E_is hq]
  show lL39 (dE zs n) h nx [.ref (A 0), .int (nI d)] (nI x) = _
  simp only [lL39, S.i0, gdT, f_X1_lambda_muchOf_24, S.g2, Option.bind_some, R.o1, c_isFree R Q O T G.1 G.2.1 hx, T.homeAt O hx, T.ward hx]
  cases isFr w x
  · rw [if_pos (show bI false = 0 from rfl)]; rfl
  · rw [if_neg (show ¬ bI true = 0 by decide), Bool.true_and, bI_ite]; rfl
theorem z_36 (S : SN A I M w st h nx) (G : Gd w) {q : Nat} (hq : h q = some (.inr (.inr (36, [.ref (A 0), .int (nI d)])))) (hx : x < nH w) : (dE zs (n + 1)).2.1 h nx q (nI x) = some (bI (decide (hF w x 1 = nI d)), h, 0, 0) := by
  obtain ⟨⟨aH, eH, aP, eP, rN, rA, hm, hs, nh, np, tl, O, T, TI, ho, hM⟩, F, wk, rf, sc, la, oa, R, Q, L, K, s0, il, io, hOwn, hno⟩ := id S.1
  rw [E_is hq]
  show lL36 (dE zs n) h nx [.ref (A 0), .int (nI d)] (nI x) = _
  simp only [lL36, S.i0, gdT, f_X1_lambda_ward_25, T.homeAt O hx, Option.bind_some, T.ward hx, bI_ite]
theorem y_muchOf (S : SN A I M w st h nx) (G : Gd w) : ∃ h', f_X1_muchOf (dE zs (n + 1)) h nx (A 0) (nI d) = some (muI w d, h', 2, 4) ∧ SN A I M w st h' (nx + 2) ∧ Lt (A 1) h nx h' (nx + 2) := by
  have b1 := G.1.gP.2
  have b2 := G.1.gH.2
  obtain ⟨h2, e2, S2, L2⟩ := y_count (E := dE zs (n + 1)) (e := .inr (.inr (38, [.ref (A 0), .int (nI d)]))) (B := fun p => isIn_ w p && decide (pF w p 2 = nI d)) (N := nP w) S (by omega) (fun h' nx' j hj S' hq => ⟨h', z_38 S' G hq hj, S'.1, fun _ _ => rfl⟩)
  obtain ⟨h3, e3, S3, L3⟩ := y_count (E := dE zs (n + 1)) (e := .inr (.inr (39, [.ref (A 0), .int (nI d)]))) (B := fun x => isFr w x && decide (hF w x 1 = nI d)) (N := nH w) S2 (by omega) (fun h' nx' j hj S' hq => ⟨h', z_39 S' G hq hj, S'.1, fun _ _ => rfl⟩)
  refine ⟨h3, ?_, S3, L2.trans L3⟩
  have S20 := S2.1
  unfold f_X1_muchOf
  have t1 : (gA h (A 0) 0 1).bind (fun v1 => gd (isO h v1 11) (f_J2_size (dE zs (n + 1)) h v1)) = some (nI (nP w)) := by
    obtain ⟨⟨aH, eH, aP, eP, rN, rA, hm, hs, nh, np, tl, O, T, TI, ho, hM⟩, F, wk, rf, sc, la, oa, R, Q, L, K, s0, il, io, hOwn, hno⟩ := id S.1
    rw [O.g1, Option.bind_some, T.2.1.o, gdT, T.2.1.size]
  obtain ⟨⟨aH, eH, aP, eP, rN, rA, hm, hs, nh, np, tl, O, T, TI, ho, hM⟩, F, wk, rf, sc, la, oa, R, Q, L, K, s0, il, io, hOwn, hno⟩ := id S.1
  rw [O.g1, Option.bind_some, T.2.1.o, gdT, T.2.1.size, Option.bind_some, e2, Option.bind_some]
  dsimp only
  clear O T R Q L K
  obtain ⟨⟨aH, eH, aP, eP, rN, rA, hm, hs, nh, np, tl, O, T, TI, ho, hM⟩, F, wk, rf, sc, la, oa, R, Q, L, K, s0, il, io, hOwn, hno⟩ := id S20
  rw [O.g0, Option.bind_some, T.1.o, gdT, T.1.size, Option.bind_some]
  unfold bd
  simp only [Nat.add_zero]
  rw [e3, Option.bind_some]
  simp only [aC_some]
  rfl
theorem z_35 (S : SN A I M w st h nx) (G : Gd w) {q : Nat} (hq : h q = some (.inr (.inr (35, [.ref (A 0)])))) : ∃ h', (dE zs (n + 2)).2.1 h nx q (nI d) = some (bI (wdJ w (nH w) d), h', 1, 2) ∧ SN A I M w st h' (nx + 1) ∧ Lt (A 1) h nx h' (nx + 1) := by
  have b2 := G.1.gH.2
  rw [E_is (n := n + 1) hq]
  show ∃ h', lL35 (dE zs (n + 1)) h nx [.ref (A 0)] (nI d) = _ ∧ _
  obtain ⟨h2, e2, S2, L2⟩ := y_count (E := dE zs (n + 1)) (e := .inr (.inr (36, [.ref (A 0), .int (nI d)]))) (B := fun x => decide (hF w x 1 = nI d)) (N := nH w) S (by omega) (fun h' nx' j hj S' hq => ⟨h', z_36 S' G hq hj, S'.1, fun _ _ => rfl⟩)
  refine ⟨h2, ?_, S2, L2⟩
  obtain ⟨⟨aH, eH, aP, eP, rN, rA, hm, hs, nh, np, tl, O, T, TI, ho, hM⟩, F, wk, rf, sc, la, oa, R, Q, L, K, s0, il, io, hOwn, hno⟩ := id S.1
  simp only [lL35, S.i0, gdT, f_X1_lambda_ward_26, O.g0, Option.bind_some, T.1.o, T.1.size, e2]
  have hc : ∀ N, (cnN (fun x => decide (hF w x 1 = nI d)) N ≤ 0 ↔ wdJ w N d = false) := fun N => by
    unfold wdJ
    induction N with
    | zero => exact ⟨fun _ => rfl, fun _ => Nat.le_refl _⟩
    | succ N ih =>
      rw [cnN_1]
      by_cases hb : hF w N 1 = nI d
      · rw [decide_eq_true hb]
        constructor
        · intro z; exfalso; simp only [if_true] at z; omega
        · intro z
          have : (fdN (fun x => decide (hF w x 1 = nI d)) 0 (N + 1)).isSome = true := fdN_any.mpr ⟨N, by omega, by omega, decide_eq_true hb⟩
          rw [this] at z; cases z
      · rw [decide_eq_false hb]
        simp only [Bool.false_eq_true, if_false, Nat.add_zero]
        rw [ih]
        rw [← Bool.not_eq_true, ← Bool.not_eq_true, fdN_any, fdN_any]
        constructor
        · rintro hn ⟨q, h1, h2, h3⟩
          by_cases hq : q = N
          · subst hq; exact hb (of_decide_eq_true h3)
          · exact hn ⟨q, h1, by omega, h3⟩
        · rintro hn ⟨q, h1, h2, h3⟩
          exact hn ⟨q, h1, by omega, h3⟩
  have hle := cnN_le (B := fun x => decide (hF w x 1 = nI d)) (nH w)
  cases hw : wdJ w (nH w) d
  · rw [if_pos (show nI (cnN (fun x => decide (hF w x 1 = nI d)) (nH w)) ≤ 0 from nI_le (b := 0) ((hc _).mpr hw) (by decide))]
    simp only [aC_some]
    rfl
  · rw [if_neg (show ¬ nI (cnN (fun x => decide (hF w x 1 = nI d)) (nH w)) ≤ 0 from nI_nle (by
      rcases Nat.eq_zero_or_pos (cnN (fun x => decide (hF w x 1 = nI d)) (nH w)) with z | z
      · have := (hc (nH w)).mp (by omega); rw [hw] at this; cases this
      · exact z) (by omega))]
    simp only [aC_some]
    rfl
theorem z_37 (S : SN A I M w st h nx) (G : Gd w) {q : Nat} (hq : h q = some (.inr (.inr (37, [.ref (A 0)])))) : ∃ h', (dE zs (n + 2)).2.2.2 h nx q (nI d) = some (-muI w d, h', 2, 4) ∧ SN A I M w st h' (nx + 2) ∧ Lt (A 1) h nx h' (nx + 2) := by
  rw [E_of (n := n + 1) hq]
  show ∃ h', lL37 (dE zs (n + 1)) h nx [.ref (A 0)] (nI d) = _ ∧ _
  obtain ⟨h2, e2, S2, L2⟩ := y_muchOf (zs := zs) (n := n) (d := d) S G
  refine ⟨h2, ?_, S2, L2⟩
  simp only [lL37, S.i0, gdT, f_X1_lambda_ward_27, e2, Option.bind_some, aC_some]
theorem neg_lt (Z : Rng w) {c : Nat} : (-muI w c - -muI w d < 0 ↔ wdK w c < wdK w d) := by
  have h1 := mu_le (d := d) Z
  have h2 := mu_le (d := c) Z
  have e : -muI w c - -muI w d = nI (muP w d + muH w c) - nI (muH w d + muP w c) := by
    unfold muI
    rw [← nI_add, ← nI_add]
    grind
  rw [e, Int32.lt_iff_toInt_lt, pk_sub_toInt (by omega) (by omega), show (0 : Int32).toInt = 0 by decide]
  unfold wdK
  omega
theorem y_ward (S : SN A I M w st h nx) (G : Gd w) : An A I M w h nx (f_X1_ward (dE zs (n + 3)) h nx (A 0) a) (an_ward w a) := by
  have Z := G.1
  have hne := S.1.ne
  have SA := (S.new (e := .inr (.inr (35, [.ref (A 0)])))).new (e := .inr (.inr (37, [.ref (A 0)])))
  have SB := SA.new (e := .inr (.inr (7, [.ref (nx + 1)])))
  obtain ⟨h2, c, d, e2, ⟨S2, L2⟩, b1, b2⟩ := x_first (E := dE zs (n + 3)) (q := nx) (q2 := nx + 1 + 1) (N := 8) (B := wdJ w (nH w)) (key := wdK w) (bc := 4) (bs := 8) (h := hu (hu (hu h nx (.inr (.inr (35, [.ref (A 0)])))) (nx + 1) (.inr (.inr (37, [.ref (A 0)])))) (nx + 1 + 1) (.inr (.inr (7, [.ref (nx + 1)])))) (nx := nx + 1 + 1 + 1) (P := fun h' nx' => SN A I M w st h' nx' ∧ Lt (A 1) (hu (hu (hu h nx (.inr (.inr (35, [.ref (A 0)])))) (nx + 1) (.inr (.inr (37, [.ref (A 0)])))) (nx + 1 + 1) (.inr (.inr (7, [.ref (nx + 1)])))) (nx + 1 + 1 + 1) h' nx') (by decide) (fun h' nx' k hk hP => by
    obtain ⟨h3, e3, S3, L3⟩ := z_35 (zs := zs) (n := n + 1) (d := k) hP.1 G (q := nx) (by rw [hP.2.2 nx (by omega) (by omega), hu_n (by omega), hu_n (by omega), hu_s])
    exact ⟨h3, 1, 2, e3, ⟨S3, hP.2.trans L3⟩, by decide, by decide⟩) (fun h' nx' a b _ _ _ _ _ hP => by
    have hnn := hP.2.1
    obtain ⟨h3, e3, S3, L3⟩ := z_37 (zs := zs) (n := n) (d := a) hP.1 G (q := nx + 1) (by rw [hP.2.2 (nx + 1) (by omega) (by omega), hu_n (by omega), hu_s])
    obtain ⟨h4, e4, S4, L4⟩ := z_37 (zs := zs) (n := n) (d := b) S3 G (q := nx + 1) (by rw [L3.2 (nx + 1) (by omega) (by omega), hP.2.2 (nx + 1) (by omega) (by omega), hu_n (by omega), hu_s])
    refine ⟨h4, -muI w a - -muI w b, 4, 8, ?_, ⟨S4, hP.2.trans (L3.trans L4)⟩, neg_lt Z, by decide, by decide⟩
    rw [E_by (n := n + 2) (by rw [hP.2.2 (nx + 1 + 1) (by omega) (by omega)]; exact hu_s)]
    show lL7 (dE zs (n + 2)) h' nx' [.ref (nx + 1)] (nI a) (nI b) = _
    simp only [lL7, f_X1_lambda_rising_1, e3, Option.bind_some, e4, aC_some]) ⟨SB, Lt.rfl'⟩
  have L0 : Lt (A 1) h nx h2 (nx + 1 + 1 + 1 + c) := (Lt.new.trans (Lt.new.trans Lt.new)).trans L2
  unfold f_X1_ward f_X1_rising bd
  simp only [aC_some, Option.bind_some, Nat.add_zero]
  rw [show (8 : Nat) = 8 from rfl] at e2
  rw [e2, Option.bind_some]
  dsimp only
  rw [show am (wdJ w (nH w)) (wdK w) 8 = wdO w (nH w) from rfl]
  unfold an_ward
  cases ho : wdO w (nH w) with
  | none =>
    rw [if_neg (show ¬ (0 : Int32) ≤ eO none by decide)]
    obtain ⟨h3, e3, S3, q3⟩ := S2.can (dE zs (n + 3)) (nI 5)
    unfold f_X1_ward_31
    rw [S2.i0, gdT, e3, Option.bind_some]
    dsimp only
    rw [aC00, decide_eq_false (show ¬ nI 5 = 0 by decide), if_pos (show bI false = 0 from rfl)]
    simp only [aC_some]
    refine ⟨h3, _, _, rfl, ?_, ?_, by omega, by omega⟩
    · rw [show nx + (1 + (1 + (1 + 0 + (c + 0)))) = nx + 1 + 1 + 1 + c by omega]; exact S3
    · rw [show nx + (1 + (1 + (1 + 0 + (c + 0)))) = nx + 1 + 1 + 1 + c by omega]; exact L0.qs.trans q3
  | some dd =>
    have hdd := am_lt ho
    rw [if_pos (show (0 : Int32) ≤ eO (some dd) from nI_pos' (by omega)), show eO (some dd) = nI dd from rfl]
    obtain ⟨h3, e3, S3, q3⟩ := S2.can (dE zs (n + 3)) 0
    unfold f_X1_ward_31
    rw [S2.i0, gdT, e3, Option.bind_some]
    dsimp only
    rw [aC00, decide_eq_true (show (0 : Int32) = 0 from rfl), if_neg (show ¬ bI true = 0 by decide)]
    by_cases ha : a = 0
    · rw [if_pos ha, if_pos ha]
      simp only [aC_some]
      refine ⟨h3, _, _, rfl, ?_, ?_, by omega, by omega⟩
      · rw [show nx + (1 + (1 + (1 + 0 + (c + 0)))) = nx + 1 + 1 + 1 + c by omega]; exact S3
      · rw [show nx + (1 + (1 + (1 + 0 + (c + 0)))) = nx + 1 + 1 + 1 + c by omega]; exact L0.qs.trans q3
    · rw [if_neg ha, if_neg ha, S3.i0, gdT, aC_id, Nat.add_zero]
      obtain ⟨h4, e4, S4, L4⟩ := y_muchOf (zs := zs) (n := n + 2) (d := dd) S3 G
      have e4' : f_X1_muchOf (dE zs (n + 3)) h3 (nx + 1 + 1 + 1 + c) (A 0) (nI dd) = some (muI w dd, h4, 2, 4) := e4
      simp only [Nat.add_zero]
      rw [e4']
      simp only [aC_some]
      refine ⟨h4, _, _, rfl, ?_, ?_, by omega, by omega⟩
      · rw [show nx + (1 + (1 + (1 + 0 + (c + 2)))) = nx + 1 + 1 + 1 + c + 2 by omega]; exact S4
      · rw [show nx + (1 + (1 + (1 + 0 + (c + 2)))) = nx + 1 + 1 + 1 + c + 2 by omega]; exact (L0.qs.trans q3).trans L4.qs
end PWC
