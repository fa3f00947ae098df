/-! feed, fault, status: the component's side -/
def iT (I : Nat → Int32) (t : Nat) : Nat → Int32 := fun k => if k = 2 then nI t else I k
def tE (g : Nat → Int32) : hE := .inl (2, 900, .inl g)
def FH (A : Nat → Nat) (I : Nat → Int32) (st : Int32) (t : Nat) (g : Nat → Int32) (h : AH) : Prop := h (A 0) = some (oE A (iT I t) st) ∧ h (A 12) = some (tE g)
section PFE
variable {A : Nat → Nat} {I I' : Nat → Int32} {M M' : Nat → Prop} {w : Rw} {st st' : Int32} {h h' h1 : AH} {nx nx' : Nat} {E : bE} {v a b c d e x : Int32} {n t m s x2 : Nat} {P : Nat → Rw} {B : Nat → Nat → Nat} {eP cP eB : Nat} {C C' : Nat → hE} {g : Nat → Int32} {x3 x4 : Int32} {k8 : Nat → Nat → Int32 → Int32 → AH → Nat → Option (Int32 × AH × Nat × Nat)}
theorem oE_T {i j : Nat → Int32} (h0 : i 0 = j 0) (h1 : i 1 = j 1) (h2 : i 2 = j 2) : oE A i st = oE A j st := by unfold oE; rw [h0, h1, h2]
theorem y_fd1 (H : FH A I st t g h) (hne : A 12 ≠ A 0) (ht : t < 900) {s : Nat} (hs : s < 100) : ∃ h', f_X1_feeds_24 (m + 1) k8 E (A 0) x2 x3 x4 v (nI s) h nx = f_X1_feeds_24 m k8 E (A 0) x2 x3 x4 v (nI s + -8) h' nx ∧ FH A I st (t + 1) (upd g t (wB v s)) h' ∧ ∀ q, q ≠ A 0 → q ≠ A 12 → h' q = h q := by
  obtain ⟨q0, q1⟩ := H
  have g10 : gA h (A 0) 0 10 = some (A 12) := by simp [gA, rd, q0, oE, oFs, vR]
  have g11 : gI h (A 0) 0 11 = some (nI t) := by simp [gI, rd, q0, oE, oFs, vI, iT]
  have hw : vp_nar .byte ((v >>> (nI s &&& 31)).toInt8.toInt32) = wB v s := by
    rw [vp_nar_byte]
    unfold wB
    rw [Int8.toInt8_toInt32]
  have e1 : sI h (A 12) 2 (nI t) (wB v s) = some (hu h (A 12) (tE (upd g t (wB v s)))) := sI_at q1 ht (by decide) _
  have q0' : hu h (A 12) (tE (upd g t (wB v s))) (A 0) = some (oE A (iT I t) st) := (hu_n (Ne.symm hne)).trans q0
  have g11' : gI (hu h (A 12) (tE (upd g t (wB v s)))) (A 0) 0 11 = some (nI t) := by
    generalize hu h (A 12) (tE (upd g t (wB v s))) = h2 at q0'
    simp [gI, rd, q0', oE, oFs, vI, iT]
  have e2 : wr (hu h (A 12) (tE (upd g t (wB v s)))) (A 0) 0 11 (.int (nI (t + 1))) = some (hu (hu h (A 12) (tE (upd g t (wB v s)))) (A 0) (oE A (iT I (t + 1)) st)) := by
    have z : hu h (A 12) (tE (upd g t (wB v s))) (A 0) = some (.inr (.inl (0, oFs (A 6) (A 7) (A 1) (A 8) (A 9) st (I 0) (I 1) (A 10) (A 11) (A 12) (nI t) (A 13)))) := q0'
    rw [wr_at z (by show 11 < 13; decide)]
    rfl
  refine ⟨_, ?_, ⟨hu_s, (hu_n hne).trans hu_s⟩, fun q z0 z1 => by rw [hu_n z0, hu_n z1]⟩
  rw [f_X1_feeds_24, if_neg (nI_pos (by omega)), g10, Option.bind_some, g11, Option.bind_some, hw, e1, Option.bind_some, g11', Option.bind_some, nI_1, e2, Option.bind_some]
theorem y_fd24 (H : FH A I st t g h) (hne : A 12 ≠ A 0) (ht : t + 4 ≤ 900) : ∃ h', f_X1_feeds_24 (m + 5) k8 E (A 0) x2 x3 x4 v (nI 24) h nx = k8 (A 0) x2 x3 (x4 + 1) h' nx ∧ FH A I st (t + 4) (cmW v t g) h' ∧ ∀ q, q ≠ A 0 → q ≠ A 12 → h' q = h q := by
  obtain ⟨h1, e1, H1, k1⟩ := y_fd1 (m := m + 4) (k8 := k8) (E := E) (x2 := x2) (x3 := x3) (x4 := x4) (v := v) (nx := nx) (s := 24) H hne (by omega) (by decide)
  obtain ⟨h2, e2, H2, k2⟩ := y_fd1 (m := m + 3) (k8 := k8) (E := E) (x2 := x2) (x3 := x3) (x4 := x4) (v := v) (nx := nx) (s := 16) H1 hne (by omega) (by decide)
  obtain ⟨h3, e3, H3, k3⟩ := y_fd1 (m := m + 2) (k8 := k8) (E := E) (x2 := x2) (x3 := x3) (x4 := x4) (v := v) (nx := nx) (s := 8) H2 hne (by omega) (by decide)
  obtain ⟨h4, e4, H4, k4⟩ := y_fd1 (m := m + 1) (k8 := k8) (E := E) (x2 := x2) (x3 := x3) (x4 := x4) (v := v) (nx := nx) (s := 0) H3 hne (by omega) (by decide)
  refine ⟨h4, ?_, H4, fun q z0 z1 => by rw [k4 q z0 z1, k3 q z0 z1, k2 q z0 z1, k1 q z0 z1]⟩
  rw [show m + 5 = m + 4 + 1 from rfl, e1, show nI 24 + -8 = nI 16 by decide, show m + 4 = m + 3 + 1 from rfl, e2, show nI 16 + -8 = nI 8 by decide, show m + 3 = m + 2 + 1 from rfl, e3, show nI 8 + -8 = nI 0 by decide, show m + 2 = m + 1 + 1 from rfl, e4, show nI 0 + -8 = -8 by decide, f_X1_feeds_24, if_pos (by decide)]
def w5 (a b c d e : Int32) (k : Nat) : Int32 := if k = 0 then a else if k = 1 then b else if k = 2 then c else if k = 3 then d else e
theorem y_feeds {z : Nat} (H : FH A I st t g h) (hne : A 12 ≠ A 0) (hz0 : z ≠ A 0) (hz1 : z ≠ A 12) {f : Nat → Int32} (hz : h z = some (.inl (0, 5, .inl f))) (hf : ∀ k, k < 5 → f k = w5 a b c d e k) (ht : t + 20 ≤ 900) : ∃ h', f_X1_feeds E h nx (A 0) z = some (nI (t + 20), h', 0, 0) ∧ FH A I st (t + 20) (fdW a b c d e t g) h' ∧ ∀ q, q ≠ A 0 → q ≠ A 12 → h' q = h q := by
  have hl : aL h z = some (nI 5) := by simp [aL, hz]; rfl
  have stp : ∀ (j m : Nat) (h1 : AH) (tt : Nat) (gg : Nat → Int32), j < 5 → tt + 4 ≤ 900 → FH A I st tt gg h1 → (∀ q, q ≠ A 0 → q ≠ A 12 → h1 q = h q) → ∃ h2, f_X1_feeds_8 (m + 1) E (A 0) z (nI 5) (nI j) h1 nx = f_X1_feeds_8 m E (A 0) z (nI 5) (nI (j + 1)) h2 nx ∧ FH A I st (tt + 4) (cmW (w5 a b c d e j) tt gg) h2 ∧ ∀ q, q ≠ A 0 → q ≠ A 12 → h2 q = h q := fun j m h1 tt gg hj ht2 H1 k1 => by
    obtain ⟨h2, e2, H2, k2⟩ := y_fd24 (m := 9995) (k8 := f_X1_feeds_8 m E) (E := E) (x2 := z) (x3 := nI 5) (x4 := nI j) (v := w5 a b c d e j) (nx := nx) H1 hne ht2
    refine ⟨h2, ?_, H2, fun q z0 z1 => (k2 q z0 z1).trans (k1 q z0 z1)⟩
    rw [f_X1_feeds_8, if_neg (nI_ge hj (by decide)), aI_at (i := j) (by rw [k1 z hz0 hz1]; exact hz) hj (by decide), Option.bind_some, hf j hj, show FU = 9995 + 5 from rfl, e2, nI_1]
  obtain ⟨h1, e1, H1, k1⟩ := stp 0 9999 h t g (by decide) (by omega) H (fun _ _ _ => rfl)
  obtain ⟨h2, e2, H2, k2⟩ := stp 1 9998 h1 _ _ (by decide) (by omega) H1 k1
  obtain ⟨h3, e3, H3, k3⟩ := stp 2 9997 h2 _ _ (by decide) (by omega) H2 k2
  obtain ⟨h4, e4, H4, k4⟩ := stp 3 9996 h3 _ _ (by decide) (by omega) H3 k3
  obtain ⟨h5, e5, H5, k5⟩ := stp 4 9995 h4 _ _ (by decide) (by omega) H4 k4
  have g11 : gI h5 (A 0) 0 11 = some (nI (t + 20)) := by
    have q0 := H5.1
    simp [gI, rd, q0, oE, oFs, vI, iT]
  refine ⟨h5, ?_, H5, k5⟩
  unfold f_X1_feeds
  rw [hl, Option.bind_some, show FU = 9999 + 1 from rfl, show (0 : Int32) = nI 0 from rfl, e1, show (9999 : Nat) = 9998 + 1 from rfl, e2, show (9998 : Nat) = 9997 + 1 from rfl, e3, show (9997 : Nat) = 9996 + 1 from rfl, e4, show (9996 : Nat) = 9995 + 1 from rfl, e5, show (9995 : Nat) = 9994 + 1 from rfl, f_X1_feeds_8, if_pos (by decide), g11, Option.bind_some]
def cT (C : Nat → hE) (g : Nat → Int32) : Nat → hE := fun k => if k = 0 then tE g else C k
theorem y_feed (S : Sys A I M w n P B eP cP eB C st h nx) (hI : I 2 = nI t) (hC : C 0 = tE g) (hd : A 12 ≠ A 13 ∧ A 12 ≠ eB) (ht : t ≤ 900) : if t + 20 ≤ 900 then SA A (iT I (t + 20)) M eB h nx (f_X1_feed E h nx (A 0) a b c d e) (nI (t + 20)) st w n P (cT C (fdW a b c d e t g)) else f_X1_feed E h nx (A 0) a b c d e = some (-1, h, 0, 0) := by
  have SN1 := S.1
  have k12 := S.2.2.2.2.2.2.2.2.2.2.2.2.1
  have k13 := S.2.2.2.2.2.2.2.2.2.2.2.2.2.1
  have kB := S.2.2.2.2.2.2.2.2.2.2.2.2.2.2
  have s11 := S.2.2.2.2.2.2.2.2.2.2.1
  have f12 := s11 (A 12) (Or.inr (Or.inr (Or.inl rfl)))
  have f13 := s11 (A 13) (Or.inr (Or.inr (Or.inr (Or.inl rfl))))
  have fB := s11 eB (Or.inr (Or.inr (Or.inr (Or.inr rfl))))
  have ne := SN1.1.ne
  unfold f_X1_feed
  rw [SN1.g11, Option.bind_some, hI, nI_add]
  by_cases h20 : t + 20 ≤ 900
  · rw [if_pos h20, if_pos (nI_le h20 (by decide))]
    let f5 : Nat → Int32 := upd (upd (upd (upd (upd (fun _ => 0) 0 a) 1 b) 2 c) 3 d) 4 e
    have st1 : ∀ (g0 : Nat → Int32) (k : Nat) (v : Int32), k < 5 → sI (hu h nx (.inl (0, 5, .inl g0))) nx 0 (nI k) v = some (hu h nx (.inl (0, 5, .inl (upd g0 k v)))) := fun g0 k v hk => by rw [sI_at hu_s hk (by decide), hu_hu]
    have e5 : (sI (hu h nx (.inl (0, 5, .inl (fun _ => 0)))) nx 0 0 a) = some (hu h nx (.inl (0, 5, .inl (upd (fun _ => 0) 0 a)))) := st1 _ 0 a (by decide)
    have e6 : ∀ g0 v, sI (hu h nx (.inl (0, 5, .inl g0))) nx 0 1 v = some (hu h nx (.inl (0, 5, .inl (upd g0 1 v)))) := fun g0 v => st1 g0 1 v (by decide)
    have H0 : FH A I st t g (hu h nx (.inl (0, 5, .inl f5))) := by
      refine ⟨?_, by rw [hu_n (by omega), k12, hC]⟩
      rw [hu_n (by omega), SN1.2]
      exact congrArg some (oE_T rfl rfl hI)
    obtain ⟨h', e', H', k'⟩ := y_feeds (E := E) (nx := nx + 1) (z := nx) (a := a) (b := b) (c := c) (d := d) (e := e) H0 f12.2.2.1 (by omega) (by omega) (f := f5) hu_s (fun k hk => by
      rcases (show k = 0 ∨ k = 1 ∨ k = 2 ∨ k = 3 ∨ k = 4 by omega) with rfl | rfl | rfl | rfl | rfl <;> rfl) h20
    have fr : ∀ q, q < nx → q ≠ A 0 → q ≠ A 12 → h' q = h q := fun q hq z0 z1 => by rw [k' q z0 z1, hu_n (by omega)]
    obtain ⟨z1, z2⟩ := S.cells (I' := iT I (t + 20)) (st' := st) (h' := h') (nx' := nx + 1) (M' := M) (C' := cT C (fdW a b c d e t g)) (eB' := eB) (by omega) Ext.rfl' (fun q hq => by have := SN1.1.bd q hq; omega) H'.1 (fun q hq y0 y1 _ _ => fr q hq y0 y1) H'.2 (by rw [fr _ f13.2.1 f13.2.2.1 (Ne.symm hd.1)]; exact k13) (by rw [fr _ fB.2.1 fB.2.2.1 (Ne.symm hd.2)]; exact kB) fB.1 (Or.inl rfl)
    refine ⟨h', 1 + (0 + 0), 5 + (0 + 0), A, M, B, eP, cP, ?_, z1, z2, fun _ _ => rfl, by omega, by omega⟩
    have i0 : isO (hu h nx (.inl (0, 5, .inl f5))) (A 0) 0 = true := by
      have q0 := H0.1
      generalize hu h nx (.inl (0, 5, .inl f5)) = hh at q0
      simp [isO, q0, oE]
    rw [e5, Option.bind_some, e6, Option.bind_some, st1 _ 2 c (by decide), Option.bind_some, st1 _ 3 d (by decide), Option.bind_some, st1 _ 4 e (by decide), Option.bind_some]
    show aC 1 5 (gd (isO (hu h nx (.inl (0, 5, .inl f5))) (A 0) 0) ((f_X1_feeds E (hu h nx (.inl (0, 5, .inl f5))) (nx + 1) (A 0) nx).bind fun v10 => aC v10.2.2.1 v10.2.2.2 (some (v10.1, v10.2.1, 0, 0)))) = _
    rw [i0, gdT, e', Option.bind_some, aC_some, aC_some]
  · rw [if_neg h20, if_neg (nI_ge (by omega) (by omega))]
theorem y_fault (S : SN A I M w st h nx) : f_X1_fault E h (A 0) a = some (if a = 0 then I 0 else if a = 1 then I 1 else -1) := by
  unfold f_X1_fault
  have g6 : gI h (A 0) 0 6 = some (I 0) := by simp [gI, rd, S.2, oE, oFs, vI]
  have g7 : gI h (A 0) 0 7 = some (I 1) := by simp [gI, rd, S.2, oE, oFs, vI]
  rw [g6, g7]
  by_cases h : a = 0
  · rw [if_pos h, if_pos h]; rfl
  · rw [if_neg h, if_neg h]
    by_cases h1 : a = 1
    · rw [if_pos h1, if_pos h1]; rfl
    · rw [if_neg h1, if_neg h1]
theorem y_status (S : SN A I M w st h nx) : f_X1_status E h (A 0) = some st := by
  unfold f_X1_status
  have g5 : gI h (A 0) 0 5 = some st := by simp [gI, rd, S.2, oE, oFs, vI]
  rw [g5]; rfl
end PFE
