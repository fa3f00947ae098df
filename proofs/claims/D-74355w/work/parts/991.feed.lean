/-! what is fed: the tapes -/
/-- a byte as the component keeps it, and as the reference does -/
def Byt (ta tb : Int32) : Prop := (¬ tb < 0 ∧ tb ≤ nI 127 ∧ ta = tb) ∨ (tb < 0 ∧ nI 128 ≤ ta)
theorem byt_8 : ∀ y : BitVec 8, Byt (Int32.ofBitVec (y.setWidth 32)) (Int32.ofBitVec (y.signExtend 32)) := by
  have h : ∀ n, n < 256 → Byt (Int32.ofBitVec ((BitVec.ofNat 8 n).setWidth 32)) (Int32.ofBitVec ((BitVec.ofNat 8 n).signExtend 32)) := by
    unfold Byt; decide +kernel
  intro y
  have := h y.toNat y.isLt
  rwa [BitVec.ofNat_toNat, BitVec.setWidth_eq] at this
theorem and_255 (X : BitVec 32) : X &&& 255#32 = (X.setWidth 8).setWidth 32 := by
  apply BitVec.eq_of_toNat_eq
  rw [BitVec.toNat_and, BitVec.toNat_setWidth, BitVec.toNat_setWidth, show (255#32).toNat = 2 ^ 8 - 1 by decide, Nat.and_two_pow_sub_one_eq_mod]
  have : X.toNat % 2 ^ 8 < 2 ^ 8 := Nat.mod_lt _ (by decide)
  rw [Nat.mod_eq_of_lt (Nat.lt_of_lt_of_le this (by decide))]
theorem byt_a (x : Int32) (s : Nat) (hs : s = 24 ∨ s = 16 ∨ s = 8 ∨ s = 0) : (x.toUInt32 >>> ((nI s).toUInt32 &&& Int32.toUInt32 31)).toInt32 &&& nI 255 = Int32.ofBitVec (((x.toBitVec >>> s).setWidth 8).setWidth 32) := by
  have k : ∀ z : UInt32, (x.toUInt32 >>> z).toInt32 &&& nI 255 = Int32.ofBitVec ((x.toBitVec >>> (z.toBitVec % 32)) &&& 255#32) := fun z => rfl
  rw [k, and_255]
  rcases hs with rfl | rfl | rfl | rfl <;> rfl
theorem sw_sh (X : BitVec 32) (s : Nat) (hs : s ≤ 24) : (X.sshiftRight s).setWidth 8 = (X >>> s).setWidth 8 := by
  apply BitVec.eq_of_getLsbD_eq
  intro i hi
  rw [BitVec.getLsbD_setWidth, BitVec.getLsbD_setWidth, BitVec.getLsbD_sshiftRight, BitVec.getLsbD_ushiftRight]
  have h1 : decide (32 ≤ i) = false := decide_eq_false (by omega)
  have h2 : s + i < 32 := by omega
  rw [h1, if_pos h2]
  simp
theorem se_8 (X : BitVec 32) : X.signExtend 8 = X.setWidth 8 := by
  apply BitVec.eq_of_getLsbD_eq
  intro i hi
  rw [BitVec.getLsbD_signExtend, BitVec.getLsbD_setWidth, if_pos (show i < 32 by omega)]
theorem byt_b (x : Int32) (s : Nat) (hs : s = 24 ∨ s = 16 ∨ s = 8 ∨ s = 0) : (x >>> (nI s &&& 31)).toInt8.toInt32 = Int32.ofBitVec (((x.toBitVec >>> s).setWidth 8).signExtend 32) := by
  have k : ∀ z : Int32, (x >>> z).toInt8.toInt32 = Int32.ofBitVec (((x.toBitVec.sshiftRight' (z.toBitVec.smod 32)).signExtend 8).signExtend 32) := fun z => rfl
  rw [k, se_8, ← sw_sh _ _ (by omega)]
  rcases hs with rfl | rfl | rfl | rfl <;> rfl
theorem byt_s (x : Int32) (s : Nat) (hs : s = 24 ∨ s = 16 ∨ s = 8 ∨ s = 0) : Byt ((x.toUInt32 >>> ((nI s).toUInt32 &&& Int32.toUInt32 31)).toInt32 &&& nI 255) ((x >>> (nI s &&& 31)).toInt8.toInt32) := by
  rw [byt_a x s hs, byt_b x s hs]
  exact byt_8 _
def rB (x : Int32) (s : Nat) : Int32 := (x.toUInt32 >>> ((nI s).toUInt32 &&& Int32.toUInt32 31)).toInt32 &&& nI 255
def wB (x : Int32) (s : Nat) : Int32 := (x >>> (nI s &&& 31)).toInt8.toInt32
def cmR (x : Int32) (t : Nat) (g : Nat → Int32) : Nat → Int32 := upd (upd (upd (upd g t (rB x 24)) (t + 1) (rB x 16)) (t + 2) (rB x 8)) (t + 3) (rB x 0)
def cmW (x : Int32) (t : Nat) (g : Nat → Int32) : Nat → Int32 := upd (upd (upd (upd g t (wB x 24)) (t + 1) (wB x 16)) (t + 2) (wB x 8)) (t + 3) (wB x 0)
/-- the tapes, byte by byte -/
def Tps (ta tb : Nat → Int32) : Prop := ∀ k, k < 900 → Byt (ta k) (tb k)
section PFD
variable {th st tp a b c d e v : Int32} {t k : Nat} {ta tb : Nat → Int32}
theorem Tps.up (H : Tps ta tb) (k : Nat) {x y : Int32} (h : Byt x y) : Tps (upd ta k x) (upd tb k y) := fun j hj => by
  by_cases hk : j = k
  · subst hk; rw [upd_s, upd_s]; exact h
  · rw [upd_n hk, upd_n hk]; exact H j hj
theorem Tps.cm (H : Tps ta tb) (x : Int32) (t : Nat) : Tps (cmR x t ta) (cmW x t tb) := (((H.up t (byt_s x 24 (by decide))).up (t + 1) (byt_s x 16 (by decide))).up (t + 2) (byt_s x 8 (by decide))).up (t + 3) (byt_s x 0 (by decide))
theorem m_come (ht : t + 4 ≤ 900) : f_X3_come (nI t) ta v = some (nI (t + 4), cmR v t ta) := by
  have e1 : nI 24 + -8 = nI 16 := by decide
  have e2 : nI 16 + -8 = nI 8 := by decide
  have e3 : nI 8 + -8 = nI 0 := by decide
  have e4 : nI 0 + -8 = -8 := by decide
  show f_X3_come_3 (9995 + 5) v (nI 24) (nI t) ta = _
  rw [f_X3_come_3, if_neg (by decide), gdn ⟨by omega, by decide⟩, nI_clamp (by omega), bd, e1, nI_1, f_X3_come_3, if_neg (by decide), gdn ⟨by omega, by decide⟩, nI_clamp (by omega), bd, e2, nI_1, f_X3_come_3, if_neg (by decide), gdn ⟨by omega, by decide⟩, nI_clamp (by omega), bd, e3, nI_1, f_X3_come_3, if_neg (by decide), gdn ⟨by omega, by decide⟩, nI_clamp (by omega), bd, e4, nI_1, f_X3_come_3, if_pos (by decide)]
  rfl
def fdR (a b c d e : Int32) (t : Nat) (g : Nat → Int32) : Nat → Int32 := cmR e (t + 16) (cmR d (t + 12) (cmR c (t + 8) (cmR b (t + 4) (cmR a t g))))
def fdW (a b c d e : Int32) (t : Nat) (g : Nat → Int32) : Nat → Int32 := cmW e (t + 16) (cmW d (t + 12) (cmW c (t + 8) (cmW b (t + 4) (cmW a t g))))
theorem Tps.fd (H : Tps ta tb) : Tps (fdR a b c d e t ta) (fdW a b c d e t tb) := ((((H.cm a t).cm b _).cm c _).cm d _).cm e _
theorem m_feed (ht : t ≤ 900) : f_X3_feed th (nI t) ta a b c d e = if t + 20 ≤ 900 then some (nI (t + 20), 0, nI (t + 20), fdR a b c d e t ta) else some (-1, 0, nI t, ta) := by
  unfold f_X3_feed
  rw [nI_add]
  by_cases h : t + 20 ≤ 900
  · rw [if_pos (nI_le h (by decide)), if_pos h, m_come (by omega), Option.bind_some, m_come (by omega), Option.bind_some, m_come (by omega), Option.bind_some, m_come (by omega), Option.bind_some, m_come (by omega), Option.bind_some]
    rfl
  · rw [if_neg (nI_ge (by omega) (by omega)), if_neg h]
theorem m_fault {fk fp : Int32} : f_X3_fault fk fp th a = some (if a = 0 then fk else if a = 1 then fp else -1, 0) := by
  unfold f_X3_fault
  by_cases h : a = 0
  · rw [if_pos h, if_pos h]
  · rw [if_neg h, if_neg h]
    by_cases h1 : a = 1
    · rw [if_pos h1, if_pos h1]
    · rw [if_neg h1, if_neg h1]
end PFD
section PFC
variable {A : Nat → Nat} {I I' : Nat → Int32} {M M' : Nat → Prop} {w : Rw} {st st' : Int32} {h h' h1 : AH} {nx nx' : Nat} {E : bE} {v a b c d e x : Int32} {n t eB' : Nat} {P : Nat → Rw} {B : Nat → Nat → Nat} {eP cP eB : Nat} {C C' : Nat → hE}
/-- the tape, the out are written -/
theorem Sys.cells (S : Sys A I M w n P B eP cP eB C st h nx) (hn : nx ≤ nx') (Ex : Ext M M' nx) (hB : ∀ q, M' q → q < nx') (hO : h' (A 0) = some (oE A I' st')) (hk : ∀ q, q < nx → q ≠ A 0 → q ≠ A 12 → q ≠ A 13 → q ≠ eB → h' q = h q) (k12 : h' (A 12) = some (C' 0)) (k13 : h' (A 13) = some (C' 1)) (kB : h' eB' = some (C' 2)) (mB : M' eB') (nB : eB' = eB ∨ nx ≤ eB') : Sys A I' M' w n P B eP cP eB' C' st' h' nx' ∧ MS M h nx M' h' nx' := by
  obtain ⟨o0, o1⟩ := S.own0
  obtain ⟨s1, s2, s3, s4, s5, s6, s7, s8, s9, s10, s11, s12, s13, s14, s15⟩ := id S
  have ow := s1.1.own
  have f9 := s11 (A 9) (Or.inl rfl)
  have fP := s11 eP (Or.inr (Or.inl rfl))
  have f12 := s11 (A 12) (Or.inr (Or.inr (Or.inl rfl)))
  have f13 := s11 (A 13) (Or.inr (Or.inr (Or.inr (Or.inl rfl))))
  have fB := s11 eB (Or.inr (Or.inr (Or.inr (Or.inr rfl))))
  have own : ∀ i, i < n + 2 → ∀ q, OwB B i q → q < nx ∧ q ≠ A 0 → h' q = h q := fun i hi q hq hz => hk q hz.1 hz.2 (fun e => f12.2.2.2 i hi (e ▸ hq)) (fun e => f13.2.2.2 i hi (e ▸ hq)) (fun e => fB.2.2.2 i hi (e ▸ hq))
  have notM : ∀ q, q < nx → q ≠ A 0 → ¬ M q → h' q = h q := fun q hq h0 hm => hk q hq h0 (fun e => hm (e ▸ f12.1)) (fun e => hm (e ▸ f13.1)) (fun e => hm (e ▸ fB.1))
  have oAll : ∀ i, i < n + 2 → ∀ q, OwB B i q → q < nx := fun i hi q hq => by
    rcases i with _ | _ | i
    · exact (ow.1 q ((o0 q).mp hq)).2
    · obtain ⟨F, wk, rf, sc, nl, la, no, oa, R, s0, hOwn, hno⟩ := s4
      exact (hOwn q hq).2
    · exact ((s5 i (by omega)).own.1 q hq).2
  refine ⟨⟨⟨s1.1.keepO s1.2 hO rfl rfl hn Ex hB (fun q hq hqo hz => ?_), hO⟩, s2, s3, ?_, fun i hi => ?_, s6, s7, ?_, s9, s10, fun q hq => ?_, ?_, k12, k13, kB⟩, hn, Ex, fun q hq hm => notM q hq (fun e => hm (e ▸ ow.2.2.2)) hm⟩
  · rcases hz with z | z
    · exact notM q hq hqo z
    · exact own 0 (by omega) q ((o0 q).mpr z) ⟨hq, hqo⟩
  · obtain ⟨F, wk, rf, sc, nl, la, no, oa, R, s0, hOwn, hno⟩ := id s4
    exact s4.keep hn Ex (fun q hq ho => own 1 (by omega) q ho ⟨hq, fun e => hno (e ▸ ho)⟩)
  · exact (s5 i hi).keepO s1.2 hO rfl rfl hn Ex hB (fun q hq hqo hz => by
      rcases hz with z | z
      · exact notM q hq hqo z
      · exact own (i + 2) (by omega) q z ⟨hq, hqo⟩)
  · obtain ⟨g1, g2, g3, g4, g5, g6⟩ := s12
    exact s8.kept (hk _ f9.2.1 f9.2.2.1 (Ne.symm g1) (Ne.symm g3) (Ne.symm g5)) (hk _ fP.2.1 fP.2.2.1 (Ne.symm g2) (Ne.symm g4) (Ne.symm g6))
  · have hfo : ∀ q, Fix A eP eB q → M' q ∧ q < nx' ∧ q ≠ A 0 ∧ ∀ i, i < n + 2 → ¬ OwB B i q := fun q hq => by
      obtain ⟨f1, f2, f3, f4⟩ := s11 q hq
      exact ⟨Ex.1 q f1, by omega, f3, f4⟩
    rcases hq with z | z | z | z | z
    · exact hfo q (Or.inl z)
    · exact hfo q (Or.inr (Or.inl z))
    · exact hfo q (Or.inr (Or.inr (Or.inl z)))
    · exact hfo q (Or.inr (Or.inr (Or.inr (Or.inl z))))
    · rcases nB with y | y
      · exact hfo q (Or.inr (Or.inr (Or.inr (Or.inr (z.trans y)))))
      · refine ⟨z ▸ mB, z ▸ hB _ mB, by have := ow.2.2.1; omega, fun i hi t => ?_⟩
        have := oAll i hi q t
        omega
  · obtain ⟨g1, g2, g3, g4, g5, g6⟩ := s12
    refine ⟨g1, g2, g3, g4, ?_, ?_⟩ <;> rcases nB with y | y
    · rw [y]; exact g5
    · have := f9.2.1; omega
    · rw [y]; exact g6
    · have := fP.2.1; omega
end PFC
