/-! a StringBuilder's cells -/
def sB3 (v n : Nat) (mb : Int32) : hE := .inr (.inl (12, [.ref v, .int 0, .int mb, .int (nI n)]))
section PSB
variable {h : AH} {E : bE} {a v n N nx k : Nat} {mb c : Int32} {f : Nat → Int32}
theorem sb0 (q : h a = some (sB3 v n mb)) : gA h a 12 0 = some v := by simp [gA, rd, q, sB3, vR]
theorem sb1 (q : h a = some (sB3 v n mb)) : gI h a 12 1 = some 0 := by simp [gI, rd, q, sB3, vI]
theorem sb3 (q : h a = some (sB3 v n mb)) : gI h a 12 3 = some (nI n) := by simp [gI, rd, q, sB3, vI]
theorem sbo (q : h a = some (sB3 v n mb)) : isO h a 12 = true := by simp [isO, q, sB3]
theorem sbl (q : h a = some (sB3 v n mb)) : f_J7_isLatin1 E h a = some 1 := by
  unfold f_J7_isLatin1
  rw [if_neg (by decide), sb1 q, Option.bind_some, if_pos rfl]
theorem sh_0 (x : Int32) : x >>> ((0 : Int32) &&& 31) = x := by
  rw [show ((0 : Int32) &&& 31) = 0 by decide]; exact Int32.shiftRight_zero
theorem ca_len {t M : Nat} {g : Nat → Int32} (q : h v = some (.inl (t, M, .inl g))) : aL h v = some (nI M) := by simp [aL, q]; rfl
/-- room is there -/
theorem sb_room (q : h a = some (sB3 v n mb)) (q2 : h v = some (.inl (2, N, .inl f))) (hk : k ≤ N) (hN : N < 2 ^ 30) : f_J7_ensureCapacityInternal E h nx a (nI k) = some ((), h, 0, 0) := by
  unfold f_J7_ensureCapacityInternal
  rw [sb0 q, Option.bind_some, ca_len q2, Option.bind_some, sb1 q, Option.bind_some, sh_0, if_pos]
  rw [Int32.le_iff_toInt_le, pk_sub_toInt (by omega) (by omega), show (0 : Int32).toInt = 0 by decide]
  omega
theorem sb_app (q : h a = some (sB3 v n mb)) (q2 : h v = some (.inl (2, N, .inl f))) (hn : n + 1 ≤ N) (hN : N < 2 ^ 30) (hk : k ≤ 255) : f_J8_append E h nx a (nI k) = some (a, hu (hu h a (sB3 v (n + 1) mb)) v (.inl (2, N, .inl (upd f n (nI k).toInt8.toInt32))), 0, 0) := by
  have hne : v ≠ a := fun e => by rw [e, q] at q2; cases q2
  have w1 : wr h a 12 3 (.int (nI (n + 1))) = some (hu h a (sB3 v (n + 1) mb)) := by
    have q : h a = some (.inr (.inl (12, [.ref v, .int 0, .int mb, .int (nI n)]))) := q
    rw [wr_at q (by show 3 < 4; decide)]; rfl
  have w2 : sI (hu h a (sB3 v (n + 1) mb)) v 2 (nI n) (nI k).toInt8.toInt32 = some (hu (hu h a (sB3 v (n + 1) mb)) v (.inl (2, N, .inl (upd f n (nI k).toInt8.toInt32)))) := sI_at ((hu_n hne).trans q2) (by omega) (by omega) _
  have hb : vp_nar .byte (nI k).toInt8.toInt32 = (nI k).toInt8.toInt32 := by rw [vp_nar_byte, Int8.toInt8_toInt32]
  unfold f_J8_append f_J7_append
  rw [sbo q, gdT, sb3 q, Option.bind_some, gdT, nI_1, sb_room q q2 hn hN, Option.bind_some]
  dsimp only
  rw [sbo q, gdT, sbl q, Option.bind_some, if_neg (by decide)]
  unfold f_J13_canEncode
  rw [if_neg (nI_nlt (by omega) (by decide)), Option.bind_some, if_neg (by decide), sb0 q, Option.bind_some, sb3 q, Option.bind_some, nI_1, w1, Option.bind_some, hb, w2, Option.bind_some]
  rfl
/-- a String of so many bytes, its bytes at b -/
def StrH (h : AH) (s b n : Nat) (g : Nat → Int32) : Prop := ∃ (x y : Value) (f : Nat → Int32), h s = some (.inr (.inl (13, [.ref b, .int 0, x, y]))) ∧ h b = some (.inl (2, n, .inl f)) ∧ ∀ i, i < n → f i = g i
theorem sb_str (q : h a = some (sB3 v n mb)) (q2 : h v = some (.inl (2, N, .inl f))) (hn : n ≤ N) (hN : N ≤ 1000000) (ha : a < nx) (hv : v < nx) : ∃ h', f_J8_toString E h nx a = some (nx, h', 2, 4 + n) ∧ StrH h' nx (nx + 1) n f ∧ ∀ z, z < nx → h' z = h z := by
  have q' : hu h nx (.inr (.inl (13, df_J9))) a = some (sB3 v n mb) := (hu_n (by omega)).trans q
  have w1 : wr (hu h nx (.inr (.inl (13, df_J9)))) nx 13 1 (.int 0) = some (hu h nx (.inr (.inl (13, df_J9)))) := by
    rw [wr_at hu_s (by decide), hu_hu]; rfl
  have q2' : hu h nx (.inr (.inl (13, df_J9))) v = some (.inl (2, N, .inl f)) := (hu_n (by omega)).trans q2
  have fin : ∀ (h2 : AH) (g : Nat → Int32), h2 nx = some (.inr (.inl (13, df_J9))) → h2 (nx + 1) = some (.inl (2, n, .inl g)) → (∀ i, i < n → g i = f i) → (∀ z, z < nx → h2 z = h z) → ∃ h3, wr h2 nx 13 0 (.ref (nx + 1)) = some h3 ∧ StrH h3 nx (nx + 1) n f ∧ ∀ z, z < nx → h3 z = h z := fun h2 g z1 z2 z3 z4 => by
    refine ⟨hu h2 nx (.inr (.inl (13, [.ref (nx + 1), .int 0, .int 0, .int 0]))), ?_, ⟨.int 0, .int 0, g, hu_s, (hu_n (by omega)).trans z2, z3⟩, fun z hz => by rw [hu_n (by omega)]; exact z4 z hz⟩
    rw [wr_at z1 (by decide)]; rfl
  have cp : ∃ (h2 : AH) (g : Nat → Int32), f_J12_copyOfRange E (hu h nx (.inr (.inl (13, df_J9)))) (nx + 1) v 0 (nI n) = some (nx + 1, h2, 1, n) ∧ h2 nx = some (.inr (.inl (13, df_J9))) ∧ h2 (nx + 1) = some (.inl (2, n, .inl g)) ∧ (∀ i, i < n → g i = f i) ∧ ∀ z, z < nx → h2 z = h z := by
    unfold f_J12_copyOfRange
    rw [if_pos rfl, ca_len q2', Option.bind_some]
    by_cases hnn : n = N
    · subst hnn
      rw [if_pos rfl]
      have e1 : clB (hu h nx (.inr (.inl (13, df_J9)))) v (nx + 1) = some (hu (hu h nx (.inr (.inl (13, df_J9)))) (nx + 1) (.inl (2, n, .inl f)), n) := by
        simp only [clB, arI, q2', if_true, Option.bind_some]
      have e2 : isA (hu (hu h nx (.inr (.inl (13, df_J9)))) (nx + 1) (.inl (2, n, .inl f))) (nx + 1) 2 = true := by
        have z : hu (hu h nx (.inr (.inl (13, df_J9)))) (nx + 1) (.inl (2, n, .inl f)) (nx + 1) = some (.inl (2, n, .inl f)) := hu_s
        generalize hu (hu h nx (.inr (.inl (13, df_J9)))) (nx + 1) (.inl (2, n, .inl f)) = hh at z
        simp [isA, z]
      rw [e1, Option.bind_some]
      dsimp only
      rw [e2, gdT, aC_some]
      exact ⟨_, f, rfl, (hu_n (by omega)).trans hu_s, hu_s, fun _ _ => rfl, fun z hz => by rw [hu_n (by omega), hu_n (by omega)]⟩
    · rw [if_neg (fun z => hnn ((nI_eq (by omega) (by omega)).mp z))]
      unfold f_J12_copyOfRange_10 f_J12_copyOfRangeByte f_J12_checkLength
      have e0 : nI n - 0 = nI n := Int32.sub_zero _
      have e1 : nI N - 0 = nI N := Int32.sub_zero _
      have hA : nA (nI n) = true := by
        unfold nA
        rw [nI_toInt (by omega)]
        exact decide_eq_true ⟨by omega, by omega⟩
      have c1 : hu (hu h nx (.inr (.inl (13, df_J9)))) (nx + 1) (.inl (2, n, .inl (fun _ => 0))) v = some (.inl (2, N, .inl f)) := (hu_n (by omega)).trans q2'
      have c2 : hu (hu h nx (.inr (.inl (13, df_J9)))) (nx + 1) (.inl (2, n, .inl (fun _ => 0))) (nx + 1) = some (.inl (2, n, .inl (fun _ => 0))) := hu_s
      have r0 : cpR 0 (nI n) N = true := by
        unfold cpR
        rw [nI_toInt (by omega)]
        exact decide_eq_true ⟨by decide, by omega, by rw [show (0 : Int32).toInt = 0 by decide]; omega⟩
      have r1 : cpR 0 (nI n) n = true := by
        unfold cpR
        rw [nI_toInt (by omega)]
        exact decide_eq_true ⟨by decide, by omega, by rw [show (0 : Int32).toInt = 0 by decide]; omega⟩
      have e3 : cI (hu (hu h nx (.inr (.inl (13, df_J9)))) (nx + 1) (.inl (2, n, .inl (fun _ => 0)))) 2 v 0 (nx + 1) 0 (nI n) = some (hu (hu h nx (.inr (.inl (13, df_J9)))) (nx + 1) (.inl (2, n, .inl (va_cpy f (fun _ => 0) 0 0 n)))) := by
        simp only [cI, arI, c1, c2, if_true, Option.bind_some, r0, r1, gdT]
        rw [nI_clamp (by omega), hu_hu]
        rfl
      rw [if_pos (show (0 : Int32) ≤ nI n from nI_pos' (by omega)), Option.bind_some, e0, hA, gdT, nI_clamp (by omega), ca_len c1, Option.bind_some, e1, min_sz hn (by omega), Option.bind_some, e3, Option.bind_some, aC_some, Option.bind_some, aC_some]
      exact ⟨_, _, rfl, (hu_n (by omega)).trans hu_s, hu_s, fun i hi => cpy_at hi, fun z hz => ((hu_n (by omega)).trans (hu_n (by omega)) : hu (hu h nx (.inr (.inl (13, df_J9)))) (nx + 1) _ z = h z)⟩
  obtain ⟨h2, g, e2, g1, g2, g3, g4⟩ := cp
  obtain ⟨h3, e3, s3, k3⟩ := fin h2 g g1 g2 g3 g4
  have eV : f_J7_getValue E (hu h nx (.inr (.inl (13, df_J9)))) a = some v := by
    unfold f_J7_getValue
    rw [sb0 q']; rfl
  have eL : f_J8_length E (hu h nx (.inr (.inl (13, df_J9)))) a = some (nI n) := by
    unfold f_J8_length f_J7_length
    rw [sbo q', gdT, sb3 q']; rfl
  refine ⟨h3, ?_, s3, k3⟩
  unfold f_J8_toString f_J9_init f_J9_init_2
  rw [sbo q', gdT, eV, Option.bind_some, gdT, eL, Option.bind_some, gdT, sbl q', Option.bind_some, if_neg (by decide), show isY 0 = true by decide, gdT, w1, Option.bind_some, e2, Option.bind_some]
  dsimp only
  rw [e3, Option.bind_some, aC_some, Option.bind_some, aC_some, Option.bind_some]
  dsimp only
  rw [aC_some]
  simp only [Nat.add_zero]
  rw [aC_some]
end PSB
