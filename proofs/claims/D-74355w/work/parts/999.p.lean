/-! print: a StringBuilder with its text -/
def SBT (h : AH) (a v N : Nat) (mb : Int32) (T : List Int32) : Prop := h a = some (sB3 v T.length mb) ∧ (∃ f : Nat → Int32, h v = some (.inl (2, N, .inl f)) ∧ TX f T) ∧ T.length ≤ N ∧ N ≤ 2700
/-- a String by its text -/
def StrL (h : AH) (s b : Nat) (L : List Int32) : Prop := StrH h s b L.length (fun i => L.getD i 0)
/-- an append -/
def SBo (h : AH) (a v N : Nat) (mb : Int32) (nx : Nat) (f : Option (Nat × AH × Nat × Nat)) (T' : List Int32) : Prop := ∃ h' v' N' c d, f = some (a, h', c, d) ∧ SBT h' a v' N' mb T' ∧ (v' = v ∨ nx ≤ v') ∧ v' < nx + c ∧ N ≤ N' ∧ c ≤ N' - N ∧ d ≤ 2 * (N' - N) ∧ (∀ q, q < nx → q ≠ a → q ≠ v → h' q = h q) ∧ (T'.length ≤ N → v' = v ∧ N' = N ∧ c = 0 ∧ d = 0)
section PPS
variable {h h' : AH} {E : bE} {a v N nx k n s b i : Nat} {mb : Int32} {T L : List Int32} {g : Nat → Int32}
theorem StrH.l (S : StrH h s b n g) : StrL h s b (wl n g) := by
  obtain ⟨x, y, f, s1, s2, s3⟩ := S
  refine ⟨x, y, f, s1, by rw [wl_len]; exact s2, fun i hi => ?_⟩
  rw [wl_len] at hi
  rw [s3 i hi]
  unfold wl
  simp [List.getD_eq_getElem?_getD, hi]
theorem StrL.kept (S : StrL h s b L) (ha : h' s = h s) (hb : h' b = h b) : StrL h' s b L := StrH.kept S ha hb
theorem sl_0 (x : Int32) : x <<< ((0 : Int32) &&& 31) = x := by
  rw [show ((0 : Int32) &&& 31) = 0 by decide]; exact Int32.shiftLeft_zero
theorem newLenG {c d k : Nat} (h1 : 0 < c + max d k) (h2 : c < 10000) (hd : d < 10000) (hk : k < 10000) : f_J11_newLength (nI c) (nI d) (nI k) = some (nI (c + max d k)) := by
  simp only [f_J11_newLength, m_max, Option.bind_some]
  have hle : max d k < 10000 := Nat.max_lt.mpr ⟨hd, hk⟩
  have hm : mx32 (nI d) (nI k) = nI (max d k) := by
    unfold mx32
    by_cases hdk : d < k
    · rw [if_pos (nI_lt hdk (by omega)), Nat.max_eq_right (by omega)]
    · rw [if_neg (nI_nlt (by omega) (by omega)), Nat.max_eq_left (by omega)]
  rw [hm, nI_add, if_neg (show ¬ nI (c + max d k) ≤ 0 from nI_ge (a := 0) (by omega) (by omega)), if_neg (show ¬ (2147483639 : Int32) < nI (c + max d k) from nI_nlt (a := 2147483639) (by omega) (by decide))]
theorem sb_ens (S : SBT h a v N mb T) (hk : k ≤ 1295) (ha : a < nx) (hv : v < nx) (hav : a ≠ v) : ∃ h' v' N' c d, f_J7_ensureCapacityInternal E h nx a (nI k) = some ((), h', c, d) ∧ SBT h' a v' N' mb T ∧ k ≤ N' ∧ (v' = v ∨ nx ≤ v') ∧ v' < nx + c ∧ N ≤ N' ∧ c ≤ N' - N ∧ d ≤ 2 * (N' - N) ∧ (∀ q, q < nx → q ≠ a → h' q = h q) ∧ a ≠ v' ∧ (k ≤ N → v' = v ∧ N' = N ∧ c = 0 ∧ d = 0) := by
  have S0 := S
  obtain ⟨q, ⟨f, q2, hf⟩, h1, h2⟩ := S
  by_cases hkN : k ≤ N
  · exact ⟨h, v, N, 0, 0, sb_room q q2 hkN (by omega), S0, hkN, Or.inl rfl, by omega, Nat.le_refl _, by omega, by omega, fun _ _ _ => rfl, hav, fun _ => ⟨rfl, rfl, rfl, rfl⟩⟩
  · obtain ⟨N', hN'⟩ : ∃ N', N' = N + max (k - N) (N + 2) := ⟨_, rfl⟩
    have hN1 : N + (N + 2) ≤ N' ∧ k ≤ N' ∧ N' ≤ 2700 := by
      have := Nat.le_max_right (k - N) (N + 2)
      have := Nat.le_max_left (k - N) (N + 2)
      have : max (k - N) (N + 2) ≤ 1296 := Nat.max_le.mpr ⟨by omega, by omega⟩
      refine ⟨by omega, by omega, ?_⟩
      omega
    have ecap : f_J7_newCapacity E h a (nI k) = some (nI N') := by
      unfold f_J7_newCapacity
      rw [sb0 q, Option.bind_some, ca_len q2, Option.bind_some, sb1 q, Option.bind_some, Option.bind_some, sl_0, sl_0, nI_sb (by omega), nI_add, newLenG (by omega) (by omega) (by omega) (by omega), Option.bind_some, ← hN', if_neg (fun z => by have := (nI_eq (a := N') (b := 2147483647) (by omega) (by decide)).mp z; omega), Option.bind_some, sh_0]
    have c1 : hu h nx (.inl (2, N', .inl (fun _ => 0))) v = some (.inl (2, N, .inl f)) := (hu_n (by omega)).trans q2
    have c2 : hu h nx (.inl (2, N', .inl (fun _ => 0))) nx = some (.inl (2, N', .inl (fun _ => 0))) := hu_s
    have r0 : cpR 0 (nI N) N = true := by
      unfold cpR
      rw [nI_toInt (by omega)]
      exact decide_eq_true ⟨by decide, by omega, by rw [show (0 : Int32).toInt = 0 by decide]; omega⟩
    have r1 : cpR 0 (nI N) N' = true := by
      unfold cpR
      rw [nI_toInt (by omega)]
      exact decide_eq_true ⟨by decide, by omega, by rw [show (0 : Int32).toInt = 0 by decide]; omega⟩
    have hA : nA (nI N') = true := by
      unfold nA
      rw [nI_toInt (by omega)]
      exact decide_eq_true ⟨by omega, by omega⟩
    have e3 : cI (hu h nx (.inl (2, N', .inl (fun _ => 0)))) 2 v 0 nx 0 (nI N) = some (hu h nx (.inl (2, N', .inl (va_cpy f (fun _ => 0) 0 0 N)))) := by
      simp only [cI, arI, c1, c2, if_true, Option.bind_some, r0, r1, gdT]
      rw [nI_clamp (by omega), hu_hu]
      rfl
    have ecopy : f_J12_copyOf E h nx v (nI N') = some (nx, hu h nx (.inl (2, N', .inl (va_cpy f (fun _ => 0) 0 0 N))), 1, N') := by
      unfold f_J12_copyOf
      rw [ca_len q2, Option.bind_some, if_neg (fun z => by have := (nI_eq (by omega) (by omega)).mp z; omega), hA, gdT]
      simp only [nI_clamp (show N' < 2 ^ 31 by omega)]
      rw [ca_len c1, Option.bind_some, min32 (by omega) (by omega), Option.bind_some, e3, Option.bind_some, aC_some]
      rfl
    have q' : hu h nx (.inl (2, N', .inl (va_cpy f (fun _ => 0) 0 0 N))) a = some (.inr (.inl (12, [.ref v, .int 0, .int mb, .int (nI T.length)]))) := (hu_n (by omega)).trans q
    have w1 : wr (hu h nx (.inl (2, N', .inl (va_cpy f (fun _ => 0) 0 0 N)))) a 12 0 (.ref nx) = some (hu (hu h nx (.inl (2, N', .inl (va_cpy f (fun _ => 0) 0 0 N)))) a (sB3 nx T.length mb)) := by
      rw [wr_at q' (by show 0 < 4; decide)]; rfl
    refine ⟨hu (hu h nx (.inl (2, N', .inl (va_cpy f (fun _ => 0) 0 0 N)))) a (sB3 nx T.length mb), nx, N', 1, N', ?_, ⟨hu_s, ⟨_, (hu_n (by omega)).trans hu_s, fun i hi => ?_⟩, by omega, hN1.2.2⟩, hN1.2.1, Or.inr (Nat.le_refl _), by omega, by omega, by omega, by omega, fun z hz hz2 => by rw [hu_n hz2, hu_n (by omega)], by omega, fun z => absurd z hkN⟩
    · unfold f_J7_ensureCapacityInternal
      rw [sb0 q, Option.bind_some, ca_len q2, Option.bind_some, sb1 q, Option.bind_some, sh_0, if_neg (by
        rw [Int32.le_iff_toInt_le, pk_sub_toInt (by omega) (by omega), show (0 : Int32).toInt = 0 by decide]
        omega), Option.bind_some, sbo q, gdT, ecap, Option.bind_some, Option.bind_some, sl_0, ecopy, Option.bind_some]
      dsimp only
      rw [w1, Option.bind_some, aC_some]
      rfl
    · rw [cpy_at (by omega)]; exact hf i hi
theorem TX.app {f f' : Nat → Int32} (H : TX f T) (h1 : ∀ i, i < T.length → f' i = f i) (h2 : ∀ i, i < L.length → f' (T.length + i) = L.getD i 0) : TX f' (T ++ L) := by
  intro i hi
  rw [List.length_append] at hi
  by_cases h : i < T.length
  · rw [h1 i h, H i h]
    simp [List.getD_eq_getElem?_getD, List.getElem?_append_left h]
  · obtain ⟨j, rfl⟩ : ∃ j, i = T.length + j := ⟨i - T.length, by omega⟩
    rw [h2 j (by omega)]
    simp [List.getD_eq_getElem?_getD, List.getElem?_append_right (show T.length ≤ T.length + j by omega)]
/-- a char -/
theorem sb_ac {c : Nat} (S : SBT h a v N mb T) (hc : c < 128) (hT : T.length + 1 ≤ 1295) (ha : a < nx) (hv : v < nx) (hav : a ≠ v) : SBo h a v N mb nx (f_J8_append E h nx a (nI c)) (T ++ [nI c]) := by
  obtain ⟨h1, v', N', c1, d1, e1, ⟨q, ⟨f, q2, hf⟩, b1, b2⟩, b3, b4, b5, b6, b7, b8, k1, hav', b9⟩ := sb_ens (E := E) (nx := nx) S (k := T.length + 1) hT ha hv hav
  have w1 : wr h1 a 12 3 (.int (nI (T.length + 1))) = some (hu h1 a (sB3 v' (T.length + 1) mb)) := by
    have q : h1 a = some (.inr (.inl (12, [.ref v', .int 0, .int mb, .int (nI T.length)]))) := q
    rw [wr_at q (by show 3 < 4; decide)]; rfl
  have w2 : sI (hu h1 a (sB3 v' (T.length + 1) mb)) v' 2 (nI T.length) (nI c) = some (hu (hu h1 a (sB3 v' (T.length + 1) mb)) v' (.inl (2, N', .inl (upd f T.length (nI c))))) := sI_at ((hu_n (Ne.symm hav')).trans q2) (by omega) (by omega) _
  refine ⟨hu (hu h1 a (sB3 v' (T.length + 1) mb)) v' (.inl (2, N', .inl (upd f T.length (nI c)))), v', N', c1, d1, ?_, ⟨?_, ⟨_, hu_s, hf.a1 _⟩, by rw [List.length_append]; exact b3, b2⟩, b4, b5, b6, b7, b8, fun z z1 z2 z3 => ?_, fun z => b9 (by rw [List.length_append] at z; exact z)⟩
  · unfold f_J8_append f_J7_append
    have q0 := S.1
    rw [sbo q0, gdT, sb3 q0, Option.bind_some, gdT, nI_1, e1, Option.bind_some]
    dsimp only
    rw [sbo q, gdT, sbl q, Option.bind_some, if_neg (by decide)]
    unfold f_J13_canEncode
    rw [if_neg (nI_nlt (by omega) (by decide)), Option.bind_some, if_neg (by decide), sb0 q, Option.bind_some, sb3 q, Option.bind_some, nI_1, w1, Option.bind_some, nar_c c hc, w2, Option.bind_some, aC_some, Option.bind_some]
    dsimp only
    rw [aC_some]
    rfl
  · rw [hu_n hav', hu_s, List.length_append]; rfl
  · by_cases hz : z = v'
    · rcases b4 with y | y
      · exact absurd (hz.trans y) z3
      · omega
    · rw [hu_n hz, hu_n z2]; exact k1 z z1 z2
/-- a String -/
theorem sb_as (S : SBT h a v N mb T) (SL : StrL h s b L) (hT : T.length + L.length ≤ 1295) (ha : a < nx) (hv : v < nx) (hav : a ≠ v) (hs : s < nx ∧ s ≠ a ∧ s ≠ v) (hb : b < nx ∧ b ≠ a ∧ b ≠ v) : SBo h a v N mb nx (f_J8_append_2 E h nx a s) (T ++ L) := by
  obtain ⟨h1, v', N', c1, d1, e1, ⟨q, ⟨f, q2, hf⟩, b1, b2⟩, b3, b4, b5, b6, b7, b8, k1, hav', b9⟩ := sb_ens (E := E) (nx := nx) S (k := T.length + L.length) hT ha hv hav
  obtain ⟨x, y, fs, s1, s2, s3⟩ := SL
  have t1 := (k1 s hs.1 hs.2.1).trans s1
  have t2 := (k1 b hb.1 hb.2.1).trans s2
  have hbv : b ≠ v' := by
    rcases b4 with z | z
    · rw [z]; exact hb.2.2
    · omega
  have o0 : isO h s 13 = true := by simp [isO, s1]
  have o1 : isO h1 s 13 = true := by simp [isO, t1]
  have gs0 : gA h s 13 0 = some b := by simp [gA, rd, s1, vR]
  have gs1 : gI h s 13 1 = some 0 := by simp [gI, rd, s1, vI]
  have gt0 : gA h1 s 13 0 = some b := by simp [gA, rd, t1, vR]
  have gt1 : gI h1 s 13 1 = some 0 := by simp [gI, rd, t1, vI]
  have i0 : isY 0 = true := by decide
  have cod : ∀ {hh : AH}, gI hh s 13 1 = some 0 → f_J9_coder E hh s = some 0 := fun {hh} hz => by
    unfold f_J9_coder
    rw [if_neg (by decide), hz, Option.bind_some, i0, gdT]
  have len0 : f_J9_length E h s = some (nI L.length) := by
    unfold f_J9_length
    rw [gs0, Option.bind_some, ca_len s2, Option.bind_some, o0, gdT, cod gs1, Option.bind_some, sh_0]
  have r0 : cpR 0 (nI L.length) L.length = true := by
    unfold cpR
    rw [nI_toInt (by omega)]
    exact decide_eq_true ⟨by decide, by omega, by rw [show (0 : Int32).toInt = 0 by decide]; omega⟩
  have r1 : cpR (nI T.length) (nI L.length) N' = true := by
    unfold cpR
    rw [nI_toInt (by omega), nI_toInt (by omega)]
    exact decide_eq_true ⟨by omega, by omega, by omega⟩
  have e3 : cI h1 2 b 0 v' (nI T.length) (nI L.length) = some (hu h1 v' (.inl (2, N', .inl (va_cpy fs f 0 T.length L.length)))) := by
    simp only [cI, arI, t2, q2, if_true, Option.bind_some, r0, r1, gdT]
    rw [nI_clamp (by omega), nI_clamp (by omega)]
    rfl
  have eput : f_J7_putStringAt E h1 (nx + c1) a (nI T.length) s = some ((), hu h1 v' (.inl (2, N', .inl (va_cpy fs f 0 T.length L.length))), 0, 0) := by
    unfold f_J7_putStringAt f_J7_inflateIfNeededFor
    rw [sbo q, gdT, if_neg (by decide), sb1 q, Option.bind_some, o1, gdT, cod gt1, Option.bind_some, if_pos rfl, Option.bind_some, sb0 q, Option.bind_some, Option.bind_some, gdT]
    unfold f_J9_getBytes
    rw [o1, gdT, cod gt1, Option.bind_some, if_pos rfl, gt0, Option.bind_some, Option.bind_some, ca_len t2, Option.bind_some, sl_0, e3, Option.bind_some, Option.bind_some]
    rfl
  have q4 : hu h1 v' (.inl (2, N', .inl (va_cpy fs f 0 T.length L.length))) a = some (.inr (.inl (12, [.ref v', .int 0, .int mb, .int (nI T.length)]))) := (hu_n hav').trans q
  have g4 : gI (hu h1 v' (.inl (2, N', .inl (va_cpy fs f 0 T.length L.length)))) a 12 3 = some (nI T.length) := sb3 (v := v') (mb := mb) q4
  have w4 : wr (hu h1 v' (.inl (2, N', .inl (va_cpy fs f 0 T.length L.length)))) a 12 3 (.int (nI (T.length + L.length))) = some (hu (hu h1 v' (.inl (2, N', .inl (va_cpy fs f 0 T.length L.length)))) a (sB3 v' (T.length + L.length) mb)) := by
    rw [wr_at q4 (by show 3 < 4; decide)]; rfl
  refine ⟨hu (hu h1 v' (.inl (2, N', .inl (va_cpy fs f 0 T.length L.length)))) a (sB3 v' (T.length + L.length) mb), v', N', c1, d1, ?_, ⟨?_, ⟨_, (hu_n (Ne.symm hav')).trans hu_s, hf.app (fun i hi => ?_) (fun i hi => ?_)⟩, by rw [List.length_append]; exact b3, b2⟩, b4, b5, b6, b7, b8, fun z z1 z2 z3 => ?_, fun z => b9 (by rw [List.length_append] at z; exact z)⟩
  · unfold f_J8_append_2 f_J7_append_2
    have q0 := S.1
    rw [sbo q0, gdT, o0, gdT, len0, Option.bind_some, sb3 q0, Option.bind_some, gdT, nI_add, e1, Option.bind_some]
    dsimp only
    rw [sb3 q, Option.bind_some, sbo q, gdT, eput, Option.bind_some]
    dsimp only
    rw [g4, Option.bind_some, nI_add, w4, Option.bind_some, aC_some, aC_some, Option.bind_some]
    dsimp only
    rw [aC_some]
    simp only [Nat.add_zero]
  · rw [hu_s, List.length_append]
  · unfold va_cpy
    rw [if_neg (by omega)]
  · unfold va_cpy
    rw [if_pos ⟨by omega, by omega⟩, show 0 + (T.length + i - T.length) = i by omega]
    exact s3 i hi
  · by_cases hz : z = v'
    · rcases b4 with y | y
      · exact absurd (hz.trans y) z3
      · omega
    · rw [hu_n z2, hu_n hz]; exact k1 z z1 z2
end PPS
