/-! print: what lies around; words -/
section PRR
variable {A : Nat → Nat} {I : Nat → Int32} {st : Int32} {M : Nat → Prop} {h h' h1 : AH} {E : bE} {nx n0 a v N k n s b i p u eB x mh mp : Nat} {mb : Int32} {T L : List Int32} {f g : Nat → Int32} {w : Rw} {zs : Nat → Nat} {nm : Nat → Int64} {wd : Int64}
theorem ch5_n : ∀ j, j ≤ 8 → ∀ x, x < 2 ^ 50 → ch5 (Int64.ofNat x) j = Int64.ofNat (x / 2 ^ (5 * j) % 32) := by
  intro j hj x hx
  have key : ∀ s : Nat, s ≤ 40 → ((Int64.ofNat x).toBitVec.sshiftRight s &&& 31#64) = BitVec.ofNat 64 (x / 2 ^ s % 32) := fun s hs => by
    have hx64 : x < 2 ^ 64 := Nat.lt_of_lt_of_le hx (by decide)
    have hm : (Int64.ofNat x).toBitVec.msb = false := by
      show (BitVec.ofNat 64 x).msb = false
      rw [BitVec.msb_eq_false_iff_two_mul_lt, BitVec.toNat_ofNat, Nat.mod_eq_of_lt hx64]
      omega
    rw [BitVec.sshiftRight_eq_of_msb_false hm]
    apply BitVec.eq_of_toNat_eq
    rw [BitVec.toNat_and, BitVec.toNat_ushiftRight, show (31#64).toNat = 2 ^ 5 - 1 by decide, Nat.and_two_pow_sub_one_eq_mod, BitVec.toNat_ofNat]
    show (BitVec.ofNat 64 x).toNat >>> s % 2 ^ 5 = _
    rw [BitVec.toNat_ofNat, Nat.mod_eq_of_lt hx64, Nat.shiftRight_eq_div_pow, show (2 : Nat) ^ 5 = 32 from rfl, Nat.mod_eq_of_lt (show x / 2 ^ s % 32 < 2 ^ 64 from Nat.lt_of_lt_of_le (Nat.mod_lt _ (by decide)) (by decide))]
  unfold ch5
  have kk : ∀ z : Int64, ((Int64.ofNat x) >>> z) &&& 31 = Int64.ofBitVec ((Int64.ofNat x).toBitVec.sshiftRight' (z.toBitVec.smod 64) &&& 31#64) := fun z => rfl
  rw [kk]
  have fin : ∀ s : Nat, s ≤ 40 → Int64.ofBitVec ((Int64.ofNat x).toBitVec.sshiftRight s &&& 31#64) = Int64.ofNat (x / 2 ^ s % 32) := fun s hs => by rw [key s hs]; rfl
  rcases (show j = 0 ∨ j = 1 ∨ j = 2 ∨ j = 3 ∨ j = 4 ∨ j = 5 ∨ j = 6 ∨ j = 7 ∨ j = 8 by omega) with rfl | rfl | rfl | rfl | rfl | rfl | rfl | rfl | rfl
  · exact fin 0 (by decide)
  · exact fin 5 (by decide)
  · exact fin 10 (by decide)
  · exact fin 15 (by decide)
  · exact fin 20 (by decide)
  · exact fin 25 (by decide)
  · exact fin 30 (by decide)
  · exact fin 35 (by decide)
  · exact fin 40 (by decide)
theorem cdN_div (h : ∀ i, i < n → isL (g (0 + i)) = true) : ∀ j m, m ≤ n → j ≤ m → cdN g 0 m / 32 ^ j = cdN g 0 (m - j)
  | 0, m, _, _ => by rw [Nat.pow_zero, Nat.div_one, Nat.sub_zero]
  | j + 1, m, hm, hj => by
    obtain ⟨m', rfl⟩ : ∃ m', m = m' + 1 := ⟨m - 1, by omega⟩
    obtain ⟨k, k1, k2, k3⟩ := isL_n (h m' (by omega))
    rw [Nat.pow_succ, Nat.mul_comm, ← Nat.div_div_eq_div_mul]
    have e : cdN g 0 (m' + 1) / 32 = cdN g 0 m' := by
      show (cdN g 0 m' * 32 + ((g (0 + m')).toNatClampNeg - 96)) / 32 = _
      rw [k3, nI_clamp (by omega)]
      omega
    rw [e, cdN_div h j m' (by omega) (by omega), show m' + 1 - (j + 1) = m' - j by omega]
theorem dec_wl (W : Wrd wd n g) : dec wd = wl n g := by
  obtain ⟨h8, hl, rfl⟩ := W
  have hl0 : ∀ i, i < n → isL (g (0 + i)) = true := fun i hi => by rw [Nat.zero_add]; exact hl i hi
  rw [cd8_N hl0 h8 n (Nat.le_refl _)]
  have hlt := cdN_lt hl0 n (Nat.le_refl _)
  have hx : cdN g 0 n < 2 ^ 50 := Nat.lt_of_lt_of_le hlt (Nat.le_trans (Nat.pow_le_pow_right (by decide) h8) (by decide))
  have d1 : ∀ j, j ≤ 8 → dec1 (Int64.ofNat (cdN g 0 n)) j = if j < n then [g (n - 1 - j)] else [] := fun j hj => by
    unfold dec1
    rw [ch5_n j hj _ hx, Nat.pow_mul, show (2 : Nat) ^ 5 = 32 from rfl]
    by_cases hjn : j < n
    · rw [cdN_div hl0 j n (Nat.le_refl _) (by omega), if_pos hjn]
      obtain ⟨m, hm⟩ : ∃ m, n - j = m + 1 := ⟨n - j - 1, by omega⟩
      obtain ⟨k, k1, k2, k3⟩ := isL_n (hl m (by omega))
      have e : cdN g 0 (n - j) % 32 = k - 96 := by
        rw [hm]
        show (cdN g 0 m * 32 + ((g (0 + m)).toNatClampNeg - 96)) % 32 = _
        rw [Nat.zero_add, k3, nI_clamp (by omega)]
        omega
      rw [e, show n - 1 - j = m by omega, k3]
      have : ∀ k, k < 123 → 97 ≤ k → ¬ Int64.ofNat (k - 96) = 0 ∧ (Int64.ofNat (k - 96)).toInt32 + nI 96 = nI k := by decide +kernel
      obtain ⟨z1, z2⟩ := this k (by omega) k1
      rw [if_neg z1, z2]
    · have e : cdN g 0 n / 32 ^ j = 0 := Nat.div_eq_of_lt (Nat.lt_of_lt_of_le hlt (Nat.pow_le_pow_right (by decide) (by omega)))
      rw [e, if_neg hjn]; rfl
  have key : ∀ k, k ≤ 9 → apN (fun i => dec1 (Int64.ofNat (cdN g 0 n)) (8 - i)) k = wl (k - (9 - n)) g := by
    intro k
    induction k with
    | zero => intro _; rw [Nat.zero_sub]; rfl
    | succ k ih =>
      intro hk
      show apN _ k ++ dec1 (Int64.ofNat (cdN g 0 n)) (8 - k) = _
      rw [ih (by omega), d1 (8 - k) (by omega)]
      by_cases hj : 8 - k < n
      · rw [if_pos hj, show k + 1 - (9 - n) = k - (9 - n) + 1 by omega, show n - 1 - (8 - k) = k - (9 - n) by omega]
        unfold wl
        rw [List.range_succ, List.map_append]
        rfl
      · rw [if_neg hj, List.append_nil, show k + 1 - (9 - n) = k - (9 - n) by omega]
  have := key 9 (Nat.le_refl _)
  rw [show 9 - (9 - n) = n by omega] at this
  exact this
theorem NmH.l (H : NmH h s b wd) : StrL h s b (dec wd) := by
  obtain ⟨n, g, W, S⟩ := H
  rw [dec_wl W]; exact S.l
/-- what lies around while it prints -/
def PB (A : Nat → Nat) (I : Nat → Int32) (M : Nat → Prop) (w : Rw) (h1 : AH) (n0 eB : Nat) (zs : Nat → Nat) (mh mp : Nat) (nm : Nat → Int64) : Prop := SN A I M w 0 h1 n0 ∧ NmS A M h1 n0 mh mp nm ∧ KN zs A M h1 n0 ∧ (DGs zs h1 ∧ NI n0 M (zs 5) ∧ NI n0 M (zs 6)) ∧ (M (A 13) ∧ A 13 < n0 ∧ A 13 ≠ A 0 ∧ ¬ Own (A 1) (A 2) (A 3) (A 13)) ∧ (M eB ∧ eB < n0 ∧ eB ≠ A 0 ∧ ¬ Own (A 1) (A 2) (A 3) eB) ∧ Gd w
/-- the text so far -/
def OSt (A : Nat → Nat) (h1 : AH) (n0 eB : Nat) (mb : Int32) (T : List Int32) (v N : Nat) (h : AH) (nx : Nat) : Prop := SBT h (A 13) v N mb T ∧ (v = eB ∨ n0 ≤ v) ∧ v < nx ∧ n0 ≤ nx ∧ A 13 ≠ v ∧ ∀ q, q < n0 → q ≠ A 13 → q ≠ eB → h q = h1 q
theorem PB.ms (P : PB A I M w h1 n0 eB zs mh mp nm) (O : OSt A h1 n0 eB mb T v N h nx) : MS M h1 n0 M h nx := ⟨O.2.2.2.1, Ext.rfl', fun q hq hm => O.2.2.2.2.2 q hq (fun e => hm (by rw [e]; exact P.2.2.2.2.1.1)) (fun e => hm (by rw [e]; exact P.2.2.2.2.2.1.1))⟩
theorem PB.sn (P : PB A I M w h1 n0 eB zs mh mp nm) (O : OSt A h1 n0 eB mb T v N h nx) : SN A I M w 0 h nx := by
  obtain ⟨p1, p2, p3, p4, p5, p6, p7⟩ := P
  have fr := O.2.2.2.2.2
  refine ⟨RX.keep p1.1 O.2.2.2.1 Ext.rfl' (fun q hq => by have := p1.1.bd q hq; have := O.2.2.2.1; omega) (fun q hq hz => fr q hq (fun e => ?_) (fun e => ?_)), (fr _ p1.1.ne.2.1 (fun e => p5.2.2.1 e.symm) (fun e => p6.2.2.1 e.symm)).trans p1.2⟩
  · subst e
    rcases hz with z | z | z
    · exact z p5.1
    · exact p5.2.2.1 z
    · exact p5.2.2.2 z
  · subst e
    rcases hz with z | z | z
    · exact z p6.1
    · exact p6.2.2.1 z
    · exact p6.2.2.2 z
theorem PB.nm' (P : PB A I M w h1 n0 eB zs mh mp nm) (O : OSt A h1 n0 eB mb T v N h nx) : NmS A M h nx mh mp nm := P.2.1.ms (P.ms O) rfl rfl
theorem PB.kn (P : PB A I M w h1 n0 eB zs mh mp nm) (O : OSt A h1 n0 eB mb T v N h nx) : KN zs A M h nx := P.2.2.1.ms (P.ms O) rfl rfl
/-- what isn't written lies elsewhere -/
theorem PB.ne {q : Nat} (P : PB A I M w h1 n0 eB zs mh mp nm) (O : OSt A h1 n0 eB mb T v N h nx) (hq : NI n0 M q) : q < nx ∧ q ≠ A 13 ∧ q ≠ v := ⟨by have := hq.1; have := O.2.2.2.1; omega, fun e => hq.2 (by rw [e]; exact P.2.2.2.2.1.1), fun e => by
  rcases O.2.1 with z | z
  · exact hq.2 (by rw [e, z]; exact P.2.2.2.2.2.1.1)
  · have := hq.1; omega⟩
theorem PB.dg (P : PB A I M w h1 n0 eB zs mh mp nm) (O : OSt A h1 n0 eB mb T v N h nx) : DGs zs h := by
  obtain ⟨⟨⟨f, d1, d2⟩, g, d3, d4⟩, d5, d6⟩ := P.2.2.2.1
  exact ⟨⟨f, ((P.ms O).k d5).trans d1, d2⟩, g, ((P.ms O).k d6).trans d3, d4⟩
/-- the names at a heap, by the object's own ways -/
theorem nm_home (S : SN A I M w st h nx) (K : NmS A M h nx mh mp nm) (hx : x < nH w) : ∃ a s b, f_X1_homeAt E h (A 0) (nI x) = some a ∧ gA h a 5 0 = some s ∧ NmH h s b (nm x) ∧ NI nx M s ∧ NI nx M b ∧ gI h a 5 1 = some (hF w x 0) ∧ gI h a 5 2 = some (hF w x 1) := by
  obtain ⟨eHq, ePq, hmq, hsq, sh, bh, sp, bp, k1, k2, k3, k4, k5, k6, k7, k8⟩ := K
  have S0 := S
  obtain ⟨⟨aH, eH, aP, eP, rN, rA, hm, hs_, nh, np, tl, O, Tt, TI, ho, hM⟩, F, wk, rf, sc_, la, oa, R, Q, Ll, Kk, s0_, il, io, hOwn, hno⟩ := id S.1
  have g0 : gA h (A 0) 0 0 = some (A 6) := S0.g0
  have e6 : aH = A 6 := Option.some.inj (O.g0.symm.trans g0)
  subst e6
  have hmh : mh = nH w := by
    have e1 := k1.gS
    have e2 := Tt.1.gS
    obtain ⟨c1, m1, gg1, -, -, z1, -, z2, -⟩ := k1
    obtain ⟨c2, m2, gg2, -, -, z3, -, z4, -⟩ := Tt.1
    exact (nI_eq (by omega) (by omega)).mp (Option.some.inj (e1.symm.trans e2))
  obtain ⟨⟨r0, r1, y1⟩, y2, y3, y4, y5⟩ := k7 x (by omega)
  have e1 : f_X1_homeAt E h (A 0) (nI x) = some (hmq x) := by
    simp only [f_X1_homeAt, g0, Option.bind_some, k1.o, gdT, k1.get (show x < mh by omega)]
    rw [show isO h (hmq x) 5 = true by simp [isO, y1, hmE]]
    rfl
  have e2 := Told.homeAt (E := E) O Tt hx
  have e3 := Option.some.inj (e1.symm.trans e2)
  refine ⟨hmq x, sh x, bh x, e1, by simp [gA, rd, y1, hmE, vR], y2, y4, y5, ?_, ?_⟩
  · rw [e3]; exact Tt.rooms hx
  · rw [e3]; exact Tt.ward hx
theorem nm_house (S : SN A I M w st h nx) (K : NmS A M h nx mh mp nm) (hp : p < nP w) : ∃ a s b, f_X1_houseAt E h (A 0) (nI p) = some a ∧ gA h a 6 0 = some s ∧ NmH h s b (nm (10 + p)) ∧ NI nx M s ∧ NI nx M b ∧ isO h a 6 = true ∧ f_X7_band E h a = some (pF w p 0) ∧ f_X7_tie E h a = some (pF w p 2) ∧ f_X7_day E h a = some (pF w p 3) := by
  obtain ⟨eHq, ePq, hmq, hsq, sh, bh, sp, bp, k1, k2, k3, k4, k5, k6, k7, k8⟩ := K
  have S0 := S
  obtain ⟨⟨aH, eH, aP, eP, rN, rA, hm, hs_, nh, np, tl, O, Tt, TI, ho, hM⟩, F, wk, rf, sc_, la, oa, R, Q, Ll, Kk, s0_, il, io, hOwn, hno⟩ := id S.1
  have g0 : gA h (A 0) 0 1 = some (A 7) := S0.g1
  have e6 : aP = A 7 := Option.some.inj (O.g1.symm.trans g0)
  subst e6
  have hmh : mp = nP w := by
    have e1 := k2.gS
    have e2 := Tt.2.1.gS
    obtain ⟨c1, m1, gg1, -, -, z1, -, z2, -⟩ := k2
    obtain ⟨c2, m2, gg2, -, -, z3, -, z4, -⟩ := Tt.2.1
    exact (nI_eq (by omega) (by omega)).mp (Option.some.inj (e1.symm.trans e2))
  obtain ⟨⟨t, y1⟩, y2, y3, y4, y5⟩ := k8 p (by omega)
  have e1 : f_X1_houseAt E h (A 0) (nI p) = some (hsq p) := by
    simp only [f_X1_houseAt, g0, Option.bind_some, k2.o, gdT, k2.get (show p < mp by omega)]
    rw [show isO h (hsq p) 6 = true by simp [isO, y1, hsE]]
    rfl
  have e2 := Told.houseAt (E := E) O Tt hp
  have e3 := Option.some.inj (e1.symm.trans e2)
  refine ⟨hsq p, sp p, bp p, e1, by simp [gA, rd, y1, hsE, vR], y2, y4, y5, by simp [isO, y1, hsE], ?_, ?_, ?_⟩
  · rw [e3]; exact Tt.band hp
  · rw [e3]; exact Tt.tie hp
  · rw [e3]; exact Tt.day hp
end PRR
