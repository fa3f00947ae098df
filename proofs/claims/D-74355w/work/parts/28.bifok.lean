theorem ok_dIS {l : Launch} {G : hG} {E E1 : bE} {fE lE : Nat} (hz : E1.1 = E.1) (hE : IfOK l G E fE lE) : okI1 l G E1 (dIS E) mIs (fun v => narrow .boolean (.int v) = .int v) (fE + 10) (lE + 3300) := by
  intro p e R s m args below meth c cc nL own H locs cells slots Q pc ls rest A h nx idx cnt q a out S hS hB hlink hF hsize hR hW hf hdg kk
  rw [hz] at hS
  unfold dIS at hF
  split at hF
  · rename_i z hz2
    obtain ⟨j, vs⟩ := z
    unfold dISk at hF
    by_cases h0 : j = 0
    · subst h0; exact lo_0 hE p e R s m args below meth c cc nL own H locs cells slots Q pc ls rest A h nx idx cnt q a vs out S hS hB hlink hz2 hF hsize hR hW hf hdg kk
    rw [if_neg h0] at hF
    by_cases h1 : j = 1
    · subst h1; exact lo_1 hE p e R s m args below meth c cc nL own H locs cells slots Q pc ls rest A h nx idx cnt q a vs out S hS hB hlink hz2 hF hsize hR hW hf hdg kk
    rw [if_neg h1] at hF
    by_cases h2 : j = 2
    · subst h2; exact lo_2 hE p e R s m args below meth c cc nL own H locs cells slots Q pc ls rest A h nx idx cnt q a vs out S hS hB hlink hz2 hF hsize hR hW hf hdg kk
    rw [if_neg h2] at hF
    by_cases h3 : j = 3
    · subst h3; exact lo_3 hE p e R s m args below meth c cc nL own H locs cells slots Q pc ls rest A h nx idx cnt q a vs out S hS hB hlink hz2 hF hsize hR hW hf hdg kk
    rw [if_neg h3] at hF
    by_cases h4 : j = 4
    · subst h4; exact lo_4 hE p e R s m args below meth c cc nL own H locs cells slots Q pc ls rest A h nx idx cnt q a vs out S hS hB hlink hz2 hF hsize hR hW hf hdg kk
    rw [if_neg h4] at hF
    by_cases h5 : j = 5
    · subst h5; exact lo_5 hE p e R s m args below meth c cc nL own H locs cells slots Q pc ls rest A h nx idx cnt q a vs out S hS hB hlink hz2 hF hsize hR hW hf hdg kk
    rw [if_neg h5] at hF
    by_cases h11 : j = 11
    · subst h11; exact lo_11 hE p e R s m args below meth c cc nL own H locs cells slots Q pc ls rest A h nx idx cnt q a vs out S hS hB hlink hz2 hF hsize hR hW hf hdg kk
    rw [if_neg h11] at hF
    by_cases h13 : j = 13
    · subst h13; exact lo_13 hE p e R s m args below meth c cc nL own H locs cells slots Q pc ls rest A h nx idx cnt q a vs out S hS hB hlink hz2 hF hsize hR hW hf hdg kk
    rw [if_neg h13] at hF
    by_cases h15 : j = 15
    · subst h15; exact lo_15 hE p e R s m args below meth c cc nL own H locs cells slots Q pc ls rest A h nx idx cnt q a vs out S hS hB hlink hz2 hF hsize hR hW hf hdg kk
    rw [if_neg h15] at hF
    by_cases h16 : j = 16
    · subst h16; exact lo_16 hE p e R s m args below meth c cc nL own H locs cells slots Q pc ls rest A h nx idx cnt q a vs out S hS hB hlink hz2 hF hsize hR hW hf hdg kk
    rw [if_neg h16] at hF
    by_cases h17 : j = 17
    · subst h17; exact lo_17 hE p e R s m args below meth c cc nL own H locs cells slots Q pc ls rest A h nx idx cnt q a vs out S hS hB hlink hz2 hF hsize hR hW hf hdg kk
    rw [if_neg h17] at hF
    by_cases h18 : j = 18
    · subst h18; exact lo_18 hE p e R s m args below meth c cc nL own H locs cells slots Q pc ls rest A h nx idx cnt q a vs out S hS hB hlink hz2 hF hsize hR hW hf hdg kk
    rw [if_neg h18] at hF
    by_cases h19 : j = 19
    · subst h19; exact lo_19 hE p e R s m args below meth c cc nL own H locs cells slots Q pc ls rest A h nx idx cnt q a vs out S hS hB hlink hz2 hF hsize hR hW hf hdg kk
    rw [if_neg h19] at hF
    by_cases h21 : j = 21
    · subst h21; exact lo_21 hE p e R s m args below meth c cc nL own H locs cells slots Q pc ls rest A h nx idx cnt q a vs out S hS hB hlink hz2 hF hsize hR hW hf hdg kk
    rw [if_neg h21] at hF
    by_cases h23 : j = 23
    · subst h23; exact lo_23 hE p e R s m args below meth c cc nL own H locs cells slots Q pc ls rest A h nx idx cnt q a vs out S hS hB hlink hz2 hF hsize hR hW hf hdg kk
    rw [if_neg h23] at hF
    by_cases h24 : j = 24
    · subst h24; exact lo_24 hE p e R s m args below meth c cc nL own H locs cells slots Q pc ls rest A h nx idx cnt q a vs out S hS hB hlink hz2 hF hsize hR hW hf hdg kk
    rw [if_neg h24] at hF
    by_cases h26 : j = 26
    · subst h26; exact lo_26 hE p e R s m args below meth c cc nL own H locs cells slots Q pc ls rest A h nx idx cnt q a vs out S hS hB hlink hz2 hF hsize hR hW hf hdg kk
    rw [if_neg h26] at hF
    by_cases h27 : j = 27
    · subst h27; exact lo_27 hE p e R s m args below meth c cc nL own H locs cells slots Q pc ls rest A h nx idx cnt q a vs out S hS hB hlink hz2 hF hsize hR hW hf hdg kk
    rw [if_neg h27] at hF
    by_cases h28 : j = 28
    · subst h28; exact lo_28 hE p e R s m args below meth c cc nL own H locs cells slots Q pc ls rest A h nx idx cnt q a vs out S hS hB hlink hz2 hF hsize hR hW hf hdg kk
    rw [if_neg h28] at hF
    by_cases h30 : j = 30
    · subst h30; exact lo_30 hE p e R s m args below meth c cc nL own H locs cells slots Q pc ls rest A h nx idx cnt q a vs out S hS hB hlink hz2 hF hsize hR hW hf hdg kk
    rw [if_neg h30] at hF
    by_cases h32 : j = 32
    · subst h32; exact lo_32 hE p e R s m args below meth c cc nL own H locs cells slots Q pc ls rest A h nx idx cnt q a vs out S hS hB hlink hz2 hF hsize hR hW hf hdg kk
    rw [if_neg h32] at hF
    by_cases h35 : j = 35
    · subst h35; exact lo_35 hE p e R s m args below meth c cc nL own H locs cells slots Q pc ls rest A h nx idx cnt q a vs out S hS hB hlink hz2 hF hsize hR hW hf hdg kk
    rw [if_neg h35] at hF
    by_cases h36 : j = 36
    · subst h36; exact lo_36 hE p e R s m args below meth c cc nL own H locs cells slots Q pc ls rest A h nx idx cnt q a vs out S hS hB hlink hz2 hF hsize hR hW hf hdg kk
    rw [if_neg h36] at hF
    by_cases h38 : j = 38
    · subst h38; exact lo_38 hE p e R s m args below meth c cc nL own H locs cells slots Q pc ls rest A h nx idx cnt q a vs out S hS hB hlink hz2 hF hsize hR hW hf hdg kk
    rw [if_neg h38] at hF
    by_cases h39 : j = 39
    · subst h39; exact lo_39 hE p e R s m args below meth c cc nL own H locs cells slots Q pc ls rest A h nx idx cnt q a vs out S hS hB hlink hz2 hF hsize hR hW hf hdg kk
    rw [if_neg h39] at hF
    by_cases h40 : j = 40
    · subst h40; exact lo_40 hE p e R s m args below meth c cc nL own H locs cells slots Q pc ls rest A h nx idx cnt q a vs out S hS hB hlink hz2 hF hsize hR hW hf hdg kk
    rw [if_neg h40] at hF
    by_cases h41 : j = 41
    · subst h41; exact lo_41 hE p e R s m args below meth c cc nL own H locs cells slots Q pc ls rest A h nx idx cnt q a vs out S hS hB hlink hz2 hF hsize hR hW hf hdg kk
    rw [if_neg h41] at hF
    cases hF
  · cases hF
theorem ok_dBY {l : Launch} {G : hG} {E E1 : bE} {fE lE : Nat} (hz : E1.1 = E.1) (hE : IfOK l G E fE lE) : okI2 l G E1 (dBY E) mBy (fE + 10) (lE + 3300) := by
  intro p e R s m args below meth c cc nL own H locs cells slots Q pc ls rest A h nx idx cnt q a a2 out S hS hB hlink hF hsize hR hW hf hdg kk
  rw [hz] at hS
  unfold dBY at hF
  split at hF
  · rename_i z hz2
    obtain ⟨j, vs⟩ := z
    unfold dBYk at hF
    by_cases h7 : j = 7
    · subst h7; exact lo_7 hE p e R s m args below meth c cc nL own H locs cells slots Q pc ls rest A h nx idx cnt q a a2 vs out S hS hB hlink hz2 hF hsize hR hW hf hdg kk
    rw [if_neg h7] at hF
    by_cases h10 : j = 10
    · subst h10; exact lo_10 hE p e R s m args below meth c cc nL own H locs cells slots Q pc ls rest A h nx idx cnt q a a2 vs out S hS hB hlink hz2 hF hsize hR hW hf hdg kk
    rw [if_neg h10] at hF
    by_cases h12 : j = 12
    · subst h12; exact lo_12 hE p e R s m args below meth c cc nL own H locs cells slots Q pc ls rest A h nx idx cnt q a a2 vs out S hS hB hlink hz2 hF hsize hR hW hf hdg kk
    rw [if_neg h12] at hF
    by_cases h20 : j = 20
    · subst h20; exact lo_20 hE p e R s m args below meth c cc nL own H locs cells slots Q pc ls rest A h nx idx cnt q a a2 vs out S hS hB hlink hz2 hF hsize hR hW hf hdg kk
    rw [if_neg h20] at hF
    cases hF
  · cases hF
theorem ok_dOF {l : Launch} {G : hG} {E E1 : bE} {fE lE : Nat} (hz : E1.1 = E.1) (hE : IfOK l G E fE lE) : okI1 l G E1 (dOF E) mOf (fun _ => True) (fE + 10) (lE + 3300) := by
  intro p e R s m args below meth c cc nL own H locs cells slots Q pc ls rest A h nx idx cnt q a out S hS hB hlink hF hsize hR hW hf hdg kk
  rw [hz] at hS
  unfold dOF at hF
  split at hF
  · rename_i z hz2
    obtain ⟨j, vs⟩ := z
    unfold dOFk at hF
    by_cases h6 : j = 6
    · subst h6; exact lo_6 hE p e R s m args below meth c cc nL own H locs cells slots Q pc ls rest A h nx idx cnt q a vs out S hS hB hlink hz2 hF hsize hR hW hf hdg kk
    rw [if_neg h6] at hF
    by_cases h8 : j = 8
    · subst h8; exact lo_8 hE p e R s m args below meth c cc nL own H locs cells slots Q pc ls rest A h nx idx cnt q a vs out S hS hB hlink hz2 hF hsize hR hW hf hdg kk
    rw [if_neg h8] at hF
    by_cases h9 : j = 9
    · subst h9; exact lo_9 hE p e R s m args below meth c cc nL own H locs cells slots Q pc ls rest A h nx idx cnt q a vs out S hS hB hlink hz2 hF hsize hR hW hf hdg kk
    rw [if_neg h9] at hF
    by_cases h14 : j = 14
    · subst h14; exact lo_14 hE p e R s m args below meth c cc nL own H locs cells slots Q pc ls rest A h nx idx cnt q a vs out S hS hB hlink hz2 hF hsize hR hW hf hdg kk
    rw [if_neg h14] at hF
    by_cases h22 : j = 22
    · subst h22; exact lo_22 hE p e R s m args below meth c cc nL own H locs cells slots Q pc ls rest A h nx idx cnt q a vs out S hS hB hlink hz2 hF hsize hR hW hf hdg kk
    rw [if_neg h22] at hF
    by_cases h25 : j = 25
    · subst h25; exact lo_25 hE p e R s m args below meth c cc nL own H locs cells slots Q pc ls rest A h nx idx cnt q a vs out S hS hB hlink hz2 hF hsize hR hW hf hdg kk
    rw [if_neg h25] at hF
    by_cases h29 : j = 29
    · subst h29; exact lo_29 hE p e R s m args below meth c cc nL own H locs cells slots Q pc ls rest A h nx idx cnt q a vs out S hS hB hlink hz2 hF hsize hR hW hf hdg kk
    rw [if_neg h29] at hF
    by_cases h31 : j = 31
    · subst h31; exact lo_31 hE p e R s m args below meth c cc nL own H locs cells slots Q pc ls rest A h nx idx cnt q a vs out S hS hB hlink hz2 hF hsize hR hW hf hdg kk
    rw [if_neg h31] at hF
    by_cases h33 : j = 33
    · subst h33; exact lo_33 hE p e R s m args below meth c cc nL own H locs cells slots Q pc ls rest A h nx idx cnt q a vs out S hS hB hlink hz2 hF hsize hR hW hf hdg kk
    rw [if_neg h33] at hF
    by_cases h34 : j = 34
    · subst h34; exact lo_34 hE p e R s m args below meth c cc nL own H locs cells slots Q pc ls rest A h nx idx cnt q a vs out S hS hB hlink hz2 hF hsize hR hW hf hdg kk
    rw [if_neg h34] at hF
    by_cases h37 : j = 37
    · subst h37; exact lo_37 hE p e R s m args below meth c cc nL own H locs cells slots Q pc ls rest A h nx idx cnt q a vs out S hS hB hlink hz2 hF hsize hR hW hf hdg kk
    rw [if_neg h37] at hF
    cases hF
  · cases hF
theorem ok_dE {l : Launch} {G : hG} {zs : Nat → Nat} : ∀ n, IfOK l G (dE zs n) (10 * n) (3300 * n)
  | 0 => ⟨fun _ _ _ _ _ _ _ _ _ _ _ _ _ _ _ _ _ _ _ _ _ _ _ _ _ _ _ _ _ _ _ _ hF => absurd (show (none : Option (Int32 × AH × Nat × Nat)) = some _ from hF) (by nofun), fun _ _ _ _ _ _ _ _ _ _ _ _ _ _ _ _ _ _ _ _ _ _ _ _ _ _ _ _ _ _ _ _ _ hF => absurd (show (none : Option (Int32 × AH × Nat × Nat)) = some _ from hF) (by nofun), fun _ _ _ _ _ _ _ _ _ _ _ _ _ _ _ _ _ _ _ _ _ _ _ _ _ _ _ _ _ _ _ _ hF => absurd (show (none : Option (Int32 × AH × Nat × Nat)) = some _ from hF) (by nofun)⟩
  | n + 1 => ⟨ok_dIS (dE_1 n).symm (ok_dE n), ok_dBY (dE_1 n).symm (ok_dE n), ok_dOF (dE_1 n).symm (ok_dE n)⟩
