theorem lo_21 {l : Launch} {G : hG} {E : bE} {fE lE : Nat} (hE : IfOK l G E fE lE) : okS1 l G E.1 21 (lL21 E) mIs (fun v => narrow .boolean (.int v) = .int v) (fE + 10) (lE + 3300) := by
  intro p e R s m args below meth c cc nL own H locs cells slots Q pc ls rest A h nx idx cnt q a vs out S hS hB hlink hent hF hsize hR hW hf hdg kk
  unfold lL21 at hF
  split at hF
  · rename_i b0 b1 b2
    obtain ⟨ho, hF⟩ := gd_t hF
    obtain ⟨fs, hfs⟩ := isO_s ho
    have hv := hF
    exact lm_call5 (xL := hS21.1) (pcL := hS21.2.1) (idxL := hS21.2.2.1) (σ := hS21.2.2.2) (sa := [a]) (cap := [.int b1, .int b2]) (y := yX1_lambda_ahead_11) S hS hB hlink q415 rfl ⟨by decide, by decide⟩ (j := 21) rfl fo_21 rfl (by decide) rfl rfl rfl hent rfl rfl ⟨by decide, by decide⟩ rfl q1308 q174 q1307 q1309 (mm_X1_lambda_ahead_11 (l := l) (G := G) (fE := fE) (lE := lE) hE hv) rfl rfl (ci := 0) rfl hfs (fL3 fd_21_0 fd_21_1 fd_21_4 fd_21_5 fd_21_8 fd_21_9) (fA1 fd_21_12) fd_21_13 fd_21_16 (Or.inr ⟨rfl, fun z => z⟩) (by show fE + 6 + 2 ≤ R.frames; omega) (by show 8 + (1 + 1 + 11) + (8 + (4 + 11) + (lE + 129)) ≤ R.locals; omega) hsize hW hf hdg rfl kk
  · cases hF
theorem lo_22 {l : Launch} {G : hG} {E : bE} {fE lE : Nat} (hE : IfOK l G E fE lE) : okS1 l G E.1 22 (lL22 E) mOf (fun _ => True) (fE + 10) (lE + 3300) := by
  intro p e R s m args below meth c cc nL own H locs cells slots Q pc ls rest A h nx idx cnt q a vs out S hS hB hlink hent hF hsize hR hW hf hdg kk
  unfold lL22 at hF
  split at hF
  · rename_i b0
    obtain ⟨v, hv, hF⟩ := ob_s hF
    cases hF
    exact lm_call6 (xL := hS22.1) (pcL := hS22.2.1) (idxL := hS22.2.2.1) (σ := hS22.2.2.2) (sa := [a]) (y := yX1_lambda_greatestChain_6) (out := (v, h, 0, 0)) S hS hB hlink q367 rfl ⟨by decide, by decide⟩ (j := 22) rfl fo_22 rfl (by decide) rfl rfl rfl hent rfl ⟨by decide, by decide⟩ rfl q1336 q174 q1337 (Met_row (mm_X1_lambda_greatestChain_6 (l := l) (G := G) (nx := nx) (fE := fE) (lE := lE) hv)) rfl rfl (fL1 fd_22_0 fd_22_1) (fA1 fd_22_4) fd_22_5 fd_22_8 (Or.inl rfl) (by show fE + 4 + 2 ≤ R.frames; omega) (by show 8 + (1 + 1 + 11) + (8 + (2 + 11) + (lE + 85)) ≤ R.locals; omega) hsize hW hf hdg rfl kk
  · cases hF
theorem lo_23 {l : Launch} {G : hG} {E : bE} {fE lE : Nat} (hE : IfOK l G E fE lE) : okS1 l G E.1 23 (lL23 E) mIs (fun v => narrow .boolean (.int v) = .int v) (fE + 10) (lE + 3300) := by
  intro p e R s m args below meth c cc nL own H locs cells slots Q pc ls rest A h nx idx cnt q a vs out S hS hB hlink hent hF hsize hR hW hf hdg kk
  unfold lL23 at hF
  split at hF
  · rename_i b0
    obtain ⟨v, hv, hF⟩ := ob_s hF
    cases hF
    exact lm_call6 (xL := hS23.1) (pcL := hS23.2.1) (idxL := hS23.2.2.1) (σ := hS23.2.2.2) (sa := [a]) (y := yX1_lambda_tally_12) (out := (v, h, 0, 0)) S hS hB hlink q415 rfl ⟨by decide, by decide⟩ (j := 23) rfl fo_23 rfl (by decide) rfl rfl rfl hent rfl ⟨by decide, by decide⟩ rfl q1346 q174 q1347 (Met_row (mm_X1_lambda_tally_12 (l := l) (G := G) (nx := nx) (fE := fE) (lE := lE) hv)) rfl rfl (fL1 fd_23_0 fd_23_1) (fA1 fd_23_4) fd_23_5 fd_23_8 (Or.inr ⟨rfl, fun z => z⟩) (by show fE + 3 + 2 ≤ R.frames; omega) (by show 8 + (1 + 1 + 11) + (8 + (2 + 11) + (lE + 64)) ≤ R.locals; omega) hsize hW hf hdg rfl kk
  · cases hF
theorem lo_24 {l : Launch} {G : hG} {E : bE} {fE lE : Nat} (hE : IfOK l G E fE lE) : okS1 l G E.1 24 (lL24 E) mIs (fun v => narrow .boolean (.int v) = .int v) (fE + 10) (lE + 3300) := by
  intro p e R s m args below meth c cc nL own H locs cells slots Q pc ls rest A h nx idx cnt q a vs out S hS hB hlink hent hF hsize hR hW hf hdg kk
  unfold lL24 at hF
  split at hF
  · rename_i b0
    obtain ⟨v, hv, hF⟩ := ob_s hF
    cases hF
    exact lm_call6 (xL := hS24.1) (pcL := hS24.2.1) (idxL := hS24.2.2.1) (σ := hS24.2.2.2) (sa := [a]) (y := yX1_lambda_tally_13) (out := (v, h, 0, 0)) S hS hB hlink q415 rfl ⟨by decide, by decide⟩ (j := 24) rfl fo_24 rfl (by decide) rfl rfl rfl hent rfl ⟨by decide, by decide⟩ rfl q1349 q174 q1350 (Met_row (mm_X1_lambda_tally_13 (l := l) (G := G) (nx := nx) (fE := fE) (lE := lE) hv)) rfl rfl (fL1 fd_24_0 fd_24_1) (fA1 fd_24_4) fd_24_5 fd_24_8 (Or.inr ⟨rfl, fun z => z⟩) (by show fE + 3 + 2 ≤ R.frames; omega) (by show 8 + (1 + 1 + 11) + (8 + (2 + 11) + (lE + 64)) ≤ R.locals; omega) hsize hW hf hdg rfl kk
  · cases hF
theorem lo_25 {l : Launch} {G : hG} {E : bE} {fE lE : Nat} (hE : IfOK l G E fE lE) : okS1 l G E.1 25 (lL25 E) mOf (fun _ => True) (fE + 10) (lE + 3300) := by
  intro p e R s m args below meth c cc nL own H locs cells slots Q pc ls rest A h nx idx cnt q a vs out S hS hB hlink hent hF hsize hR hW hf hdg kk
  unfold lL25 at hF
  split at hF
  · rename_i b0
    obtain ⟨v, hv, hF⟩ := ob_s hF
    cases hF
    exact lm_call6 (xL := hS25.1) (pcL := hS25.2.1) (idxL := hS25.2.2.1) (σ := hS25.2.2.2) (sa := [a]) (y := yX1_lambda_passedBy_5) (out := (v, h, 0, 0)) S hS hB hlink q367 rfl ⟨by decide, by decide⟩ (j := 25) rfl fo_25 rfl (by decide) rfl rfl rfl hent rfl ⟨by decide, by decide⟩ rfl q1355 q174 q1356 (Met_row (mm_X1_lambda_passedBy_5 (l := l) (G := G) (nx := nx) (fE := fE) (lE := lE) hv)) rfl rfl (fL1 fd_25_0 fd_25_1) (fA1 fd_25_4) fd_25_5 fd_25_8 (Or.inl rfl) (by show fE + 0 + 2 ≤ R.frames; omega) (by show 8 + (1 + 1 + 11) + (8 + (2 + 11) + (lE + 0)) ≤ R.locals; omega) hsize hW hf hdg rfl kk
  · cases hF
theorem lo_26 {l : Launch} {G : hG} {E : bE} {fE lE : Nat} (hE : IfOK l G E fE lE) : okS1 l G E.1 26 (lL26 E) mIs (fun v => narrow .boolean (.int v) = .int v) (fE + 10) (lE + 3300) := by
  intro p e R s m args below meth c cc nL own H locs cells slots Q pc ls rest A h nx idx cnt q a vs out S hS hB hlink hent hF hsize hR hW hf hdg kk
  unfold lL26 at hF
  split at hF
  · rename_i b0 b1
    obtain ⟨ho, hF⟩ := gd_t hF
    obtain ⟨fs, hfs⟩ := isO_s ho
    obtain ⟨v, hv, hF⟩ := ob_s hF
    cases hF
    exact lm_call5 (xL := hS26.1) (pcL := hS26.2.1) (idxL := hS26.2.2.1) (σ := hS26.2.2.2) (sa := [a]) (cap := [.int b1]) (y := yX1_lambda_lack_14) (out := (v, h, 0, 0)) S hS hB hlink q415 rfl ⟨by decide, by decide⟩ (j := 26) rfl fo_26 rfl (by decide) rfl rfl rfl hent rfl rfl ⟨by decide, by decide⟩ rfl q1362 q174 q1361 q1363 (Met_row (mm_X1_lambda_lack_14 (l := l) (G := G) (nx := nx) (fE := fE) (lE := lE) hv)) rfl rfl (ci := 0) rfl hfs (fL2 fd_26_0 fd_26_1 fd_26_4 fd_26_5) (fA1 fd_26_8) fd_26_9 fd_26_12 (Or.inr ⟨rfl, fun z => z⟩) (by show fE + 0 + 2 ≤ R.frames; omega) (by show 8 + (1 + 1 + 11) + (8 + (3 + 11) + (lE + 0)) ≤ R.locals; omega) hsize hW hf hdg rfl kk
  · cases hF
theorem lo_27 {l : Launch} {G : hG} {E : bE} {fE lE : Nat} (hE : IfOK l G E fE lE) : okS1 l G E.1 27 (lL27 E) mIs (fun v => narrow .boolean (.int v) = .int v) (fE + 10) (lE + 3300) := by
  intro p e R s m args below meth c cc nL own H locs cells slots Q pc ls rest A h nx idx cnt q a vs out S hS hB hlink hent hF hsize hR hW hf hdg kk
  unfold lL27 at hF
  split at hF
  · rename_i b0 b1
    obtain ⟨ho, hF⟩ := gd_t hF
    obtain ⟨fs, hfs⟩ := isO_s ho
    obtain ⟨v, hv, hF⟩ := ob_s hF
    cases hF
    exact lm_call5 (xL := hS27.1) (pcL := hS27.2.1) (idxL := hS27.2.2.1) (σ := hS27.2.2.2) (sa := [a]) (cap := [.int b1]) (y := yX1_lambda_lack_15) (out := (v, h, 0, 0)) S hS hB hlink q415 rfl ⟨by decide, by decide⟩ (j := 27) rfl fo_27 rfl (by decide) rfl rfl rfl hent rfl rfl ⟨by decide, by decide⟩ rfl q1365 q174 q1364 q1366 (Met_row (mm_X1_lambda_lack_15 (l := l) (G := G) (nx := nx) (fE := fE) (lE := lE) hv)) rfl rfl (ci := 0) rfl hfs (fL2 fd_27_0 fd_27_1 fd_27_4 fd_27_5) (fA1 fd_27_8) fd_27_9 fd_27_12 (Or.inr ⟨rfl, fun z => z⟩) (by show fE + 4 + 2 ≤ R.frames; omega) (by show 8 + (1 + 1 + 11) + (8 + (3 + 11) + (lE + 85)) ≤ R.locals; omega) hsize hW hf hdg rfl kk
  · cases hF
theorem lo_28 {l : Launch} {G : hG} {E : bE} {fE lE : Nat} (hE : IfOK l G E fE lE) : okS1 l G E.1 28 (lL28 E) mIs (fun v => narrow .boolean (.int v) = .int v) (fE + 10) (lE + 3300) := by
  intro p e R s m args below meth c cc nL own H locs cells slots Q pc ls rest A h nx idx cnt q a vs out S hS hB hlink hent hF hsize hR hW hf hdg kk
  unfold lL28 at hF
  split at hF
  · rename_i b0 b1
    obtain ⟨ho, hF⟩ := gd_t hF
    obtain ⟨fs, hfs⟩ := isO_s ho
    have hv := hF
    exact lm_call5 (xL := hS28.1) (pcL := hS28.2.1) (idxL := hS28.2.2.1) (σ := hS28.2.2.2) (sa := [a]) (cap := [.int b1]) (y := yX1_lambda_tip_17) S hS hB hlink q415 rfl ⟨by decide, by decide⟩ (j := 28) rfl fo_28 rfl (by decide) rfl rfl rfl hent rfl rfl ⟨by decide, by decide⟩ rfl q1512 q174 q1511 q1513 (mm_X1_lambda_tip_17 (l := l) (G := G) (fE := fE) (lE := lE) hE hv) rfl rfl (ci := 0) rfl hfs (fL2 fd_28_0 fd_28_1 fd_28_4 fd_28_5) (fA1 fd_28_8) fd_28_9 fd_28_12 (Or.inr ⟨rfl, fun z => z⟩) (by show fE + 6 + 2 ≤ R.frames; omega) (by show 8 + (1 + 1 + 11) + (8 + (3 + 11) + (lE + 129)) ≤ R.locals; omega) hsize hW hf hdg rfl kk
  · cases hF
theorem lo_29 {l : Launch} {G : hG} {E : bE} {fE lE : Nat} (hE : IfOK l G E fE lE) : okS1 l G E.1 29 (lL29 E) mOf (fun _ => True) (fE + 10) (lE + 3300) := by
  intro p e R s m args below meth c cc nL own H locs cells slots Q pc ls rest A h nx idx cnt q a vs out S hS hB hlink hent hF hsize hR hW hf hdg kk
  unfold lL29 at hF
  split at hF
  · rename_i b0 b1
    obtain ⟨ho, hF⟩ := gd_t hF
    obtain ⟨fs, hfs⟩ := isO_s ho
    have hv := hF
    exact lm_call5 (xL := hS29.1) (pcL := hS29.2.1) (idxL := hS29.2.2.1) (σ := hS29.2.2.2) (sa := [a]) (cap := [.int b1]) (y := yX1_lambda_tip_18) S hS hB hlink q367 rfl ⟨by decide, by decide⟩ (j := 29) rfl fo_29 rfl (by decide) rfl rfl rfl hent rfl rfl ⟨by decide, by decide⟩ rfl q1520 q174 q1519 q1521 (mm_X1_lambda_tip_18 (l := l) (G := G) (fE := fE) (lE := lE) hE hv) rfl rfl (ci := 0) rfl hfs (fL2 fd_29_0 fd_29_1 fd_29_4 fd_29_5) (fA1 fd_29_8) fd_29_9 fd_29_12 (Or.inl rfl) (by show fE + 3 + 2 ≤ R.frames; omega) (by show 8 + (1 + 1 + 11) + (8 + (3 + 11) + (lE + 3122)) ≤ R.locals; omega) hsize hW hf hdg rfl kk
  · cases hF
theorem lo_30 {l : Launch} {G : hG} {E : bE} {fE lE : Nat} (hE : IfOK l G E fE lE) : okS1 l G E.1 30 (lL30 E) mIs (fun v => narrow .boolean (.int v) = .int v) (fE + 10) (lE + 3300) := by
  intro p e R s m args below meth c cc nL own H locs cells slots Q pc ls rest A h nx idx cnt q a vs out S hS hB hlink hent hF hsize hR hW hf hdg kk
  unfold lL30 at hF
  split at hF
  · rename_i b0 b1 b2
    obtain ⟨ho, hF⟩ := gd_t hF
    obtain ⟨fs, hfs⟩ := isO_s ho
    have hv := hF
    exact lm_call5 (xL := hS30.1) (pcL := hS30.2.1) (idxL := hS30.2.2.1) (σ := hS30.2.2.2) (sa := [a]) (cap := [.int b1, .int b2]) (y := yX1_lambda_aheadOf_16) S hS hB hlink q415 rfl ⟨by decide, by decide⟩ (j := 30) rfl fo_30 rfl (by decide) rfl rfl rfl hent rfl rfl ⟨by decide, by decide⟩ rfl q1527 q174 q1526 q1528 (mm_X1_lambda_aheadOf_16 (l := l) (G := G) (fE := fE) (lE := lE) hE hv) rfl rfl (ci := 0) rfl hfs (fL3 fd_30_0 fd_30_1 fd_30_4 fd_30_5 fd_30_8 fd_30_9) (fA1 fd_30_12) fd_30_13 fd_30_16 (Or.inr ⟨rfl, fun z => z⟩) (by show fE + 2 + 2 ≤ R.frames; omega) (by show 8 + (1 + 1 + 11) + (8 + (4 + 11) + (lE + 63)) ≤ R.locals; omega) hsize hW hf hdg rfl kk
  · cases hF
theorem lo_31 {l : Launch} {G : hG} {E : bE} {fE lE : Nat} (hE : IfOK l G E fE lE) : okS1 l G E.1 31 (lL31 E) mOf (fun _ => True) (fE + 10) (lE + 3300) := by
  intro p e R s m args below meth c cc nL own H locs cells slots Q pc ls rest A h nx idx cnt q a vs out S hS hB hlink hent hF hsize hR hW hf hdg kk
  unfold lL31 at hF
  split at hF
  · rename_i b0 b1
    obtain ⟨ho, hF⟩ := gd_t hF
    obtain ⟨fs, hfs⟩ := isO_s ho
    obtain ⟨v, hv, hF⟩ := ob_s hF
    cases hF
    exact lm_call5 (xL := hS31.1) (pcL := hS31.2.1) (idxL := hS31.2.2.1) (σ := hS31.2.2.2) (sa := [a]) (cap := [.int b1]) (y := yX1_lambda_tip_19) (out := (v, h, 0, 0)) S hS hB hlink q367 rfl ⟨by decide, by decide⟩ (j := 31) rfl fo_31 rfl (by decide) rfl rfl rfl hent rfl rfl ⟨by decide, by decide⟩ rfl q1531 q174 q1530 q1532 (Met_row (mm_X1_lambda_tip_19 (l := l) (G := G) (nx := nx) (fE := fE) (lE := lE) hv)) rfl rfl (ci := 0) rfl hfs (fL2 fd_31_0 fd_31_1 fd_31_4 fd_31_5) (fA1 fd_31_8) fd_31_9 fd_31_12 (Or.inl rfl) (by show fE + 2 + 2 ≤ R.frames; omega) (by show 8 + (1 + 1 + 11) + (8 + (3 + 11) + (lE + 45)) ≤ R.locals; omega) hsize hW hf hdg rfl kk
  · cases hF
theorem lo_32 {l : Launch} {G : hG} {E : bE} {fE lE : Nat} (hE : IfOK l G E fE lE) : okS1 l G E.1 32 (lL32 E) mIs (fun v => narrow .boolean (.int v) = .int v) (fE + 10) (lE + 3300) := by
  intro p e R s m args below meth c cc nL own H locs cells slots Q pc ls rest A h nx idx cnt q a vs out S hS hB hlink hent hF hsize hR hW hf hdg kk
  unfold lL32 at hF
  split at hF
  · rename_i b0 b1
    obtain ⟨ho, hF⟩ := gd_t hF
    obtain ⟨fs, hfs⟩ := isO_s ho
    obtain ⟨v, hv, hF⟩ := ob_s hF
    cases hF
    exact lm_call5 (xL := hS32.1) (pcL := hS32.2.1) (idxL := hS32.2.2.1) (σ := hS32.2.2.2) (sa := [a]) (cap := [.int b1]) (y := yX1_lambda_top_20) (out := (v, h, 0, 0)) S hS hB hlink q415 rfl ⟨by decide, by decide⟩ (j := 32) rfl fo_32 rfl (by decide) rfl rfl rfl hent rfl rfl ⟨by decide, by decide⟩ rfl q1549 q174 q1548 q1550 (Met_row (mm_X1_lambda_top_20 (l := l) (G := G) (nx := nx) (fE := fE) (lE := lE) hv)) rfl rfl (ci := 0) rfl hfs (fL2 fd_32_0 fd_32_1 fd_32_4 fd_32_5) (fA1 fd_32_8) fd_32_9 fd_32_12 (Or.inr ⟨rfl, fun z => z⟩) (by show fE + 6 + 2 ≤ R.frames; omega) (by show 8 + (1 + 1 + 11) + (8 + (3 + 11) + (lE + 129)) ≤ R.locals; omega) hsize hW hf hdg rfl kk
  · cases hF
theorem lo_33 {l : Launch} {G : hG} {E : bE} {fE lE : Nat} (hE : IfOK l G E fE lE) : okS1 l G E.1 33 (lL33 E) mOf (fun _ => True) (fE + 10) (lE + 3300) := by
  intro p e R s m args below meth c cc nL own H locs cells slots Q pc ls rest A h nx idx cnt q a vs out S hS hB hlink hent hF hsize hR hW hf hdg kk
  unfold lL33 at hF
  split at hF
  · rename_i b0 b1
    obtain ⟨ho, hF⟩ := gd_t hF
    obtain ⟨fs, hfs⟩ := isO_s ho
    obtain ⟨v, hv, hF⟩ := ob_s hF
    cases hF
    exact lm_call5 (xL := hS33.1) (pcL := hS33.2.1) (idxL := hS33.2.2.1) (σ := hS33.2.2.2) (sa := [a]) (cap := [.int b1]) (y := yX1_lambda_lot_21) (out := (v, h, 0, 0)) S hS hB hlink q367 rfl ⟨by decide, by decide⟩ (j := 33) rfl fo_33 rfl (by decide) rfl rfl rfl hent rfl rfl ⟨by decide, by decide⟩ rfl q1557 q174 q1556 q1558 (Met_row (mm_X1_lambda_lot_21 (l := l) (G := G) (nx := nx) (fE := fE) (lE := lE) hv)) rfl rfl (ci := 0) rfl hfs (fL2 fd_33_0 fd_33_1 fd_33_4 fd_33_5) (fA1 fd_33_8) fd_33_9 fd_33_12 (Or.inl rfl) (by show fE + 7 + 2 ≤ R.frames; omega) (by show 8 + (1 + 1 + 11) + (8 + (3 + 11) + (lE + 151)) ≤ R.locals; omega) hsize hW hf hdg rfl kk
  · cases hF
theorem lo_34 {l : Launch} {G : hG} {E : bE} {fE lE : Nat} (hE : IfOK l G E fE lE) : okS1 l G E.1 34 (lL34 E) mOf (fun _ => True) (fE + 10) (lE + 3300) := by
  intro p e R s m args below meth c cc nL own H locs cells slots Q pc ls rest A h nx idx cnt q a vs out S hS hB hlink hent hF hsize hR hW hf hdg kk
  unfold lL34 at hF
  split at hF
  · rename_i b0 b1 b2
    obtain ⟨ho, hF⟩ := gd_t hF
    obtain ⟨fs, hfs⟩ := isO_s ho
    obtain ⟨v, hv, hF⟩ := ob_s hF
    cases hF
    exact lm_call5 (xL := hS34.1) (pcL := hS34.2.1) (idxL := hS34.2.2.1) (σ := hS34.2.2.2) (sa := [a]) (cap := [.int b1, .int b2]) (y := yX1_lambda_fits_22) (out := (v, h, 0, 0)) S hS hB hlink q367 rfl ⟨by decide, by decide⟩ (j := 34) rfl fo_34 rfl (by decide) rfl rfl rfl hent rfl rfl ⟨by decide, by decide⟩ rfl q1572 q174 q1571 q1573 (Met_row (mm_X1_lambda_fits_22 (l := l) (G := G) (nx := nx) (fE := fE) (lE := lE) hv)) rfl rfl (ci := 0) rfl hfs (fL3 fd_34_0 fd_34_1 fd_34_4 fd_34_5 fd_34_8 fd_34_9) (fA1 fd_34_12) fd_34_13 fd_34_16 (Or.inl rfl) (by show fE + 5 + 2 ≤ R.frames; omega) (by show 8 + (1 + 1 + 11) + (8 + (4 + 11) + (lE + 107)) ≤ R.locals; omega) hsize hW hf hdg rfl kk
  · cases hF
theorem lo_35 {l : Launch} {G : hG} {E : bE} {fE lE : Nat} (hE : IfOK l G E fE lE) : okS1 l G E.1 35 (lL35 E) mIs (fun v => narrow .boolean (.int v) = .int v) (fE + 10) (lE + 3300) := by
  intro p e R s m args below meth c cc nL own H locs cells slots Q pc ls rest A h nx idx cnt q a vs out S hS hB hlink hent hF hsize hR hW hf hdg kk
  unfold lL35 at hF
  split at hF
  · rename_i b0
    obtain ⟨ho, hF⟩ := gd_t hF
    obtain ⟨fs, hfs⟩ := isO_s ho
    have hv := hF
    exact lm_call5 (xL := hS35.1) (pcL := hS35.2.1) (idxL := hS35.2.2.1) (σ := hS35.2.2.2) (sa := [a]) (cap := []) (y := yX1_lambda_ward_26) S hS hB hlink q415 rfl ⟨by decide, by decide⟩ (j := 35) rfl fo_35 rfl (by decide) rfl rfl rfl hent rfl rfl ⟨by decide, by decide⟩ rfl q1580 q174 q1579 q1581 (mm_X1_lambda_ward_26 (l := l) (G := G) (fE := fE) (lE := lE) hE hv) rfl rfl (ci := 0) rfl hfs (fL1 fd_35_0 fd_35_1) (fA1 fd_35_4) fd_35_5 fd_35_8 (Or.inr ⟨rfl, fun z => z⟩) (by show fE + 2 + 2 ≤ R.frames; omega) (by show 8 + (1 + 1 + 11) + (8 + (2 + 11) + (lE + 3100)) ≤ R.locals; omega) hsize hW hf hdg rfl kk
  · cases hF
theorem lo_36 {l : Launch} {G : hG} {E : bE} {fE lE : Nat} (hE : IfOK l G E fE lE) : okS1 l G E.1 36 (lL36 E) mIs (fun v => narrow .boolean (.int v) = .int v) (fE + 10) (lE + 3300) := by
  intro p e R s m args below meth c cc nL own H locs cells slots Q pc ls rest A h nx idx cnt q a vs out S hS hB hlink hent hF hsize hR hW hf hdg kk
  unfold lL36 at hF
  split at hF
  · rename_i b0 b1
    obtain ⟨ho, hF⟩ := gd_t hF
    obtain ⟨fs, hfs⟩ := isO_s ho
    obtain ⟨v, hv, hF⟩ := ob_s hF
    cases hF
    exact lm_call5 (xL := hS36.1) (pcL := hS36.2.1) (idxL := hS36.2.2.1) (σ := hS36.2.2.2) (sa := [a]) (cap := [.int b1]) (y := yX1_lambda_ward_25) (out := (v, h, 0, 0)) S hS hB hlink q415 rfl ⟨by decide, by decide⟩ (j := 36) rfl fo_36 rfl (by decide) rfl rfl rfl hent rfl rfl ⟨by decide, by decide⟩ rfl q1583 q174 q1582 q1584 (Met_row (mm_X1_lambda_ward_25 (l := l) (G := G) (nx := nx) (fE := fE) (lE := lE) hv)) rfl rfl (ci := 0) rfl hfs (fL2 fd_36_0 fd_36_1 fd_36_4 fd_36_5) (fA1 fd_36_8) fd_36_9 fd_36_12 (Or.inr ⟨rfl, fun z => z⟩) (by show fE + 4 + 2 ≤ R.frames; omega) (by show 8 + (1 + 1 + 11) + (8 + (3 + 11) + (lE + 85)) ≤ R.locals; omega) hsize hW hf hdg rfl kk
  · cases hF
theorem lo_37 {l : Launch} {G : hG} {E : bE} {fE lE : Nat} (hE : IfOK l G E fE lE) : okS1 l G E.1 37 (lL37 E) mOf (fun _ => True) (fE + 10) (lE + 3300) := by
  intro p e R s m args below meth c cc nL own H locs cells slots Q pc ls rest A h nx idx cnt q a vs out S hS hB hlink hent hF hsize hR hW hf hdg kk
  unfold lL37 at hF
  split at hF
  · rename_i b0
    obtain ⟨ho, hF⟩ := gd_t hF
    obtain ⟨fs, hfs⟩ := isO_s ho
    have hv := hF
    exact lm_call5 (xL := hS37.1) (pcL := hS37.2.1) (idxL := hS37.2.2.1) (σ := hS37.2.2.2) (sa := [a]) (cap := []) (y := yX1_lambda_ward_27) S hS hB hlink q367 rfl ⟨by decide, by decide⟩ (j := 37) rfl fo_37 rfl (by decide) rfl rfl rfl hent rfl rfl ⟨by decide, by decide⟩ rfl q1586 q174 q1585 q1587 (mm_X1_lambda_ward_27 (l := l) (G := G) (fE := fE) (lE := lE) hE hv) rfl rfl (ci := 0) rfl hfs (fL1 fd_37_0 fd_37_1) (fA1 fd_37_4) fd_37_5 fd_37_8 (Or.inl rfl) (by show fE + 3 + 2 ≤ R.frames; omega) (by show 8 + (1 + 1 + 11) + (8 + (2 + 11) + (lE + 3121)) ≤ R.locals; omega) hsize hW hf hdg rfl kk
  · cases hF
theorem lo_38 {l : Launch} {G : hG} {E : bE} {fE lE : Nat} (hE : IfOK l G E fE lE) : okS1 l G E.1 38 (lL38 E) mIs (fun v => narrow .boolean (.int v) = .int v) (fE + 10) (lE + 3300) := by
  intro p e R s m args below meth c cc nL own H locs cells slots Q pc ls rest A h nx idx cnt q a vs out S hS hB hlink hent hF hsize hR hW hf hdg kk
  unfold lL38 at hF
  split at hF
  · rename_i b0 b1
    obtain ⟨ho, hF⟩ := gd_t hF
    obtain ⟨fs, hfs⟩ := isO_s ho
    obtain ⟨v, hv, hF⟩ := ob_s hF
    cases hF
    exact lm_call5 (xL := hS38.1) (pcL := hS38.2.1) (idxL := hS38.2.2.1) (σ := hS38.2.2.2) (sa := [a]) (cap := [.int b1]) (y := yX1_lambda_muchOf_23) (out := (v, h, 0, 0)) S hS hB hlink q415 rfl ⟨by decide, by decide⟩ (j := 38) rfl fo_38 rfl (by decide) rfl rfl rfl hent rfl rfl ⟨by decide, by decide⟩ rfl q1593 q174 q1592 q1594 (Met_row (mm_X1_lambda_muchOf_23 (l := l) (G := G) (nx := nx) (fE := fE) (lE := lE) hv)) rfl rfl (ci := 0) rfl hfs (fL2 fd_38_0 fd_38_1 fd_38_4 fd_38_5) (fA1 fd_38_8) fd_38_9 fd_38_12 (Or.inr ⟨rfl, fun z => z⟩) (by show fE + 4 + 2 ≤ R.frames; omega) (by show 8 + (1 + 1 + 11) + (8 + (3 + 11) + (lE + 85)) ≤ R.locals; omega) hsize hW hf hdg rfl kk
  · cases hF
theorem lo_39 {l : Launch} {G : hG} {E : bE} {fE lE : Nat} (hE : IfOK l G E fE lE) : okS1 l G E.1 39 (lL39 E) mIs (fun v => narrow .boolean (.int v) = .int v) (fE + 10) (lE + 3300) := by
  intro p e R s m args below meth c cc nL own H locs cells slots Q pc ls rest A h nx idx cnt q a vs out S hS hB hlink hent hF hsize hR hW hf hdg kk
  unfold lL39 at hF
  split at hF
  · rename_i b0 b1
    obtain ⟨ho, hF⟩ := gd_t hF
    obtain ⟨fs, hfs⟩ := isO_s ho
    obtain ⟨v, hv, hF⟩ := ob_s hF
    cases hF
    exact lm_call5 (xL := hS39.1) (pcL := hS39.2.1) (idxL := hS39.2.2.1) (σ := hS39.2.2.2) (sa := [a]) (cap := [.int b1]) (y := yX1_lambda_muchOf_24) (out := (v, h, 0, 0)) S hS hB hlink q415 rfl ⟨by decide, by decide⟩ (j := 39) rfl fo_39 rfl (by decide) rfl rfl rfl hent rfl rfl ⟨by decide, by decide⟩ rfl q1596 q174 q1595 q1597 (Met_row (mm_X1_lambda_muchOf_24 (l := l) (G := G) (nx := nx) (fE := fE) (lE := lE) hv)) rfl rfl (ci := 0) rfl hfs (fL2 fd_39_0 fd_39_1 fd_39_4 fd_39_5) (fA1 fd_39_8) fd_39_9 fd_39_12 (Or.inr ⟨rfl, fun z => z⟩) (by show fE + 4 + 2 ≤ R.frames; omega) (by show 8 + (1 + 1 + 11) + (8 + (3 + 11) + (lE + 85)) ≤ R.locals; omega) hsize hW hf hdg rfl kk
  · cases hF
theorem lo_40 {l : Launch} {G : hG} {E : bE} {fE lE : Nat} (hE : IfOK l G E fE lE) : okS1 l G E.1 40 (lL40 E) mIs (fun v => narrow .boolean (.int v) = .int v) (fE + 10) (lE + 3300) := by
  intro p e R s m args below meth c cc nL own H locs cells slots Q pc ls rest A h nx idx cnt q a vs out S hS hB hlink hent hF hsize hR hW hf hdg kk
  unfold lL40 at hF
  split at hF
  · rename_i b0 b1
    obtain ⟨ho, hF⟩ := gd_t hF
    obtain ⟨fs, hfs⟩ := isO_s ho
    obtain ⟨v, hv, hF⟩ := ob_s hF
    cases hF
    exact lm_call5 (xL := hS40.1) (pcL := hS40.2.1) (idxL := hS40.2.2.1) (σ := hS40.2.2.2) (sa := [a]) (cap := [.ref b1]) (y := yX1_lambda_queue_28) (out := (v, h, 0, 0)) S hS hB hlink q415 rfl ⟨by decide, by decide⟩ (j := 40) rfl fo_40 rfl (by decide) rfl rfl rfl hent rfl rfl ⟨by decide, by decide⟩ rfl q1626 q174 q1625 q1627 (Met_row (mm_X1_lambda_queue_28 (l := l) (G := G) (nx := nx) (fE := fE) (lE := lE) hv)) rfl rfl (ci := 0) rfl hfs (fL2 fd_40_0 fd_40_1 fd_40_4 fd_40_5) (fA1 fd_40_8) fd_40_9 fd_40_12 (Or.inr ⟨rfl, fun z => z⟩) (by show fE + 0 + 2 ≤ R.frames; omega) (by show 8 + (1 + 1 + 11) + (8 + (3 + 11) + (lE + 0)) ≤ R.locals; omega) hsize hW hf hdg rfl kk
  · cases hF
theorem lo_41 {l : Launch} {G : hG} {E : bE} {fE lE : Nat} (hE : IfOK l G E fE lE) : okS1 l G E.1 41 (lL41 E) mIs (fun v => narrow .boolean (.int v) = .int v) (fE + 10) (lE + 3300) := by
  intro p e R s m args below meth c cc nL own H locs cells slots Q pc ls rest A h nx idx cnt q a vs out S hS hB hlink hent hF hsize hR hW hf hdg kk
  unfold lL41 at hF
  split at hF
  · rename_i b0 b1
    obtain ⟨ho, hF⟩ := gd_t hF
    obtain ⟨fs, hfs⟩ := isO_s ho
    obtain ⟨v, hv, hF⟩ := ob_s hF
    cases hF
    exact lm_call5 (xL := hS41.1) (pcL := hS41.2.1) (idxL := hS41.2.2.1) (σ := hS41.2.2.2) (sa := [a]) (cap := [.ref b1]) (y := yX1_lambda_trades_29) (out := (v, h, 0, 0)) S hS hB hlink q415 rfl ⟨by decide, by decide⟩ (j := 41) rfl fo_41 rfl (by decide) rfl rfl rfl hent rfl rfl ⟨by decide, by decide⟩ rfl q1723 q174 q1722 q1724 (Met_row (mm_X1_lambda_trades_29 (l := l) (G := G) (nx := nx) (fE := fE) (lE := lE) hv)) rfl rfl (ci := 0) rfl hfs (fL2 fd_41_0 fd_41_1 fd_41_4 fd_41_5) (fA1 fd_41_8) fd_41_9 fd_41_12 (Or.inr ⟨rfl, fun z => z⟩) (by show fE + 0 + 2 ≤ R.frames; omega) (by show 8 + (1 + 1 + 11) + (8 + (3 + 11) + (lE + 0)) ≤ R.locals; omega) hsize hW hf hdg rfl kk
  · cases hF
