theorem lo_0 {l : Launch} {G : hG} {E : bE} {fE lE : Nat} (hE : IfOK l G E fE lE) : okS1 l G E.1 0 (lL0 E) mIs (fun v => narrow .boolean (.int v) = .int v) (fE + 10) (lE + 3300) := by
  intro p e R s m args below meth c cc nL own H locs cells slots Q pc ls rest A h nx idx cnt q a vs out S hS hB hlink hent hF hsize hR hW hf hdg kk
  unfold lL0 at hF
  split at hF
  · rename_i b0
    obtain ⟨ho, hF⟩ := gd_t hF
    obtain ⟨fs, hfs⟩ := isO_s ho
    obtain ⟨v, hv, hF⟩ := ob_s hF
    cases hF
    exact lm_call5 (xL := hS0.1) (pcL := hS0.2.1) (idxL := hS0.2.2.1) (σ := hS0.2.2.2) (sa := [a]) (cap := []) (y := yX2_lambda_new_0) (out := (v, h, 0, 0)) S hS hB hlink q415 rfl ⟨by decide, by decide⟩ (j := 0) rfl fo_0 rfl (by decide) rfl rfl rfl hent rfl rfl ⟨by decide, by decide⟩ rfl q261 q178 q260 q262 (Met_row (mm_X2_lambda_new_0 (l := l) (G := G) (nx := nx) (fE := fE) (lE := lE) hv)) rfl rfl (ci := 1) rfl hfs (fL1 fd_0_0 fd_0_1) (fA1 fd_0_4) fd_0_5 fd_0_8 (Or.inr ⟨rfl, fun z => z⟩) (by show fE + 0 + 2 ≤ R.frames; omega) (by show 8 + (1 + 1 + 11) + (8 + (2 + 11) + (lE + 0)) ≤ R.locals; omega) hsize hW hf hdg rfl kk
  · cases hF
theorem lo_1 {l : Launch} {G : hG} {E : bE} {fE lE : Nat} (hE : IfOK l G E fE lE) : okS1 l G E.1 1 (lL1 E) mIs (fun v => narrow .boolean (.int v) = .int v) (fE + 10) (lE + 3300) := by
  intro p e R s m args below meth c cc nL own H locs cells slots Q pc ls rest A h nx idx cnt q a vs out S hS hB hlink hent hF hsize hR hW hf hdg kk
  unfold lL1 at hF
  split at hF
  · rename_i b0
    obtain ⟨ho, hF⟩ := gd_t hF
    obtain ⟨fs, hfs⟩ := isO_s ho
    obtain ⟨v, hv, hF⟩ := ob_s hF
    cases hF
    exact lm_call5 (xL := hS1.1) (pcL := hS1.2.1) (idxL := hS1.2.2.1) (σ := hS1.2.2.2) (sa := [a]) (cap := []) (y := yX2_lambda_new_1) (out := (v, h, 0, 0)) S hS hB hlink q415 rfl ⟨by decide, by decide⟩ (j := 1) rfl fo_1 rfl (by decide) rfl rfl rfl hent rfl rfl ⟨by decide, by decide⟩ rfl q264 q178 q263 q265 (Met_row (mm_X2_lambda_new_1 (l := l) (G := G) (nx := nx) (fE := fE) (lE := lE) hv)) rfl rfl (ci := 1) rfl hfs (fL1 fd_1_0 fd_1_1) (fA1 fd_1_4) fd_1_5 fd_1_8 (Or.inr ⟨rfl, fun z => z⟩) (by show fE + 0 + 2 ≤ R.frames; omega) (by show 8 + (1 + 1 + 11) + (8 + (2 + 11) + (lE + 0)) ≤ R.locals; omega) hsize hW hf hdg rfl kk
  · cases hF
theorem lo_2 {l : Launch} {G : hG} {E : bE} {fE lE : Nat} (hE : IfOK l G E fE lE) : okS1 l G E.1 2 (lL2 E) mIs (fun v => narrow .boolean (.int v) = .int v) (fE + 10) (lE + 3300) := by
  intro p e R s m args below meth c cc nL own H locs cells slots Q pc ls rest A h nx idx cnt q a vs out S hS hB hlink hent hF hsize hR hW hf hdg kk
  unfold lL2 at hF
  split at hF
  · rename_i b0
    obtain ⟨ho, hF⟩ := gd_t hF
    obtain ⟨fs, hfs⟩ := isO_s ho
    obtain ⟨v, hv, hF⟩ := ob_s hF
    cases hF
    exact lm_call5 (xL := hS2.1) (pcL := hS2.2.1) (idxL := hS2.2.2.1) (σ := hS2.2.2.2) (sa := [a]) (cap := []) (y := yX2_lambda_new_2) (out := (v, h, 0, 0)) S hS hB hlink q415 rfl ⟨by decide, by decide⟩ (j := 2) rfl fo_2 rfl (by decide) rfl rfl rfl hent rfl rfl ⟨by decide, by decide⟩ rfl q267 q178 q266 q268 (Met_row (mm_X2_lambda_new_2 (l := l) (G := G) (nx := nx) (fE := fE) (lE := lE) hv)) rfl rfl (ci := 1) rfl hfs (fL1 fd_2_0 fd_2_1) (fA1 fd_2_4) fd_2_5 fd_2_8 (Or.inr ⟨rfl, fun z => z⟩) (by show fE + 3 + 2 ≤ R.frames; omega) (by show 8 + (1 + 1 + 11) + (8 + (2 + 11) + (lE + 63)) ≤ R.locals; omega) hsize hW hf hdg rfl kk
  · cases hF
theorem lo_3 {l : Launch} {G : hG} {E : bE} {fE lE : Nat} (hE : IfOK l G E fE lE) : okS1 l G E.1 3 (lL3 E) mIs (fun v => narrow .boolean (.int v) = .int v) (fE + 10) (lE + 3300) := by
  intro p e R s m args below meth c cc nL own H locs cells slots Q pc ls rest A h nx idx cnt q a vs out S hS hB hlink hent hF hsize hR hW hf hdg kk
  unfold lL3 at hF
  split at hF
  · rename_i b0
    obtain ⟨ho, hF⟩ := gd_t hF
    obtain ⟨fs, hfs⟩ := isO_s ho
    obtain ⟨v, hv, hF⟩ := ob_s hF
    cases hF
    exact lm_call5 (xL := hS3.1) (pcL := hS3.2.1) (idxL := hS3.2.2.1) (σ := hS3.2.2.2) (sa := [a]) (cap := []) (y := yX2_lambda_new_3) (out := (v, h, 0, 0)) S hS hB hlink q415 rfl ⟨by decide, by decide⟩ (j := 3) rfl fo_3 rfl (by decide) rfl rfl rfl hent rfl rfl ⟨by decide, by decide⟩ rfl q282 q178 q281 q283 (Met_row (mm_X2_lambda_new_3 (l := l) (G := G) (nx := nx) (fE := fE) (lE := lE) hv)) rfl rfl (ci := 1) rfl hfs (fL1 fd_3_0 fd_3_1) (fA1 fd_3_4) fd_3_5 fd_3_8 (Or.inr ⟨rfl, fun z => z⟩) (by show fE + 5 + 2 ≤ R.frames; omega) (by show 8 + (1 + 1 + 11) + (8 + (2 + 11) + (lE + 107)) ≤ R.locals; omega) hsize hW hf hdg rfl kk
  · cases hF
theorem lo_4 {l : Launch} {G : hG} {E : bE} {fE lE : Nat} (hE : IfOK l G E fE lE) : okS1 l G E.1 4 (lL4 E) mIs (fun v => narrow .boolean (.int v) = .int v) (fE + 10) (lE + 3300) := by
  intro p e R s m args below meth c cc nL own H locs cells slots Q pc ls rest A h nx idx cnt q a vs out S hS hB hlink hent hF hsize hR hW hf hdg kk
  unfold lL4 at hF
  split at hF
  · rename_i b0
    obtain ⟨ho, hF⟩ := gd_t hF
    obtain ⟨fs, hfs⟩ := isO_s ho
    obtain ⟨v, hv, hF⟩ := ob_s hF
    cases hF
    exact lm_call5 (xL := hS4.1) (pcL := hS4.2.1) (idxL := hS4.2.2.1) (σ := hS4.2.2.2) (sa := [a]) (cap := []) (y := yX2_lambda_new_4) (out := (v, h, 0, 0)) S hS hB hlink q415 rfl ⟨by decide, by decide⟩ (j := 4) rfl fo_4 rfl (by decide) rfl rfl rfl hent rfl rfl ⟨by decide, by decide⟩ rfl q311 q178 q310 q312 (Met_row (mm_X2_lambda_new_4 (l := l) (G := G) (nx := nx) (fE := fE) (lE := lE) hv)) rfl rfl (ci := 1) rfl hfs (fL1 fd_4_0 fd_4_1) (fA1 fd_4_4) fd_4_5 fd_4_8 (Or.inr ⟨rfl, fun z => z⟩) (by show fE + 1 + 2 ≤ R.frames; omega) (by show 8 + (1 + 1 + 11) + (8 + (2 + 11) + (lE + 22)) ≤ R.locals; omega) hsize hW hf hdg rfl kk
  · cases hF
theorem lo_5 {l : Launch} {G : hG} {E : bE} {fE lE : Nat} (hE : IfOK l G E fE lE) : okS1 l G E.1 5 (lL5 E) mIs (fun v => narrow .boolean (.int v) = .int v) (fE + 10) (lE + 3300) := by
  intro p e R s m args below meth c cc nL own H locs cells slots Q pc ls rest A h nx idx cnt q a vs out S hS hB hlink hent hF hsize hR hW hf hdg kk
  unfold lL5 at hF
  split at hF
  · rename_i b0
    obtain ⟨ho, hF⟩ := gd_t hF
    obtain ⟨fs, hfs⟩ := isO_s ho
    obtain ⟨v, hv, hF⟩ := ob_s hF
    cases hF
    exact lm_call5 (xL := hS5.1) (pcL := hS5.2.1) (idxL := hS5.2.2.1) (σ := hS5.2.2.2) (sa := [a]) (cap := []) (y := yX2_lambda_new_5) (out := (v, h, 0, 0)) S hS hB hlink q415 rfl ⟨by decide, by decide⟩ (j := 5) rfl fo_5 rfl (by decide) rfl rfl rfl hent rfl rfl ⟨by decide, by decide⟩ rfl q318 q178 q317 q319 (Met_row (mm_X2_lambda_new_5 (l := l) (G := G) (nx := nx) (fE := fE) (lE := lE) hv)) rfl rfl (ci := 1) rfl hfs (fL1 fd_5_0 fd_5_1) (fA1 fd_5_4) fd_5_5 fd_5_8 (Or.inr ⟨rfl, fun z => z⟩) (by show fE + 2 + 2 ≤ R.frames; omega) (by show 8 + (1 + 1 + 11) + (8 + (2 + 11) + (lE + 41)) ≤ R.locals; omega) hsize hW hf hdg rfl kk
  · cases hF
theorem lo_6 {l : Launch} {G : hG} {E : bE} {fE lE : Nat} (hE : IfOK l G E fE lE) : okS1 l G E.1 6 (lL6 E) mOf (fun _ => True) (fE + 10) (lE + 3300) := by
  intro p e R s m args below meth c cc nL own H locs cells slots Q pc ls rest A h nx idx cnt q a vs out S hS hB hlink hent hF hsize hR hW hf hdg kk
  unfold lL6 at hF
  split at hF
  · rename_i b0
    obtain ⟨ho, hF⟩ := gd_t hF
    obtain ⟨fs, hfs⟩ := isO_s ho
    obtain ⟨v, hv, hF⟩ := ob_s hF
    cases hF
    exact lm_call5 (xL := hS6.1) (pcL := hS6.2.1) (idxL := hS6.2.2.1) (σ := hS6.2.2.2) (sa := [a]) (cap := []) (y := yX2_bandThought) (out := (v, h, 0, 0)) S hS hB hlink q367 rfl ⟨by decide, by decide⟩ (j := 6) rfl fo_6 rfl (by decide) rfl rfl rfl hent rfl rfl ⟨by decide, by decide⟩ rfl q333 q178 q332 q334 (Met_row (mm_X2_bandThought (l := l) (G := G) (nx := nx) (fE := fE) (lE := lE) hv)) rfl rfl (ci := 1) rfl hfs (fL1 fd_6_0 fd_6_1) (fA1 fd_6_4) fd_6_5 fd_6_8 (Or.inl rfl) (by show fE + 6 + 2 ≤ R.frames; omega) (by show 8 + (1 + 1 + 11) + (8 + (2 + 11) + (lE + 127)) ≤ R.locals; omega) hsize hW hf hdg rfl kk
  · cases hF
theorem lo_7 {l : Launch} {G : hG} {E : bE} {fE lE : Nat} (hE : IfOK l G E fE lE) : okS2 l G E.1 7 (lL7 E) mBy (fE + 10) (lE + 3300) := by
  intro p e R s m args below meth c cc nL own H locs cells slots Q pc ls rest A h nx idx cnt q a a2 vs out S hS hB hlink hent hF hsize hR hW hf hdg kk
  unfold lL7 at hF
  split at hF
  · rename_i b0
    have hv := hF
    exact lm_call6 (xL := hS7.1) (pcL := hS7.2.1) (idxL := hS7.2.2.1) (σ := hS7.2.2.2) (sa := [a, a2]) (y := yX1_lambda_rising_1) S hS hB hlink q382 rfl ⟨by decide, by decide⟩ (j := 7) rfl fo_7 rfl (by decide) rfl rfl rfl hent rfl ⟨by decide, by decide⟩ rfl q362 q174 q363 (mm_X1_lambda_rising_1 (l := l) (G := G) (fE := fE) (lE := lE) hE hv) rfl rfl (fL1 fd_7_0 fd_7_1) (fA2 fd_7_4 fd_7_5) fd_7_6 fd_7_9 (Or.inl rfl) (by show fE + 1 + 2 ≤ R.frames; omega) (by show 8 + (2 + 1 + 11) + (8 + (3 + 11) + (lE + 40)) ≤ R.locals; omega) hsize hW hf hdg rfl kk
  · cases hF
theorem lo_8 {l : Launch} {G : hG} {E : bE} {fE lE : Nat} (hE : IfOK l G E fE lE) : okS1 l G E.1 8 (lL8 E) mOf (fun _ => True) (fE + 10) (lE + 3300) := by
  intro p e R s m args below meth c cc nL own H locs cells slots Q pc ls rest A h nx idx cnt q a vs out S hS hB hlink hent hF hsize hR hW hf hdg kk
  unfold lL8 at hF
  split at hF
  · rename_i b0
    obtain ⟨ho, hF⟩ := gd_t hF
    obtain ⟨fs, hfs⟩ := isO_s ho
    obtain ⟨v, hv, hF⟩ := ob_s hF
    cases hF
    exact lm_call5 (xL := hS8.1) (pcL := hS8.2.1) (idxL := hS8.2.2.1) (σ := hS8.2.2.2) (sa := [a]) (cap := []) (y := yX2_dayOf) (out := (v, h, 0, 0)) S hS hB hlink q367 rfl ⟨by decide, by decide⟩ (j := 8) rfl fo_8 rfl (by decide) rfl rfl rfl hent rfl rfl ⟨by decide, by decide⟩ rfl q369 q178 q368 q370 (Met_row (mm_X2_dayOf (l := l) (G := G) (nx := nx) (fE := fE) (lE := lE) hv)) rfl rfl (ci := 1) rfl hfs (fL1 fd_8_0 fd_8_1) (fA1 fd_8_4) fd_8_5 fd_8_8 (Or.inl rfl) (by show fE + 4 + 2 ≤ R.frames; omega) (by show 8 + (1 + 1 + 11) + (8 + (2 + 11) + (lE + 85)) ≤ R.locals; omega) hsize hW hf hdg rfl kk
  · cases hF
theorem lo_9 {l : Launch} {G : hG} {E : bE} {fE lE : Nat} (hE : IfOK l G E fE lE) : okS1 l G E.1 9 (lL9 E) mOf (fun _ => True) (fE + 10) (lE + 3300) := by
  intro p e R s m args below meth c cc nL own H locs cells slots Q pc ls rest A h nx idx cnt q a vs out S hS hB hlink hent hF hsize hR hW hf hdg kk
  unfold lL9 at hF
  split at hF
  · rename_i b0
    obtain ⟨ho, hF⟩ := gd_t hF
    obtain ⟨fs, hfs⟩ := isO_s ho
    obtain ⟨v, hv, hF⟩ := ob_s hF
    cases hF
    exact lm_call5 (xL := hS9.1) (pcL := hS9.2.1) (idxL := hS9.2.2.1) (σ := hS9.2.2.2) (sa := [a]) (cap := []) (y := yX2_numberOf) (out := (v, h, 0, 0)) S hS hB hlink q367 rfl ⟨by decide, by decide⟩ (j := 9) rfl fo_9 rfl (by decide) rfl rfl rfl hent rfl rfl ⟨by decide, by decide⟩ rfl q372 q178 q371 q373 (Met_row (mm_X2_numberOf (l := l) (G := G) (nx := nx) (fE := fE) (lE := lE) hv)) rfl rfl (ci := 1) rfl hfs (fL1 fd_9_0 fd_9_1) (fA1 fd_9_4) fd_9_5 fd_9_8 (Or.inl rfl) (by show fE + 0 + 2 ≤ R.frames; omega) (by show 8 + (1 + 1 + 11) + (8 + (2 + 11) + (lE + 0)) ≤ R.locals; omega) hsize hW hf hdg rfl kk
  · cases hF
theorem lo_10 {l : Launch} {G : hG} {E : bE} {fE lE : Nat} (hE : IfOK l G E fE lE) : okS2 l G E.1 10 (lL10 E) mBy (fE + 10) (lE + 3300) := by
  intro p e R s m args below meth c cc nL own H locs cells slots Q pc ls rest A h nx idx cnt q a a2 vs out S hS hB hlink hent hF hsize hR hW hf hdg kk
  unfold lL10 at hF
  split at hF
  · rename_i b0
    have hv := hF
    exact lm_call6 (xL := hS10.1) (pcL := hS10.2.1) (idxL := hS10.2.2.1) (σ := hS10.2.2.2) (sa := [a, a2]) (y := yX1_lambda_inTurn_0) S hS hB hlink q382 rfl ⟨by decide, by decide⟩ (j := 10) rfl fo_10 rfl (by decide) rfl rfl rfl hent rfl ⟨by decide, by decide⟩ rfl q377 q174 q378 (mm_X1_lambda_inTurn_0 (l := l) (G := G) (fE := fE) (lE := lE) hE hv) rfl rfl (fL1 fd_10_0 fd_10_1) (fA2 fd_10_4 fd_10_5) fd_10_6 fd_10_9 (Or.inl rfl) (by show fE + 1 + 2 ≤ R.frames; omega) (by show 8 + (2 + 1 + 11) + (8 + (8 + 11) + (lE + 40)) ≤ R.locals; omega) hsize hW hf hdg rfl kk
  · cases hF
theorem lo_11 {l : Launch} {G : hG} {E : bE} {fE lE : Nat} (hE : IfOK l G E fE lE) : okS1 l G E.1 11 (lL11 E) mIs (fun v => narrow .boolean (.int v) = .int v) (fE + 10) (lE + 3300) := by
  intro p e R s m args below meth c cc nL own H locs cells slots Q pc ls rest A h nx idx cnt q a vs out S hS hB hlink hent hF hsize hR hW hf hdg kk
  unfold lL11 at hF
  split at hF
  · rename_i b0
    obtain ⟨ho, hF⟩ := gd_t hF
    obtain ⟨fs, hfs⟩ := isO_s ho
    obtain ⟨v, hv, hF⟩ := ob_s hF
    cases hF
    exact lm_call5 (xL := hS11.1) (pcL := hS11.2.1) (idxL := hS11.2.2.1) (σ := hS11.2.2.2) (sa := [a]) (cap := []) (y := yX2_isTied) (out := (v, h, 0, 0)) S hS hB hlink q415 rfl ⟨by decide, by decide⟩ (j := 11) rfl fo_11 rfl (by decide) rfl rfl rfl hent rfl rfl ⟨by decide, by decide⟩ rfl q384 q178 q383 q385 (Met_row (mm_X2_isTied (l := l) (G := G) (nx := nx) (fE := fE) (lE := lE) hv)) rfl rfl (ci := 1) rfl hfs (fL1 fd_11_0 fd_11_1) (fA1 fd_11_4) fd_11_5 fd_11_8 (Or.inr ⟨rfl, fun z => z⟩) (by show fE + 6 + 2 ≤ R.frames; omega) (by show 8 + (1 + 1 + 11) + (8 + (2 + 11) + (lE + 129)) ≤ R.locals; omega) hsize hW hf hdg rfl kk
  · cases hF
theorem lo_12 {l : Launch} {G : hG} {E : bE} {fE lE : Nat} (hE : IfOK l G E fE lE) : okS2 l G E.1 12 (lL12 E) mBy (fE + 10) (lE + 3300) := by
  intro p e R s m args below meth c cc nL own H locs cells slots Q pc ls rest A h nx idx cnt q a a2 vs out S hS hB hlink hent hF hsize hR hW hf hdg kk
  unfold lL12 at hF
  split at hF
  · rename_i b0
    have hv := hF
    exact lm_call6 (xL := hS12.1) (pcL := hS12.2.1) (idxL := hS12.2.2.1) (σ := hS12.2.2.2) (sa := [a, a2]) (y := yX1_lambda_sooner_2) S hS hB hlink q382 rfl ⟨by decide, by decide⟩ (j := 12) rfl fo_12 rfl (by decide) rfl rfl rfl hent rfl ⟨by decide, by decide⟩ rfl q410 q174 q411 (mm_X1_lambda_sooner_2 (l := l) (G := G) (fE := fE) (lE := lE) hE hv) rfl rfl (fL1 fd_12_0 fd_12_1) (fA2 fd_12_4 fd_12_5) fd_12_6 fd_12_9 (Or.inl rfl) (by show fE + 1 + 2 ≤ R.frames; omega) (by show 8 + (2 + 1 + 11) + (8 + (3 + 11) + (lE + 40)) ≤ R.locals; omega) hsize hW hf hdg rfl kk
  · cases hF
theorem lo_13 {l : Launch} {G : hG} {E : bE} {fE lE : Nat} (hE : IfOK l G E fE lE) : okS1 l G E.1 13 (lL13 E) mIs (fun v => narrow .boolean (.int v) = .int v) (fE + 10) (lE + 3300) := by
  intro p e R s m args below meth c cc nL own H locs cells slots Q pc ls rest A h nx idx cnt q a vs out S hS hB hlink hent hF hsize hR hW hf hdg kk
  unfold lL13 at hF
  split at hF
  · rename_i b0
    obtain ⟨ho, hF⟩ := gd_t hF
    obtain ⟨fs, hfs⟩ := isO_s ho
    obtain ⟨v, hv, hF⟩ := ob_s hF
    cases hF
    exact lm_call5 (xL := hS13.1) (pcL := hS13.2.1) (idxL := hS13.2.2.1) (σ := hS13.2.2.2) (sa := [a]) (cap := []) (y := yX2_isMoving) (out := (v, h, 0, 0)) S hS hB hlink q415 rfl ⟨by decide, by decide⟩ (j := 13) rfl fo_13 rfl (by decide) rfl rfl rfl hent rfl rfl ⟨by decide, by decide⟩ rfl q418 q178 q417 q419 (Met_row (mm_X2_isMoving (l := l) (G := G) (nx := nx) (fE := fE) (lE := lE) hv)) rfl rfl (ci := 1) rfl hfs (fL1 fd_13_0 fd_13_1) (fA1 fd_13_4) fd_13_5 fd_13_8 (Or.inr ⟨rfl, fun z => z⟩) (by show fE + 5 + 2 ≤ R.frames; omega) (by show 8 + (1 + 1 + 11) + (8 + (2 + 11) + (lE + 106)) ≤ R.locals; omega) hsize hW hf hdg rfl kk
  · cases hF
theorem lo_14 {l : Launch} {G : hG} {E : bE} {fE lE : Nat} (hE : IfOK l G E fE lE) : okS1 l G E.1 14 (lL14 E) mOf (fun _ => True) (fE + 10) (lE + 3300) := by
  intro p e R s m args below meth c cc nL own H locs cells slots Q pc ls rest A h nx idx cnt q a vs out S hS hB hlink hent hF hsize hR hW hf hdg kk
  unfold lL14 at hF
  split at hF
  · rename_i b0
    obtain ⟨ho, hF⟩ := gd_t hF
    obtain ⟨fs, hfs⟩ := isO_s ho
    obtain ⟨v, hv, hF⟩ := ob_s hF
    cases hF
    exact lm_call5 (xL := hS14.1) (pcL := hS14.2.1) (idxL := hS14.2.2.1) (σ := hS14.2.2.2) (sa := [a]) (cap := []) (y := yX1_lambda_many_7) (out := (v, h, 0, 0)) S hS hB hlink q367 rfl ⟨by decide, by decide⟩ (j := 14) rfl fo_14 rfl (by decide) rfl rfl rfl hent rfl rfl ⟨by decide, by decide⟩ rfl q1186 q174 q1185 q1187 (Met_row (mm_X1_lambda_many_7 (l := l) (G := G) (nx := nx) (fE := fE) (lE := lE) hv)) rfl rfl (ci := 0) rfl hfs (fL1 fd_14_0 fd_14_1) (fA1 fd_14_4) fd_14_5 fd_14_8 (Or.inl rfl) (by show fE + 2 + 2 ≤ R.frames; omega) (by show 8 + (1 + 1 + 11) + (8 + (2 + 11) + (lE + 41)) ≤ R.locals; omega) hsize hW hf hdg rfl kk
  · cases hF
theorem lo_15 {l : Launch} {G : hG} {E : bE} {fE lE : Nat} (hE : IfOK l G E fE lE) : okS1 l G E.1 15 (lL15 E) mIs (fun v => narrow .boolean (.int v) = .int v) (fE + 10) (lE + 3300) := by
  intro p e R s m args below meth c cc nL own H locs cells slots Q pc ls rest A h nx idx cnt q a vs out S hS hB hlink hent hF hsize hR hW hf hdg kk
  unfold lL15 at hF
  split at hF
  · rename_i b0
    obtain ⟨v, hv, hF⟩ := ob_s hF
    cases hF
    exact lm_call6 (xL := hS15.1) (pcL := hS15.2.1) (idxL := hS15.2.2.1) (σ := hS15.2.2.2) (sa := [a]) (y := yX1_lambda_freeHomes_3) (out := (v, h, 0, 0)) S hS hB hlink q415 rfl ⟨by decide, by decide⟩ (j := 15) rfl fo_15 rfl (by decide) rfl rfl rfl hent rfl ⟨by decide, by decide⟩ rfl q1196 q174 q1197 (Met_row (mm_X1_lambda_freeHomes_3 (l := l) (G := G) (nx := nx) (fE := fE) (lE := lE) hv)) rfl rfl (fL1 fd_15_0 fd_15_1) (fA1 fd_15_4) fd_15_5 fd_15_8 (Or.inr ⟨rfl, fun z => z⟩) (by show fE + 3 + 2 ≤ R.frames; omega) (by show 8 + (1 + 1 + 11) + (8 + (2 + 11) + (lE + 63)) ≤ R.locals; omega) hsize hW hf hdg rfl kk
  · cases hF
theorem lo_16 {l : Launch} {G : hG} {E : bE} {fE lE : Nat} (hE : IfOK l G E fE lE) : okS1 l G E.1 16 (lL16 E) mIs (fun v => narrow .boolean (.int v) = .int v) (fE + 10) (lE + 3300) := by
  intro p e R s m args below meth c cc nL own H locs cells slots Q pc ls rest A h nx idx cnt q a vs out S hS hB hlink hent hF hsize hR hW hf hdg kk
  unfold lL16 at hF
  split at hF
  · rename_i b0
    obtain ⟨v, hv, hF⟩ := ob_s hF
    cases hF
    exact lm_call6 (xL := hS16.1) (pcL := hS16.2.1) (idxL := hS16.2.2.1) (σ := hS16.2.2.2) (sa := [a]) (y := yX1_lambda_inQueue_4) (out := (v, h, 0, 0)) S hS hB hlink q415 rfl ⟨by decide, by decide⟩ (j := 16) rfl fo_16 rfl (by decide) rfl rfl rfl hent rfl ⟨by decide, by decide⟩ rfl q1206 q174 q1207 (Met_row (mm_X1_lambda_inQueue_4 (l := l) (G := G) (nx := nx) (fE := fE) (lE := lE) hv)) rfl rfl (fL1 fd_16_0 fd_16_1) (fA1 fd_16_4) fd_16_5 fd_16_8 (Or.inr ⟨rfl, fun z => z⟩) (by show fE + 0 + 2 ≤ R.frames; omega) (by show 8 + (1 + 1 + 11) + (8 + (2 + 11) + (lE + 0)) ≤ R.locals; omega) hsize hW hf hdg rfl kk
  · cases hF
theorem lo_17 {l : Launch} {G : hG} {E : bE} {fE lE : Nat} (hE : IfOK l G E fE lE) : okS1 l G E.1 17 (lL17 E) mIs (fun v => narrow .boolean (.int v) = .int v) (fE + 10) (lE + 3300) := by
  intro p e R s m args below meth c cc nL own H locs cells slots Q pc ls rest A h nx idx cnt q a vs out S hS hB hlink hent hF hsize hR hW hf hdg kk
  unfold lL17 at hF
  split at hF
  · rename_i b0 b1
    obtain ⟨ho, hF⟩ := gd_t hF
    obtain ⟨fs, hfs⟩ := isO_s ho
    obtain ⟨v, hv, hF⟩ := ob_s hF
    cases hF
    exact lm_call5 (xL := hS17.1) (pcL := hS17.2.1) (idxL := hS17.2.2.1) (σ := hS17.2.2.2) (sa := [a]) (cap := [.int b1]) (y := yX1_lambda_home_8) (out := (v, h, 0, 0)) S hS hB hlink q415 rfl ⟨by decide, by decide⟩ (j := 17) rfl fo_17 rfl (by decide) rfl rfl rfl hent rfl rfl ⟨by decide, by decide⟩ rfl q1224 q174 q1223 q1225 (Met_row (mm_X1_lambda_home_8 (l := l) (G := G) (nx := nx) (fE := fE) (lE := lE) hv)) rfl rfl (ci := 0) rfl hfs (fL2 fd_17_0 fd_17_1 fd_17_4 fd_17_5) (fA1 fd_17_8) fd_17_9 fd_17_12 (Or.inr ⟨rfl, fun z => z⟩) (by show fE + 1 + 2 ≤ R.frames; omega) (by show 8 + (1 + 1 + 11) + (8 + (3 + 11) + (lE + 22)) ≤ R.locals; omega) hsize hW hf hdg rfl kk
  · cases hF
theorem lo_18 {l : Launch} {G : hG} {E : bE} {fE lE : Nat} (hE : IfOK l G E fE lE) : okS1 l G E.1 18 (lL18 E) mIs (fun v => narrow .boolean (.int v) = .int v) (fE + 10) (lE + 3300) := by
  intro p e R s m args below meth c cc nL own H locs cells slots Q pc ls rest A h nx idx cnt q a vs out S hS hB hlink hent hF hsize hR hW hf hdg kk
  unfold lL18 at hF
  split at hF
  · rename_i b0 b1
    obtain ⟨ho, hF⟩ := gd_t hF
    obtain ⟨fs, hfs⟩ := isO_s ho
    obtain ⟨v, hv, hF⟩ := ob_s hF
    cases hF
    exact lm_call5 (xL := hS18.1) (pcL := hS18.2.1) (idxL := hS18.2.2.1) (σ := hS18.2.2.2) (sa := [a]) (cap := [.int b1]) (y := yX1_lambda_home_9) (out := (v, h, 0, 0)) S hS hB hlink q415 rfl ⟨by decide, by decide⟩ (j := 18) rfl fo_18 rfl (by decide) rfl rfl rfl hent rfl rfl ⟨by decide, by decide⟩ rfl q1228 q174 q1227 q1229 (Met_row (mm_X1_lambda_home_9 (l := l) (G := G) (nx := nx) (fE := fE) (lE := lE) hv)) rfl rfl (ci := 0) rfl hfs (fL2 fd_18_0 fd_18_1 fd_18_4 fd_18_5) (fA1 fd_18_8) fd_18_9 fd_18_12 (Or.inr ⟨rfl, fun z => z⟩) (by show fE + 3 + 2 ≤ R.frames; omega) (by show 8 + (1 + 1 + 11) + (8 + (3 + 11) + (lE + 64)) ≤ R.locals; omega) hsize hW hf hdg rfl kk
  · cases hF
theorem lo_19 {l : Launch} {G : hG} {E : bE} {fE lE : Nat} (hE : IfOK l G E fE lE) : okS1 l G E.1 19 (lL19 E) mIs (fun v => narrow .boolean (.int v) = .int v) (fE + 10) (lE + 3300) := by
  intro p e R s m args below meth c cc nL own H locs cells slots Q pc ls rest A h nx idx cnt q a vs out S hS hB hlink hent hF hsize hR hW hf hdg kk
  unfold lL19 at hF
  split at hF
  · rename_i b0 b1 b2
    obtain ⟨ho, hF⟩ := gd_t hF
    obtain ⟨fs, hfs⟩ := isO_s ho
    obtain ⟨v, hv, hF⟩ := ob_s hF
    cases hF
    exact lm_call5 (xL := hS19.1) (pcL := hS19.2.1) (idxL := hS19.2.2.1) (σ := hS19.2.2.2) (sa := [a]) (cap := [.int b1, .ref b2]) (y := yX1_lambda_order_10) (out := (v, h, 0, 0)) S hS hB hlink q415 rfl ⟨by decide, by decide⟩ (j := 19) rfl fo_19 rfl (by decide) rfl rfl rfl hent rfl rfl ⟨by decide, by decide⟩ rfl q1276 q174 q1275 q1277 (Met_row (mm_X1_lambda_order_10 (l := l) (G := G) (nx := nx) (fE := fE) (lE := lE) hv)) rfl rfl (ci := 0) rfl hfs (fL3 fd_19_0 fd_19_1 fd_19_4 fd_19_5 fd_19_8 fd_19_9) (fA1 fd_19_12) fd_19_13 fd_19_16 (Or.inr ⟨rfl, fun z => z⟩) (by show fE + 1 + 2 ≤ R.frames; omega) (by show 8 + (1 + 1 + 11) + (8 + (4 + 11) + (lE + 22)) ≤ R.locals; omega) hsize hW hf hdg rfl kk
  · cases hF
theorem lo_20 {l : Launch} {G : hG} {E : bE} {fE lE : Nat} (hE : IfOK l G E fE lE) : okS2 l G E.1 20 (lL20 E) mBy (fE + 10) (lE + 3300) := by
  intro p e R s m args below meth c cc nL own H locs cells slots Q pc ls rest A h nx idx cnt q a a2 vs out S hS hB hlink hent hF hsize hR hW hf hdg kk
  unfold lL20 at hF
  split at hF
  · rename_i b0 b1
    obtain ⟨ho, hF⟩ := gd_t hF
    obtain ⟨fs, hfs⟩ := isO_s ho
    have hv := hF
    exact lm_call5 (xL := hS20.1) (pcL := hS20.2.1) (idxL := hS20.2.2.1) (σ := hS20.2.2.2) (sa := [a, a2]) (cap := [.int b1]) (y := yX2_lambda_firstFor_6) S hS hB hlink q382 rfl ⟨by decide, by decide⟩ (j := 20) rfl fo_20 rfl (by decide) rfl rfl rfl hent rfl rfl ⟨by decide, by decide⟩ rfl q1283 q178 q1282 q1284 (mm_X2_lambda_firstFor_6 (l := l) (G := G) (fE := fE) (lE := lE) hE hv) rfl rfl (ci := 1) rfl hfs (fL2 fd_20_0 fd_20_1 fd_20_4 fd_20_5) (fA2 fd_20_8 fd_20_9) fd_20_10 fd_20_13 (Or.inl rfl) (by show fE + 2 + 2 ≤ R.frames; omega) (by show 8 + (2 + 1 + 11) + (8 + (4 + 11) + (lE + 63)) ≤ R.locals; omega) hsize hW hf hdg rfl kk
  · cases hF
