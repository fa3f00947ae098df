section
variable {l : Launch} {D : va_G} {cl : List vw_C} {tys : List (ClassId × FieldType)} {G : hG} {E : bE} {fE lE : Nat} {h : AH} {nx : Nat} {A : Nat → Prop}
variable {p : Program} {e : Env} {R : Room} {s : State} {m : MethodId} {args : Array Value} {below : List Frame} {meth : Method} {c : Code} {H H0 : Heap} {locs : List Loc} {cells slots : Nat} {Q : State → Prop} {cc : ByteArray} {nL pc : Nat} {ls : Array Slot} {rest : List Value}
theorem hd_X1_lambda_fits_22 : yX1_lambda_fits_22.cls = RX1 ∧ yX1_lambda_fits_22.cls ≠ "java/lang/invoke/MethodHandle" ∧ yX1_lambda_fits_22.cls ≠ "java/lang/invoke/VarHandle" ∧ (parseMethodDescriptor yX1_lambda_fits_22.desc).map (fun d => d.parameters.length) = some 3 := by decide +kernel
set_option maxHeartbeats 4000000 in
set_option maxRecDepth 100000 in
theorem mm_X1_lambda_fits_22 {o : Nat} {a0 : Int32} {a1 : Int32} {a2 : Int32} {out : Int32} (hf : f_X1_lambda_fits_22 E h o a0 a1 a2 = some out) : Met l yX1_lambda_fits_22 (ws_ yX1_lambda_fits_22 cX1_lambda_fits_22 4 (some .int)) (rM (fE + 5) (lE + 107)) (bPc G E.1 hSites h nx [.ref o, .int a0, .int a1, .int a2]) (gR (some (.int out)) True) 0 0 (fun _ => False) := by
  refine bGo (by decide +kernel) (Nat.le_of_ble_eq_true rfl) (fun p e s m below meth c ls S hr hlocks hin hnm hS hB hl => ?_)
  have S : CallFix p m c cX1_lambda_fits_22 4 s _ lw_all RX1 := S
  obtain ⟨hx, hb, hml, hown, hts⟩ := id S
  have hl : lv_has ls 4 [(0, .ref o), (1, .int a0), (2, .int a1), (3, .int a2)] := hl
  rw [f_X1_lambda_fits_22] at hf
  refine lv_aload_n hx hb dX1_lambda_fits_22_0 rfl (lv_at hl 0 rfl) ?_
  obtain ⟨v1, hv1, hf⟩ := ob_s hf
  refine bg_X1_70 S hS hB (vR_s hv1) dX1_lambda_fits_22_1 ?_
  refine lv_iload_n hx hb dX1_lambda_fits_22_4 rfl (lv_at hl 1 rfl) ?_
  refine lv_iload_n hx hb dX1_lambda_fits_22_5 rfl (lv_at hl 3 rfl) ?_
  obtain ⟨g2, hf⟩ := gd_t hf
  obtain ⟨v3, hv3, hf⟩ := ob_s hf
  refine mc_X1_338 (fE := fE) (lE := lE) S hS hB g2 hv3 hl.1 ⟨(by show _ ≤ (fE + 5); omega), (by show _ ≤ (lE + 107); omega)⟩ (Nat.le_of_ble_eq_true rfl) ⟨Nat.zero_le _, Nat.zero_le _⟩ dX1_lambda_fits_22_6 (fun hnv3 => ?_)
  refine lv_if_eq (tgt := 53) hx hb dX1_lambda_fits_22_9 (by decide) (fun c4 => ?_) (fun c4 => ?_)
  · replace hf := it_t c4 hf
    refine lv_iconst hx hb dX1_lambda_fits_22_53 kc_i0 ?_
    have hE9 := Option.some.inj hf
    subst hE9
    exact gt_ri S hr hlocks trivial dX1_lambda_fits_22_54
  · replace hf := it_f c4 hf
    refine lv_iload_n hx hb dX1_lambda_fits_22_12 rfl (lv_at hl 2 rfl) ?_
    refine lv_if_eq (tgt := 47) hx hb dX1_lambda_fits_22_13 (by decide) (fun c5 => ?_) (fun c5 => ?_)
    · replace hf := it_t c5 hf
      refine lv_iconst hx hb dX1_lambda_fits_22_47 kc_i1 ?_
      refine lv_iload_n hx hb dX1_lambda_fits_22_48 rfl (lv_at hl 3 rfl) ?_
      refine lv_ishl hx hb dX1_lambda_fits_22_49 ?_
      refine lv_goto (tgt := 54) hx hb dX1_lambda_fits_22_50 (by decide) ?_
      have hE9 := Option.some.inj hf
      subst hE9
      exact gt_ri S hr hlocks trivial dX1_lambda_fits_22_54
    · replace hf := it_f c5 hf
      refine lv_iload_n hx hb dX1_lambda_fits_22_16 rfl (lv_at hl 2 rfl) ?_
      refine lv_iconst hx hb dX1_lambda_fits_22_17 kc_i1 ?_
      refine lv_icmp_ne (tgt := 35) hx hb dX1_lambda_fits_22_18 (by decide) (fun c6 => ?_) (fun c6 => ?_)
      · replace hf := it_f c6 hf
        refine lv_aload_n hx hb dX1_lambda_fits_22_35 rfl (lv_at hl 0 rfl) ?_
        obtain ⟨v7, hv7, hf⟩ := ob_s hf
        refine bg_X1_70 S hS hB (vR_s hv7) dX1_lambda_fits_22_36 ?_
        refine lv_iload_n hx hb dX1_lambda_fits_22_39 rfl (lv_at hl 1 rfl) ?_
        refine lv_iload_n hx hb dX1_lambda_fits_22_40 rfl (lv_at hl 3 rfl) ?_
        obtain ⟨g8, hf⟩ := gd_t hf
        obtain ⟨v9, hv9, hf⟩ := ob_s hf
        refine mc_X1_622 (fE := fE) (lE := lE) S hS hB g8 hv9 hl.1 ⟨(by show _ ≤ (fE + 5); omega), (by show _ ≤ (lE + 107); omega)⟩ (Nat.le_of_ble_eq_true rfl) ⟨Nat.zero_le _, Nat.zero_le _⟩ dX1_lambda_fits_22_41 (fun hnv9 => ?_)
        refine lv_if_eq (tgt := 53) hx hb dX1_lambda_fits_22_44 (by decide) (fun c10 => ?_) (fun c10 => ?_)
        · replace hf := it_t c10 hf
          refine lv_iconst hx hb dX1_lambda_fits_22_53 kc_i0 ?_
          have hE9 := Option.some.inj hf
          subst hE9
          exact gt_ri S hr hlocks trivial dX1_lambda_fits_22_54
        · replace hf := it_f c10 hf
          refine lv_iconst hx hb dX1_lambda_fits_22_47 kc_i1 ?_
          refine lv_iload_n hx hb dX1_lambda_fits_22_48 rfl (lv_at hl 3 rfl) ?_
          refine lv_ishl hx hb dX1_lambda_fits_22_49 ?_
          refine lv_goto (tgt := 54) hx hb dX1_lambda_fits_22_50 (by decide) ?_
          have hE9 := Option.some.inj hf
          subst hE9
          exact gt_ri S hr hlocks trivial dX1_lambda_fits_22_54
      · replace hf := it_t c6 hf
        refine lv_aload_n hx hb dX1_lambda_fits_22_21 rfl (lv_at hl 0 rfl) ?_
        obtain ⟨v11, hv11, hf⟩ := ob_s hf
        refine bg_X1_70 S hS hB (vR_s hv11) dX1_lambda_fits_22_22 ?_
        refine lv_iload_n hx hb dX1_lambda_fits_22_25 rfl (lv_at hl 3 rfl) ?_
        obtain ⟨g12, hf⟩ := gd_t hf
        obtain ⟨v13, hv13, hf⟩ := ob_s hf
        refine mc_X1_250 (fE := fE) (lE := lE) S hS hB g12 hv13 hl.1 ⟨(by show _ ≤ (fE + 5); omega), (by show _ ≤ (lE + 107); omega)⟩ (Nat.le_of_ble_eq_true rfl) ⟨Nat.zero_le _, Nat.zero_le _⟩ dX1_lambda_fits_22_26 (fun hnv13 => ?_)
        refine lv_if_eq (tgt := 53) hx hb dX1_lambda_fits_22_29 (by decide) (fun c14 => ?_) (fun c14 => ?_)
        · replace hf := it_t c14 hf
          refine lv_iconst hx hb dX1_lambda_fits_22_53 kc_i0 ?_
          have hE9 := Option.some.inj hf
          subst hE9
          exact gt_ri S hr hlocks trivial dX1_lambda_fits_22_54
        · replace hf := it_f c14 hf
          refine lv_goto (tgt := 47) hx hb dX1_lambda_fits_22_32 (by decide) ?_
          refine lv_iconst hx hb dX1_lambda_fits_22_47 kc_i1 ?_
          refine lv_iload_n hx hb dX1_lambda_fits_22_48 rfl (lv_at hl 3 rfl) ?_
          refine lv_ishl hx hb dX1_lambda_fits_22_49 ?_
          refine lv_goto (tgt := 54) hx hb dX1_lambda_fits_22_50 (by decide) ?_
          have hE9 := Option.some.inj hf
          subst hE9
          exact gt_ri S hr hlocks trivial dX1_lambda_fits_22_54
theorem hd_X1_muchOf : yX1_muchOf.cls = RX1 ∧ yX1_muchOf.cls ≠ "java/lang/invoke/MethodHandle" ∧ yX1_muchOf.cls ≠ "java/lang/invoke/VarHandle" ∧ (parseMethodDescriptor yX1_muchOf.desc).map (fun d => d.parameters.length) = some 1 := by decide +kernel
set_option maxHeartbeats 4000000 in
set_option maxRecDepth 100000 in
theorem mm_X1_muchOf {o : Nat} {a0 : Int32} {out : Int32 × AH × Nat × Nat} (hE : IfOK l G E fE lE) (hf : f_X1_muchOf E h nx o a0 = some out) : Met l yX1_muchOf (ws_ yX1_muchOf cX1_muchOf 2 (some .int)) (rC (fE + 2) (lE + 3100) out.2.2.1 out.2.2.2) (bPc G E.1 hSites h nx [.ref o, .int a0]) (bQ G (some (.int out.1)) True out.2.1 (nx + out.2.2.1) (AA h nx)) out.2.2.1 out.2.2.2 (AA h nx) := by
  refine bGo (by decide +kernel) (Nat.le_of_ble_eq_true rfl) (fun p e s m below meth c ls S hr hlocks hin hnm hS hB hl => ?_)
  have S : CallFix p m c cX1_muchOf 2 s _ lw_all RX1 := S
  obtain ⟨hx, hb, hml, hown, hts⟩ := id S
  have hl : lv_has ls 2 [(0, .ref o), (1, .int a0)] := hl
  have hT : TL out out 0 0 := TL_0
  rw [f_X1_muchOf] at hf
  refine lv_aload_n hx hb dX1_muchOf_0 rfl (lv_at hl 0 rfl) ?_
  obtain ⟨v1, hv1, hf⟩ := ob_s hf
  refine bg_X1_51 S hS hB (vR_s hv1) dX1_muchOf_1 ?_
  obtain ⟨g2, hf⟩ := gd_t hf
  obtain ⟨v3, hv3, hf⟩ := ob_s hf
  refine mc_X1_130 (fE := fE) (lE := lE) S hS hB g2 hv3 hl.1 ⟨(by show _ ≤ (fE + 2); omega), (by show _ ≤ (lE + 3100); omega)⟩ (Nat.le_of_ble_eq_true rfl) ⟨(TL_m hT).1, (TL_m hT).2⟩ dX1_muchOf_4 (fun _ => ?_)
  refine lv_aload_n hx hb dX1_muchOf_7 rfl (lv_at hl 0 rfl) ?_
  refine lv_iload_n hx hb dX1_muchOf_8 rfl (lv_at hl 1 rfl) ?_
  obtain ⟨o4, hf, hT⟩ := TL_c hT hf
  refine b_lam S hS hB (k := 38) (vs := [.ref o, .int a0]) hnm rfl lamL_38 (lamV_c rfl rfl (lamV_c rfl rfl lamV_n)) rfl hl.1 (by show _ ≤ (lE + 3100); simp only [List.map, List.sum_cons, List.sum_nil, Value.category]; omega) (TL_m hT).1 (TL_m hT).2 dX1_muchOf_9 (fun H hB => ?_)
  obtain ⟨v5, hv5, hf⟩ := ob_s hf
  obtain ⟨o6, hf, hT⟩ := TL_c hT hf
  refine mc_X1_192 (fE := fE) (lE := lE) S hE hS hB hv5 hl.1 ⟨(by show _ ≤ (fE + 2); omega), (by show _ ≤ (lE + 3100); omega)⟩ (Nat.le_of_ble_eq_true rfl) ⟨(TL_m hT).1, (TL_m hT).2⟩ dX1_muchOf_14 (fun H locs _ hB => ?_)
  refine lv_aload_n hx hb dX1_muchOf_17 rfl (lv_at hl 0 rfl) ?_
  obtain ⟨v7, hv7, hf⟩ := ob_s hf
  refine bg_X1_39 S hS hB (vR_s hv7) dX1_muchOf_18 ?_
  obtain ⟨g8, hf⟩ := gd_t hf
  obtain ⟨v9, hv9, hf⟩ := ob_s hf
  refine mc_X1_130 (fE := fE) (lE := lE) S hS hB g8 hv9 hl.1 ⟨(by show _ ≤ (fE + 2); omega), (by show _ ≤ (lE + 3100); omega)⟩ (Nat.le_of_ble_eq_true rfl) ⟨(TL_m hT).1, (TL_m hT).2⟩ dX1_muchOf_21 (fun _ => ?_)
  refine lv_aload_n hx hb dX1_muchOf_24 rfl (lv_at hl 0 rfl) ?_
  refine lv_iload_n hx hb dX1_muchOf_25 rfl (lv_at hl 1 rfl) ?_
  obtain ⟨o10, hf, hT⟩ := TL_c hT hf
  refine b_lam S hS hB (k := 39) (vs := [.ref o, .int a0]) hnm rfl lamL_39 (lamV_c rfl rfl (lamV_c rfl rfl lamV_n)) rfl hl.1 (by show _ ≤ (lE + 3100); simp only [List.map, List.sum_cons, List.sum_nil, Value.category]; omega) (TL_m hT).1 (TL_m hT).2 dX1_muchOf_26 (fun H hB => ?_)
  obtain ⟨h11, eh11⟩ : ∃ z, z = (hu v5.2.1 ((nx + 1) + v5.2.2.1) (.inr (.inr (39, [.ref o, .int a0])))) := ⟨_, rfl⟩
  replace hf := bd_e eh11 hf
  rw [← eh11] at hB
  obtain ⟨v12, hv12, hf⟩ := ob_s hf
  obtain ⟨o13, hf, hT⟩ := TL_c hT hf
  refine mc_X1_192 (fE := fE) (lE := lE) S hE hS hB hv12 hl.1 ⟨(by show _ ≤ (fE + 2); omega), (by show _ ≤ (lE + 3100); omega)⟩ (Nat.le_of_ble_eq_true rfl) ⟨(TL_m hT).1, (TL_m hT).2⟩ dX1_muchOf_31 (fun H locs _ hB => ?_)
  refine lv_isub hx hb dX1_muchOf_34 ?_
  have hE9 := TL_e hT hf
  subst hE9
  exact bt_i S hr hlocks hB (by omega) trivial dX1_muchOf_35
set_option maxRecDepth 100000 in
theorem mc_X1_466 {o : Nat} {a0 : Int32} {out : Int32 × AH × Nat × Nat} (S : CallFix p m c cc nL s args lw_all RX1) (hE : IfOK l G E fE lE) (hS : SK G E.1 hSites A s) (hB : BI G A s.heap h nx H locs) (ho : isO h o 0 = true) (hf : f_X1_muchOf E h nx o a0 = some out) (hsz : ls.size = nL) (hR : (fE + 2) + 1 ≤ R.frames ∧ 8 + (2 + 11) + (lE + 3100) ≤ R.locals) (hW : (rest.map fun v => v.category).sum ≤ 8) (hcs : cells + out.2.2.1 ≤ R.cells ∧ slots + out.2.2.2 ≤ R.slots) (hdg : decode cc pc = .ok (.invokevirtual 466, 3))  (kk : ∀ (H1 : Heap) (locs1 : List Loc), True → BI G A s.heap out.2.1 (nx + out.2.2.1) H1 locs1 → W p l e R s m args below meth c H1 locs1 (cells + out.2.2.1) (slots + out.2.2.2) Q (F0 m (pc + 3) ls (.int out.1 :: rest))) : W p l e R s m args below meth c H locs cells slots Q (F0 m pc ls (.int a0 :: .ref o :: rest)) := by
  have hN := hS.2.1
  obtain ⟨fs, he⟩ := isO_s ho
  exact br_w (va_runV (As := [.int a0]) S (mm_X1_muchOf hE hf) (cwV 1 S.2.2.2.2 (lw_V q1588 q1590 qs72 q174 q1591) rfl rfl rfl hd_X1_muchOf hR) (bPreV hS hB (ci := 0) rfl he) rfl rfl hsz rfl (lv_room hW) hdg hcs) hB kk
theorem hd_X1_ward : yX1_ward.cls = RX1 ∧ yX1_ward.cls ≠ "java/lang/invoke/MethodHandle" ∧ yX1_ward.cls ≠ "java/lang/invoke/VarHandle" ∧ (parseMethodDescriptor yX1_ward.desc).map (fun d => d.parameters.length) = some 1 := by decide +kernel
set_option maxHeartbeats 4000000 in
set_option maxRecDepth 100000 in
theorem mm_X1_ward {o : Nat} {a0 : Int32} {out : Int32 × AH × Nat × Nat} (hE : IfOK l G E fE lE) (hf : f_X1_ward E h nx o a0 = some out) : Met l yX1_ward (ws_ yX1_ward cX1_ward 3 (some .int)) (rC (fE + 3) (lE + 3121) out.2.2.1 out.2.2.2) (bPc G E.1 hSites h nx [.ref o, .int a0]) (bQ G (some (.int out.1)) True out.2.1 (nx + out.2.2.1) (AA h nx)) out.2.2.1 out.2.2.2 (AA h nx) := by
  refine bGo (by decide +kernel) (Nat.le_of_ble_eq_true rfl) (fun p e s m below meth c ls S hr hlocks hin hnm hS hB hl => ?_)
  have S : CallFix p m c cX1_ward 3 s _ lw_all RX1 := S
  obtain ⟨hx, hb, hml, hown, hts⟩ := id S
  have hl : lv_has ls 3 [(0, .ref o), (1, .int a0)] := hl
  have w31 : ∀ (x0 : Nat) (x1 : Int32) (x2 : Int32) (y0 : Nat) (y1 : Int32) (hc : AH) (nc : Nat) (ls : Array Slot) (H : Heap) (locs : List Loc) (ce sl : Nat) (o1 : Int32 × AH × Nat × Nat), BI G (AA h nx) s.heap hc nc H locs → nc = nx + ce → TL out o1 ce sl → lv_has ls 3 [(0, .ref x0), (1, .int x1), (2, .int x2)] → f_X1_ward_31 E x0 x1 x2 y0 y1 hc nc = some o1 → W p l e (rC (fE + 3) (lE + 3121) out.2.2.1 out.2.2.2) s m ([.ref o, .int a0] : List Value).toArray below meth c H locs ce sl (MQ below (bQ G (some (.int out.1)) True out.2.1 (nx + out.2.2.1) (AA h nx)) ([.ref o, .int a0] : List Value).toArray s out.2.2.1 out.2.2.2 (AA h nx)) (F0 m 31 ls [.int y1, .ref y0]) := by
    intro x0 x1 x2 y0 y1 hc nc ls H locs ce sl o1 hB hn hT hl hf
    rw [f_X1_ward_31] at hf
    obtain ⟨g1, hf⟩ := gd_t hf
    obtain ⟨v2, hv2, hf⟩ := ob_s hf
    obtain ⟨o3, hf, hT⟩ := TL_c hT hf
    refine mc_X1_155 (fE := fE) (lE := lE) S hS hB g1 hv2 hl.1 ⟨(by show _ ≤ (fE + 3); omega), (by show _ ≤ (lE + 3121); omega)⟩ (Nat.le_of_ble_eq_true rfl) ⟨(TL_m hT).1, (TL_m hT).2⟩ dX1_ward_31 (fun H locs hnv2 hB => ?_)
    refine lv_if_ne (tgt := 39) hx hb dX1_ward_34 (by decide) (fun c4 => ?_) (fun c4 => ?_)
    · replace hf := it_f c4 hf
      refine lv_iload_n hx hb dX1_ward_39 rfl (lv_at hl 1 rfl) ?_
      refine lv_if_eq (tgt := 51) hx hb dX1_ward_40 (by decide) (fun c5 => ?_) (fun c5 => ?_)
      · replace hf := it_t c5 hf
        refine lv_iload_n hx hb dX1_ward_51 rfl (lv_at hl 2 rfl) ?_
        have hE9 := TL_e hT hf
        subst hE9
        exact bt_i S hr hlocks hB (by omega) trivial dX1_ward_52
      · replace hf := it_f c5 hf
        refine lv_aload_n hx hb dX1_ward_43 rfl (lv_at hl 0 rfl) ?_
        refine lv_iload_n hx hb dX1_ward_44 rfl (lv_at hl 2 rfl) ?_
        obtain ⟨g6, hf⟩ := gd_t hf
        obtain ⟨v7, hv7, hf⟩ := ob_s hf
        obtain ⟨o8, hf, hT⟩ := TL_c hT hf
        refine mc_X1_466 (fE := fE) (lE := lE) S hE hS hB g6 hv7 hl.1 ⟨(by show _ ≤ (fE + 3); omega), (by show _ ≤ (lE + 3121); omega)⟩ (Nat.le_of_ble_eq_true rfl) ⟨(TL_m hT).1, (TL_m hT).2⟩ dX1_ward_45 (fun H locs _ hB => ?_)
        refine lv_goto (tgt := 52) hx hb dX1_ward_48 (by decide) ?_
        have hE9 := TL_e hT hf
        subst hE9
        exact bt_i S hr hlocks hB (by omega) trivial dX1_ward_52
    · replace hf := it_t c4 hf
      refine lv_iconst hx hb dX1_ward_37 kc_im1 ?_
      have hE9 := TL_e hT hf
      subst hE9
      exact bt_i S hr hlocks hB (by omega) trivial dX1_ward_38
  have hT : TL out out 0 0 := TL_0
  rw [f_X1_ward] at hf
  refine lv_bipush hx hb dX1_ward_0 kc_b8 ?_
  refine lv_aload_n hx hb dX1_ward_2 rfl (lv_at hl 0 rfl) ?_
  obtain ⟨o1, hf, hT⟩ := TL_c hT hf
  refine b_lam S hS hB (k := 35) (vs := [.ref o]) hnm rfl lamL_35 (lamV_c rfl rfl lamV_n) rfl hl.1 (by show _ ≤ (lE + 3121); simp only [List.map, List.sum_cons, List.sum_nil, Value.category]; omega) (TL_m hT).1 (TL_m hT).2 dX1_ward_3 (fun H hB => ?_)
  refine lv_aload_n hx hb dX1_ward_8 rfl (lv_at hl 0 rfl) ?_
  obtain ⟨o2, hf, hT⟩ := TL_c hT hf
  refine b_lam S hS hB (k := 37) (vs := [.ref o]) hnm rfl lamL_37 (lamV_c rfl rfl lamV_n) rfl hl.1 (by show _ ≤ (lE + 3121); simp only [List.map, List.sum_cons, List.sum_nil, Value.category]; omega) (TL_m hT).1 (TL_m hT).2 dX1_ward_9 (fun H hB => ?_)
  obtain ⟨h3, eh3⟩ : ∃ z, z = (hu (hu h nx (.inr (.inr (35, [.ref o])))) (nx + 1) (.inr (.inr (37, [.ref o])))) := ⟨_, rfl⟩
  replace hf := bd_e eh3 hf
  rw [← eh3] at hB
  obtain ⟨v4, hv4, hf⟩ := ob_s hf
  obtain ⟨o5, hf, hT⟩ := TL_c hT hf
  refine mc_X1_421 (fE := fE) (lE := lE) S hS hB hv4 hl.1 ⟨(by show _ ≤ (fE + 3); omega), (by show _ ≤ (lE + 3121); omega)⟩ (Nat.le_of_ble_eq_true rfl) ⟨(TL_m hT).1, (TL_m hT).2⟩ dX1_ward_14 (fun H locs _ hB => ?_)
  obtain ⟨v6, hv6, hf⟩ := ob_s hf
  obtain ⟨o7, hf, hT⟩ := TL_c hT hf
  refine mc_X1_428 (fE := fE) (lE := lE) S hE hS hB hv6 hl.1 ⟨(by show _ ≤ (fE + 3); omega), (by show _ ≤ (lE + 3121); omega)⟩ (Nat.le_of_ble_eq_true rfl) ⟨(TL_m hT).1, (TL_m hT).2⟩ dX1_ward_17 (fun H locs _ hB => ?_)
  refine lv_istore_n (i := 2) (lv' := [(2, .int v6.1), (0, .ref o), (1, .int a0)]) hx hb dX1_ward_20 rfl hl (by decide) rfl (fun ls hl => ?_)
  refine lv_aload_n hx hb dX1_ward_21 rfl (lv_at hl 1 rfl) ?_
  refine lv_iload_n hx hb dX1_ward_22 rfl (lv_at hl 0 rfl) ?_
  refine lv_if_ge (tgt := 30) hx hb dX1_ward_23 (by decide) (fun c8 => ?_) (fun c8 => ?_)
  · replace hf := it_t c8 hf
    refine lv_iconst hx hb dX1_ward_30 kc_i0 ?_
    exact (w31) o a0 v6.1 o 0 v6.2.1 ((((nx + 1) + 1) + v4.2.2.1) + v6.2.2.1) ls H locs ((((0 + 1) + 1) + v4.2.2.1) + v6.2.2.1) ((((0 + 1) + 1) + v4.2.2.2) + v6.2.2.2) o7 hB (by omega) hT (lv_sub (l' := [(0, .ref o), (1, .int a0), (2, .int v6.1)]) hl [1, 2, 0] rfl) hf
  · replace hf := it_f c8 hf
    refine lv_iconst hx hb dX1_ward_26 kc_i5 ?_
    refine lv_goto (tgt := 31) hx hb dX1_ward_27 (by decide) ?_
    exact (w31) o a0 v6.1 o (nI 5) v6.2.1 ((((nx + 1) + 1) + v4.2.2.1) + v6.2.2.1) ls H locs ((((0 + 1) + 1) + v4.2.2.1) + v6.2.2.1) ((((0 + 1) + 1) + v4.2.2.2) + v6.2.2.2) o7 hB (by omega) hT (lv_sub (l' := [(0, .ref o), (1, .int a0), (2, .int v6.1)]) hl [1, 2, 0] rfl) hf
theorem hd_X1_lambda_ward_26 : yX1_lambda_ward_26.cls = RX1 ∧ yX1_lambda_ward_26.cls ≠ "java/lang/invoke/MethodHandle" ∧ yX1_lambda_ward_26.cls ≠ "java/lang/invoke/VarHandle" ∧ (parseMethodDescriptor yX1_lambda_ward_26.desc).map (fun d => d.parameters.length) = some 1 := by decide +kernel
set_option maxHeartbeats 4000000 in
set_option maxRecDepth 100000 in
theorem mm_X1_lambda_ward_26 {o : Nat} {a0 : Int32} {out : Int32 × AH × Nat × Nat} (hE : IfOK l G E fE lE) (hf : f_X1_lambda_ward_26 E h nx o a0 = some out) : Met l yX1_lambda_ward_26 (ws_ yX1_lambda_ward_26 cX1_lambda_ward_26 2 (some .boolean)) (rC (fE + 2) (lE + 3100) out.2.2.1 out.2.2.2) (bPc G E.1 hSites h nx [.ref o, .int a0]) (bQ G (some (.int out.1)) (narrow .boolean (.int out.1) = .int out.1) out.2.1 (nx + out.2.2.1) (AA h nx)) out.2.2.1 out.2.2.2 (AA h nx) := by
  refine bGo (by decide +kernel) (Nat.le_of_ble_eq_true rfl) (fun p e s m below meth c ls S hr hlocks hin hnm hS hB hl => ?_)
  have S : CallFix p m c cX1_lambda_ward_26 2 s _ lw_all RX1 := S
  obtain ⟨hx, hb, hml, hown, hts⟩ := id S
  have hl : lv_has ls 2 [(0, .ref o), (1, .int a0)] := hl
  have hT : TL out out 0 0 := TL_0
  rw [f_X1_lambda_ward_26] at hf
  refine lv_aload_n hx hb dX1_lambda_ward_26_0 rfl (lv_at hl 0 rfl) ?_
  obtain ⟨v1, hv1, hf⟩ := ob_s hf
  refine bg_X1_39 S hS hB (vR_s hv1) dX1_lambda_ward_26_1 ?_
  obtain ⟨g2, hf⟩ := gd_t hf
  obtain ⟨v3, hv3, hf⟩ := ob_s hf
  refine mc_X1_130 (fE := fE) (lE := lE) S hS hB g2 hv3 hl.1 ⟨(by show _ ≤ (fE + 2); omega), (by show _ ≤ (lE + 3100); omega)⟩ (Nat.le_of_ble_eq_true rfl) ⟨(TL_m hT).1, (TL_m hT).2⟩ dX1_lambda_ward_26_4 (fun _ => ?_)
  refine lv_aload_n hx hb dX1_lambda_ward_26_7 rfl (lv_at hl 0 rfl) ?_
  refine lv_iload_n hx hb dX1_lambda_ward_26_8 rfl (lv_at hl 1 rfl) ?_
  obtain ⟨o4, hf, hT⟩ := TL_c hT hf
  refine b_lam S hS hB (k := 36) (vs := [.ref o, .int a0]) hnm rfl lamL_36 (lamV_c rfl rfl (lamV_c rfl rfl lamV_n)) rfl hl.1 (by show _ ≤ (lE + 3100); simp only [List.map, List.sum_cons, List.sum_nil, Value.category]; omega) (TL_m hT).1 (TL_m hT).2 dX1_lambda_ward_26_9 (fun H hB => ?_)
  obtain ⟨v5, hv5, hf⟩ := ob_s hf
  obtain ⟨o6, hf, hT⟩ := TL_c hT hf
  refine mc_X1_192 (fE := fE) (lE := lE) S hE hS hB hv5 hl.1 ⟨(by show _ ≤ (fE + 2); omega), (by show _ ≤ (lE + 3100); omega)⟩ (Nat.le_of_ble_eq_true rfl) ⟨(TL_m hT).1, (TL_m hT).2⟩ dX1_lambda_ward_26_14 (fun H locs _ hB => ?_)
  refine lv_if_le (tgt := 24) hx hb dX1_lambda_ward_26_17 (by decide) (fun c7 => ?_) (fun c7 => ?_)
  · replace hf := it_t c7 hf
    refine lv_iconst hx hb dX1_lambda_ward_26_24 kc_i0 ?_
    have hE9 := TL_e hT hf
    subst hE9
    exact bt_z S hr hlocks hB (by omega) nb0 dX1_lambda_ward_26_25
  · replace hf := it_f c7 hf
    refine lv_iconst hx hb dX1_lambda_ward_26_20 kc_i1 ?_
    refine lv_goto (tgt := 25) hx hb dX1_lambda_ward_26_21 (by decide) ?_
    have hE9 := TL_e hT hf
    subst hE9
    exact bt_z S hr hlocks hB (by omega) nb1 dX1_lambda_ward_26_25
theorem hd_X1_lambda_ward_25 : yX1_lambda_ward_25.cls = RX1 ∧ yX1_lambda_ward_25.cls ≠ "java/lang/invoke/MethodHandle" ∧ yX1_lambda_ward_25.cls ≠ "java/lang/invoke/VarHandle" ∧ (parseMethodDescriptor yX1_lambda_ward_25.desc).map (fun d => d.parameters.length) = some 2 := by decide +kernel
set_option maxHeartbeats 4000000 in
set_option maxRecDepth 100000 in
theorem mm_X1_lambda_ward_25 {o : Nat} {a0 : Int32} {a1 : Int32} {out : Int32} (hf : f_X1_lambda_ward_25 E h o a0 a1 = some out) : Met l yX1_lambda_ward_25 (ws_ yX1_lambda_ward_25 cX1_lambda_ward_25 3 (some .boolean)) (rM (fE + 4) (lE + 85)) (bPc G E.1 hSites h nx [.ref o, .int a0, .int a1]) (gR (some (.int out)) (narrow .boolean (.int out) = .int out)) 0 0 (fun _ => False) := by
  refine bGo (by decide +kernel) (Nat.le_of_ble_eq_true rfl) (fun p e s m below meth c ls S hr hlocks hin hnm hS hB hl => ?_)
  have S : CallFix p m c cX1_lambda_ward_25 3 s _ lw_all RX1 := S
  obtain ⟨hx, hb, hml, hown, hts⟩ := id S
  have hl : lv_has ls 3 [(0, .ref o), (1, .int a0), (2, .int a1)] := hl
  rw [f_X1_lambda_ward_25] at hf
  refine lv_aload_n hx hb dX1_lambda_ward_25_0 rfl (lv_at hl 0 rfl) ?_
  refine lv_iload_n hx hb dX1_lambda_ward_25_1 rfl (lv_at hl 2 rfl) ?_
  obtain ⟨g1, hf⟩ := gd_t hf
  obtain ⟨v2, hv2, hf⟩ := ob_s hf
  refine mc_X1_234 (fE := fE) (lE := lE) S hS hB g1 hv2 hl.1 ⟨(by show _ ≤ (fE + 4); omega), (by show _ ≤ (lE + 85); omega)⟩ (Nat.le_of_ble_eq_true rfl) ⟨Nat.zero_le _, Nat.zero_le _⟩ dX1_lambda_ward_25_2 (fun _ => ?_)
  obtain ⟨v3, hv3, hf⟩ := ob_s hf
  refine bg_X1_241 S hS hB (vI_s hv3) dX1_lambda_ward_25_5 ?_
  refine lv_iload_n hx hb dX1_lambda_ward_25_8 rfl (lv_at hl 1 rfl) ?_
  refine lv_icmp_ne (tgt := 16) hx hb dX1_lambda_ward_25_9 (by decide) (fun c4 => ?_) (fun c4 => ?_)
  · replace hf := it_f c4 hf
    refine lv_iconst hx hb dX1_lambda_ward_25_16 kc_i0 ?_
    have hE9 := Option.some.inj hf
    subst hE9
    exact gt_rz S hr hlocks nb0 dX1_lambda_ward_25_17
  · replace hf := it_t c4 hf
    refine lv_iconst hx hb dX1_lambda_ward_25_12 kc_i1 ?_
    refine lv_goto (tgt := 17) hx hb dX1_lambda_ward_25_13 (by decide) ?_
    have hE9 := Option.some.inj hf
    subst hE9
    exact gt_rz S hr hlocks nb1 dX1_lambda_ward_25_17
theorem hd_X1_lambda_ward_27 : yX1_lambda_ward_27.cls = RX1 ∧ yX1_lambda_ward_27.cls ≠ "java/lang/invoke/MethodHandle" ∧ yX1_lambda_ward_27.cls ≠ "java/lang/invoke/VarHandle" ∧ (parseMethodDescriptor yX1_lambda_ward_27.desc).map (fun d => d.parameters.length) = some 1 := by decide +kernel
set_option maxHeartbeats 4000000 in
set_option maxRecDepth 100000 in
theorem mm_X1_lambda_ward_27 {o : Nat} {a0 : Int32} {out : Int32 × AH × Nat × Nat} (hE : IfOK l G E fE lE) (hf : f_X1_lambda_ward_27 E h nx o a0 = some out) : Met l yX1_lambda_ward_27 (ws_ yX1_lambda_ward_27 cX1_lambda_ward_27 2 (some .int)) (rC (fE + 3) (lE + 3121) out.2.2.1 out.2.2.2) (bPc G E.1 hSites h nx [.ref o, .int a0]) (bQ G (some (.int out.1)) True out.2.1 (nx + out.2.2.1) (AA h nx)) out.2.2.1 out.2.2.2 (AA h nx) := by
  refine bGo (by decide +kernel) (Nat.le_of_ble_eq_true rfl) (fun p e s m below meth c ls S hr hlocks hin hnm hS hB hl => ?_)
  have S : CallFix p m c cX1_lambda_ward_27 2 s _ lw_all RX1 := S
  obtain ⟨hx, hb, hml, hown, hts⟩ := id S
  have hl : lv_has ls 2 [(0, .ref o), (1, .int a0)] := hl
  have hT : TL out out 0 0 := TL_0
  rw [f_X1_lambda_ward_27] at hf
  refine lv_aload_n hx hb dX1_lambda_ward_27_0 rfl (lv_at hl 0 rfl) ?_
  refine lv_iload_n hx hb dX1_lambda_ward_27_1 rfl (lv_at hl 1 rfl) ?_
  obtain ⟨g1, hf⟩ := gd_t hf
  obtain ⟨v2, hv2, hf⟩ := ob_s hf
  obtain ⟨o3, hf, hT⟩ := TL_c hT hf
  refine mc_X1_466 (fE := fE) (lE := lE) S hE hS hB g1 hv2 hl.1 ⟨(by show _ ≤ (fE + 3); omega), (by show _ ≤ (lE + 3121); omega)⟩ (Nat.le_of_ble_eq_true rfl) ⟨(TL_m hT).1, (TL_m hT).2⟩ dX1_lambda_ward_27_2 (fun H locs _ hB => ?_)
  refine lv_ineg hx hb dX1_lambda_ward_27_5 ?_
  have hE9 := TL_e hT hf
  subst hE9
  exact bt_i S hr hlocks hB (by omega) trivial dX1_lambda_ward_27_6
theorem hd_X1_lambda_muchOf_23 : yX1_lambda_muchOf_23.cls = RX1 ∧ yX1_lambda_muchOf_23.cls ≠ "java/lang/invoke/MethodHandle" ∧ yX1_lambda_muchOf_23.cls ≠ "java/lang/invoke/VarHandle" ∧ (parseMethodDescriptor yX1_lambda_muchOf_23.desc).map (fun d => d.parameters.length) = some 2 := by decide +kernel
set_option maxHeartbeats 4000000 in
set_option maxRecDepth 100000 in
theorem mm_X1_lambda_muchOf_23 {o : Nat} {a0 : Int32} {a1 : Int32} {out : Int32} (hf : f_X1_lambda_muchOf_23 E h o a0 a1 = some out) : Met l yX1_lambda_muchOf_23 (ws_ yX1_lambda_muchOf_23 cX1_lambda_muchOf_23 3 (some .boolean)) (rM (fE + 4) (lE + 85)) (bPc G E.1 hSites h nx [.ref o, .int a0, .int a1]) (gR (some (.int out)) (narrow .boolean (.int out) = .int out)) 0 0 (fun _ => False) := by
  refine bGo (by decide +kernel) (Nat.le_of_ble_eq_true rfl) (fun p e s m below meth c ls S hr hlocks hin hnm hS hB hl => ?_)
  have S : CallFix p m c cX1_lambda_muchOf_23 3 s _ lw_all RX1 := S
  obtain ⟨hx, hb, hml, hown, hts⟩ := id S
  have hl : lv_has ls 3 [(0, .ref o), (1, .int a0), (2, .int a1)] := hl
  rw [f_X1_lambda_muchOf_23] at hf
  refine lv_aload_n hx hb dX1_lambda_muchOf_23_0 rfl (lv_at hl 0 rfl) ?_
  obtain ⟨v1, hv1, hf⟩ := ob_s hf
  refine bg_X1_70 S hS hB (vR_s hv1) dX1_lambda_muchOf_23_1 ?_
  obtain ⟨v2, hv2, hf⟩ := ob_s hf
  refine bg_X1_305 S hS hB (vR_s hv2) dX1_lambda_muchOf_23_4 ?_
  refine lv_iload_n hx hb dX1_lambda_muchOf_23_7 rfl (lv_at hl 2 rfl) ?_
  obtain ⟨v3, hv3, hf⟩ := ob_s hf
  refine b_zald S hS.1 hB hv3 dX1_lambda_muchOf_23_8 ?_
  refine lv_if_ne (tgt := 28) hx hb dX1_lambda_muchOf_23_9 (by decide) (fun c4 => ?_) (fun c4 => ?_)
  · replace hf := it_f c4 hf
    refine lv_iconst hx hb dX1_lambda_muchOf_23_28 kc_i0 ?_
    have hE9 := Option.some.inj hf
    subst hE9
    exact gt_rz S hr hlocks nb0 dX1_lambda_muchOf_23_29
  · replace hf := it_t c4 hf
    refine lv_aload_n hx hb dX1_lambda_muchOf_23_12 rfl (lv_at hl 0 rfl) ?_
    refine lv_iload_n hx hb dX1_lambda_muchOf_23_13 rfl (lv_at hl 2 rfl) ?_
    obtain ⟨g5, hf⟩ := gd_t hf
    obtain ⟨v6, hv6, hf⟩ := ob_s hf
    refine mc_X1_277 (fE := fE) (lE := lE) S hS hB g5 hv6 hl.1 ⟨(by show _ ≤ (fE + 4); omega), (by show _ ≤ (lE + 85); omega)⟩ (Nat.le_of_ble_eq_true rfl) ⟨Nat.zero_le _, Nat.zero_le _⟩ dX1_lambda_muchOf_23_14 (fun _ => ?_)
    obtain ⟨g7, hf⟩ := gd_t hf
    obtain ⟨v8, hv8, hf⟩ := ob_s hf
    refine mc_X1_290 (fE := fE) (lE := lE) S hS hB g7 hv8 hl.1 ⟨(by show _ ≤ (fE + 4); omega), (by show _ ≤ (lE + 85); omega)⟩ (Nat.le_of_ble_eq_true rfl) ⟨Nat.zero_le _, Nat.zero_le _⟩ dX1_lambda_muchOf_23_17 (fun _ => ?_)
    refine lv_iload_n hx hb dX1_lambda_muchOf_23_20 rfl (lv_at hl 1 rfl) ?_
    refine lv_icmp_ne (tgt := 28) hx hb dX1_lambda_muchOf_23_21 (by decide) (fun c9 => ?_) (fun c9 => ?_)
    · replace hf := it_f c9 hf
      refine lv_iconst hx hb dX1_lambda_muchOf_23_28 kc_i0 ?_
      have hE9 := Option.some.inj hf
      subst hE9
      exact gt_rz S hr hlocks nb0 dX1_lambda_muchOf_23_29
    · replace hf := it_t c9 hf
      refine lv_iconst hx hb dX1_lambda_muchOf_23_24 kc_i1 ?_
      refine lv_goto (tgt := 29) hx hb dX1_lambda_muchOf_23_25 (by decide) ?_
      have hE9 := Option.some.inj hf
      subst hE9
      exact gt_rz S hr hlocks nb1 dX1_lambda_muchOf_23_29
theorem hd_X1_lambda_muchOf_24 : yX1_lambda_muchOf_24.cls = RX1 ∧ yX1_lambda_muchOf_24.cls ≠ "java/lang/invoke/MethodHandle" ∧ yX1_lambda_muchOf_24.cls ≠ "java/lang/invoke/VarHandle" ∧ (parseMethodDescriptor yX1_lambda_muchOf_24.desc).map (fun d => d.parameters.length) = some 2 := by decide +kernel
set_option maxHeartbeats 4000000 in
set_option maxRecDepth 100000 in
theorem mm_X1_lambda_muchOf_24 {o : Nat} {a0 : Int32} {a1 : Int32} {out : Int32} (hf : f_X1_lambda_muchOf_24 E h o a0 a1 = some out) : Met l yX1_lambda_muchOf_24 (ws_ yX1_lambda_muchOf_24 cX1_lambda_muchOf_24 3 (some .boolean)) (rM (fE + 4) (lE + 85)) (bPc G E.1 hSites h nx [.ref o, .int a0, .int a1]) (gR (some (.int out)) (narrow .boolean (.int out) = .int out)) 0 0 (fun _ => False) := by
  refine bGo (by decide +kernel) (Nat.le_of_ble_eq_true rfl) (fun p e s m below meth c ls S hr hlocks hin hnm hS hB hl => ?_)
  have S : CallFix p m c cX1_lambda_muchOf_24 3 s _ lw_all RX1 := S
  obtain ⟨hx, hb, hml, hown, hts⟩ := id S
  have hl : lv_has ls 3 [(0, .ref o), (1, .int a0), (2, .int a1)] := hl
  rw [f_X1_lambda_muchOf_24] at hf
  refine lv_aload_n hx hb dX1_lambda_muchOf_24_0 rfl (lv_at hl 0 rfl) ?_
  obtain ⟨v1, hv1, hf⟩ := ob_s hf
  refine bg_X1_70 S hS hB (vR_s hv1) dX1_lambda_muchOf_24_1 ?_
  refine lv_iload_n hx hb dX1_lambda_muchOf_24_4 rfl (lv_at hl 2 rfl) ?_
  obtain ⟨g2, hf⟩ := gd_t hf
  obtain ⟨v3, hv3, hf⟩ := ob_s hf
  refine mc_X1_250 (fE := fE) (lE := lE) S hS hB g2 hv3 hl.1 ⟨(by show _ ≤ (fE + 4); omega), (by show _ ≤ (lE + 85); omega)⟩ (Nat.le_of_ble_eq_true rfl) ⟨Nat.zero_le _, Nat.zero_le _⟩ dX1_lambda_muchOf_24_5 (fun hnv3 => ?_)
  refine lv_if_eq (tgt := 27) hx hb dX1_lambda_muchOf_24_8 (by decide) (fun c4 => ?_) (fun c4 => ?_)
  · replace hf := it_t c4 hf
    refine lv_iconst hx hb dX1_lambda_muchOf_24_27 kc_i0 ?_
    have hE9 := Option.some.inj hf
    subst hE9
    exact gt_rz S hr hlocks nb0 dX1_lambda_muchOf_24_28
  · replace hf := it_f c4 hf
    refine lv_aload_n hx hb dX1_lambda_muchOf_24_11 rfl (lv_at hl 0 rfl) ?_
    refine lv_iload_n hx hb dX1_lambda_muchOf_24_12 rfl (lv_at hl 2 rfl) ?_
    obtain ⟨g5, hf⟩ := gd_t hf
    obtain ⟨v6, hv6, hf⟩ := ob_s hf
    refine mc_X1_234 (fE := fE) (lE := lE) S hS hB g5 hv6 hl.1 ⟨(by show _ ≤ (fE + 4); omega), (by show _ ≤ (lE + 85); omega)⟩ (Nat.le_of_ble_eq_true rfl) ⟨Nat.zero_le _, Nat.zero_le _⟩ dX1_lambda_muchOf_24_13 (fun _ => ?_)
    obtain ⟨v7, hv7, hf⟩ := ob_s hf
    refine bg_X1_241 S hS hB (vI_s hv7) dX1_lambda_muchOf_24_16 ?_
    refine lv_iload_n hx hb dX1_lambda_muchOf_24_19 rfl (lv_at hl 1 rfl) ?_
    refine lv_icmp_ne (tgt := 27) hx hb dX1_lambda_muchOf_24_20 (by decide) (fun c8 => ?_) (fun c8 => ?_)
    · replace hf := it_f c8 hf
      refine lv_iconst hx hb dX1_lambda_muchOf_24_27 kc_i0 ?_
      have hE9 := Option.some.inj hf
      subst hE9
      exact gt_rz S hr hlocks nb0 dX1_lambda_muchOf_24_28
    · replace hf := it_t c8 hf
      refine lv_iconst hx hb dX1_lambda_muchOf_24_23 kc_i1 ?_
      refine lv_goto (tgt := 28) hx hb dX1_lambda_muchOf_24_24 (by decide) ?_
      have hE9 := Option.some.inj hf
      subst hE9
      exact gt_rz S hr hlocks nb1 dX1_lambda_muchOf_24_28
theorem hd_X1_wishOf : yX1_wishOf.cls = RX1 ∧ yX1_wishOf.cls ≠ "java/lang/invoke/MethodHandle" ∧ yX1_wishOf.cls ≠ "java/lang/invoke/VarHandle" ∧ (parseMethodDescriptor yX1_wishOf.desc).map (fun d => d.parameters.length) = some 2 := by decide +kernel
set_option maxHeartbeats 4000000 in
set_option maxRecDepth 100000 in
theorem mm_X1_wishOf {o : Nat} {a0 : Int32} {a1 : Int32} {out : Int32} (hf : f_X1_wishOf E h o a0 a1 = some out) : Met l yX1_wishOf (ws_ yX1_wishOf cX1_wishOf 3 (some .int)) (rM (fE + 2) (lE + 45)) (bPc G E.1 hSites h nx [.ref o, .int a0, .int a1]) (gR (some (.int out)) True) 0 0 (fun _ => False) := by
  refine bGo (by decide +kernel) (Nat.le_of_ble_eq_true rfl) (fun p e s m below meth c ls S hr hlocks hin hnm hS hB hl => ?_)
  have S : CallFix p m c cX1_wishOf 3 s _ lw_all RX1 := S
  obtain ⟨hx, hb, hml, hown, hts⟩ := id S
  have hl : lv_has ls 3 [(0, .ref o), (1, .int a0), (2, .int a1)] := hl
  rw [f_X1_wishOf] at hf
  refine lv_aload_n hx hb dX1_wishOf_0 rfl (lv_at hl 0 rfl) ?_
  obtain ⟨v1, hv1, hf⟩ := ob_s hf
  refine bg_X1_70 S hS hB (vR_s hv1) dX1_wishOf_1 ?_
  refine lv_iload_n hx hb dX1_wishOf_4 rfl (lv_at hl 1 rfl) ?_
  refine lv_iload_n hx hb dX1_wishOf_5 rfl (lv_at hl 2 rfl) ?_
  obtain ⟨g2, hf⟩ := gd_t hf
  obtain ⟨v3, hv3, hf⟩ := ob_s hf
  refine mc_X1_469 (fE := fE) (lE := lE) S hS hB g2 hv3 hl.1 ⟨(by show _ ≤ (fE + 2); omega), (by show _ ≤ (lE + 45); omega)⟩ (Nat.le_of_ble_eq_true rfl) ⟨Nat.zero_le _, Nat.zero_le _⟩ dX1_wishOf_6 (fun hnv3 => ?_)
  refine lv_if_eq (tgt := 21) hx hb dX1_wishOf_9 (by decide) (fun c4 => ?_) (fun c4 => ?_)
  · replace hf := it_t c4 hf
    refine lv_bipush hx hb dX1_wishOf_21 kc_b6 ?_
    have hE9 := Option.some.inj hf
    subst hE9
    exact gt_ri S hr hlocks trivial dX1_wishOf_23
  · replace hf := it_f c4 hf
    refine lv_aload_n hx hb dX1_wishOf_12 rfl (lv_at hl 0 rfl) ?_
    refine lv_iload_n hx hb dX1_wishOf_13 rfl (lv_at hl 1 rfl) ?_
    refine lv_iload_n hx hb dX1_wishOf_14 rfl (lv_at hl 2 rfl) ?_
    obtain ⟨g5, hf⟩ := gd_t hf
    obtain ⟨v6, hv6, hf⟩ := ob_s hf
    refine mc_X1_472 (fE := fE) (lE := lE) S hS hB g5 hv6 hl.1 ⟨(by show _ ≤ (fE + 2); omega), (by show _ ≤ (lE + 45); omega)⟩ (Nat.le_of_ble_eq_true rfl) ⟨Nat.zero_le _, Nat.zero_le _⟩ dX1_wishOf_15 (fun _ => ?_)
    refine lv_goto (tgt := 23) hx hb dX1_wishOf_18 (by decide) ?_
    have hE9 := Option.some.inj hf
    subst hE9
    exact gt_ri S hr hlocks trivial dX1_wishOf_23
set_option maxRecDepth 100000 in
theorem mc_X1_475 {o : Nat} {a0 : Int32} {a1 : Int32} {out : Int32} (S : CallFix p m c cc nL s args lw_all RX1) (hS : SK G E.1 hSites A s) (hB : BI G A s.heap h nx H locs) (ho : isO h o 0 = true) (hf : f_X1_wishOf E h o a0 a1 = some out) (hsz : ls.size = nL) (hR : (fE + 2) + 1 ≤ R.frames ∧ 8 + (3 + 11) + (lE + 45) ≤ R.locals) (hW : (rest.map fun v => v.category).sum ≤ 8) (hcs : cells ≤ R.cells ∧ slots ≤ R.slots) (hdg : decode cc pc = .ok (.invokevirtual 475, 3))  (kk : True → W p l e R s m args below meth c H locs cells slots Q (F0 m (pc + 3) ls (.int out :: rest))) : W p l e R s m args below meth c H locs cells slots Q (F0 m pc ls (.int a1 :: .int a0 :: .ref o :: rest)) := by
  have hN := hS.2.1
  obtain ⟨fs, he⟩ := isO_s ho
  exact br_r (va_runV (As := [.int a0, .int a1]) S (mm_X1_wishOf (l := l) (G := G) (nx := nx) (fE := fE) (lE := lE) hf) (cwV 2 S.2.2.2.2 (lw_V q1606 q1608 qs76 q174 q1609) rfl rfl rfl hd_X1_wishOf hR) (bPreV hS hB (ci := 0) rfl he) rfl rfl hsz rfl (lv_room hW) hdg hcs) kk
theorem hd_X1_wouldRather : yX1_wouldRather.cls = RX1 ∧ yX1_wouldRather.cls ≠ "java/lang/invoke/MethodHandle" ∧ yX1_wouldRather.cls ≠ "java/lang/invoke/VarHandle" ∧ (parseMethodDescriptor yX1_wouldRather.desc).map (fun d => d.parameters.length) = some 2 := by decide +kernel
set_option maxHeartbeats 4000000 in
set_option maxRecDepth 100000 in
theorem mm_X1_wouldRather {o : Nat} {a0 : Int32} {a1 : Int32} {out : Int32} (hf : f_X1_wouldRather E h o a0 a1 = some out) : Met l yX1_wouldRather (ws_ yX1_wouldRather cX1_wouldRather 5 (some .boolean)) (rM (fE + 5) (lE + 107)) (bPc G E.1 hSites h nx [.ref o, .int a0, .int a1]) (gR (some (.int out)) (narrow .boolean (.int out) = .int out)) 0 0 (fun _ => False) := by
  refine bGo (by decide +kernel) (Nat.le_of_ble_eq_true rfl) (fun p e s m below meth c ls S hr hlocks hin hnm hS hB hl => ?_)
  have S : CallFix p m c cX1_wouldRather 5 s _ lw_all RX1 := S
  obtain ⟨hx, hb, hml, hown, hts⟩ := id S
  have hl : lv_has ls 5 [(0, .ref o), (1, .int a0), (2, .int a1)] := hl
  rw [f_X1_wouldRather] at hf
  refine lv_aload_n hx hb dX1_wouldRather_0 rfl (lv_at hl 0 rfl) ?_
  obtain ⟨v1, hv1, hf⟩ := ob_s hf
  refine bg_X1_70 S hS hB (vR_s hv1) dX1_wouldRather_1 ?_
  obtain ⟨v2, hv2, hf⟩ := ob_s hf
  refine bg_X1_296 S hS hB (vR_s hv2) dX1_wouldRather_4 ?_
  refine lv_iload_n hx hb dX1_wouldRather_7 rfl (lv_at hl 1 rfl) ?_
  obtain ⟨v3, hv3, hf⟩ := ob_s hf
  refine b_iald S hS.1 hB hv3 dX1_wouldRather_8 ?_
  refine lv_istore_n (i := 3) (lv' := [(3, .int v3), (0, .ref o), (1, .int a0), (2, .int a1)]) hx hb dX1_wouldRather_9 rfl hl (by decide) rfl (fun ls hl => ?_)
  refine lv_aload_n hx hb dX1_wouldRather_10 rfl (lv_at hl 1 rfl) ?_
  obtain ⟨v4, hv4, hf⟩ := ob_s hf
  refine bg_X1_70 S hS hB (vR_s hv4) dX1_wouldRather_11 ?_
  obtain ⟨v5, hv5, hf⟩ := ob_s hf
  refine bg_X1_296 S hS hB (vR_s hv5) dX1_wouldRather_14 ?_
  refine lv_iload_n hx hb dX1_wouldRather_17 rfl (lv_at hl 3 rfl) ?_
  obtain ⟨v6, hv6, hf⟩ := ob_s hf
  refine b_iald S hS.1 hB hv6 dX1_wouldRather_18 ?_
  refine lv_istore (lv' := [(4, .int v6), (3, .int v3), (0, .ref o), (1, .int a0), (2, .int a1)]) hx hb dX1_wouldRather_19 hl (by decide) rfl (fun ls hl => ?_)
  refine lv_iload_n hx hb dX1_wouldRather_21 rfl (lv_at hl 1 rfl) ?_
  refine lv_if_lt (tgt := 63) hx hb dX1_wouldRather_22 (by decide) (fun c7 => ?_) (fun c7 => ?_)
  · replace hf := it_t c7 hf
    refine lv_iconst hx hb dX1_wouldRather_63 kc_i0 ?_
    have hE9 := Option.some.inj hf
    subst hE9
    exact gt_rz S hr hlocks nb0 dX1_wouldRather_64
  · replace hf := it_f c7 hf
    refine lv_iload hx hb dX1_wouldRather_25 (lv_at hl 0 rfl) ?_
    refine lv_if_lt (tgt := 63) hx hb dX1_wouldRather_27 (by decide) (fun c8 => ?_) (fun c8 => ?_)
    · replace hf := it_t c8 hf
      refine lv_iconst hx hb dX1_wouldRather_63 kc_i0 ?_
      have hE9 := Option.some.inj hf
      subst hE9
      exact gt_rz S hr hlocks nb0 dX1_wouldRather_64
    · replace hf := it_f c8 hf
      refine lv_aload_n hx hb dX1_wouldRather_30 rfl (lv_at hl 2 rfl) ?_
      obtain ⟨v9, hv9, hf⟩ := ob_s hf
      refine bg_X1_70 S hS hB (vR_s hv9) dX1_wouldRather_31 ?_
      refine lv_iload_n hx hb dX1_wouldRather_34 rfl (lv_at hl 3 rfl) ?_
      refine lv_iload hx hb dX1_wouldRather_35 (lv_at hl 0 rfl) ?_
      obtain ⟨g10, hf⟩ := gd_t hf
      obtain ⟨v11, hv11, hf⟩ := ob_s hf
      refine mc_X1_338 (fE := fE) (lE := lE) S hS hB g10 hv11 hl.1 ⟨(by show _ ≤ (fE + 5); omega), (by show _ ≤ (lE + 107); omega)⟩ (Nat.le_of_ble_eq_true rfl) ⟨Nat.zero_le _, Nat.zero_le _⟩ dX1_wouldRather_37 (fun hnv11 => ?_)
      refine lv_if_eq (tgt := 63) hx hb dX1_wouldRather_40 (by decide) (fun c12 => ?_) (fun c12 => ?_)
      · replace hf := it_t c12 hf
        refine lv_iconst hx hb dX1_wouldRather_63 kc_i0 ?_
        have hE9 := Option.some.inj hf
        subst hE9
        exact gt_rz S hr hlocks nb0 dX1_wouldRather_64
      · replace hf := it_f c12 hf
        refine lv_aload_n hx hb dX1_wouldRather_43 rfl (lv_at hl 2 rfl) ?_
        refine lv_iload_n hx hb dX1_wouldRather_44 rfl (lv_at hl 3 rfl) ?_
        refine lv_iload hx hb dX1_wouldRather_45 (lv_at hl 0 rfl) ?_
        obtain ⟨g13, hf⟩ := gd_t hf
        obtain ⟨v14, hv14, hf⟩ := ob_s hf
        refine mc_X1_475 (fE := fE) (lE := lE) S hS hB g13 hv14 hl.1 ⟨(by show _ ≤ (fE + 5); omega), (by show _ ≤ (lE + 107); omega)⟩ (Nat.le_of_ble_eq_true rfl) ⟨Nat.zero_le _, Nat.zero_le _⟩ dX1_wouldRather_47 (fun _ => ?_)
        refine lv_aload_n hx hb dX1_wouldRather_50 rfl (lv_at hl 2 rfl) ?_
        refine lv_iload_n hx hb dX1_wouldRather_51 rfl (lv_at hl 3 rfl) ?_
        refine lv_iload_n hx hb dX1_wouldRather_52 rfl (lv_at hl 1 rfl) ?_
        obtain ⟨g15, hf⟩ := gd_t hf
        obtain ⟨v16, hv16, hf⟩ := ob_s hf
        refine mc_X1_475 (fE := fE) (lE := lE) S hS hB g15 hv16 hl.1 ⟨(by show _ ≤ (fE + 5); omega), (by show _ ≤ (lE + 107); omega)⟩ (Nat.le_of_ble_eq_true rfl) ⟨Nat.zero_le _, Nat.zero_le _⟩ dX1_wouldRather_53 (fun _ => ?_)
        refine lv_icmp_ge (tgt := 63) hx hb dX1_wouldRather_56 (by decide) (fun c17 => ?_) (fun c17 => ?_)
        · replace hf := it_t c17 hf
          refine lv_iconst hx hb dX1_wouldRather_63 kc_i0 ?_
          have hE9 := Option.some.inj hf
          subst hE9
          exact gt_rz S hr hlocks nb0 dX1_wouldRather_64
        · replace hf := it_f c17 hf
          refine lv_iconst hx hb dX1_wouldRather_59 kc_i1 ?_
          refine lv_goto (tgt := 64) hx hb dX1_wouldRather_60 (by decide) ?_
          have hE9 := Option.some.inj hf
          subst hE9
          exact gt_rz S hr hlocks nb1 dX1_wouldRather_64
set_option maxRecDepth 100000 in
theorem mc_X1_478 {o : Nat} {a0 : Int32} {a1 : Int32} {out : Int32} (S : CallFix p m c cc nL s args lw_all RX1) (hS : SK G E.1 hSites A s) (hB : BI G A s.heap h nx H locs) (ho : isO h o 0 = true) (hf : f_X1_wouldRather E h o a0 a1 = some out) (hsz : ls.size = nL) (hR : (fE + 5) + 1 ≤ R.frames ∧ 8 + (5 + 11) + (lE + 107) ≤ R.locals) (hW : (rest.map fun v => v.category).sum ≤ 8) (hcs : cells ≤ R.cells ∧ slots ≤ R.slots) (hdg : decode cc pc = .ok (.invokevirtual 478, 3))  (kk : (narrow .boolean (.int out) = .int out) → W p l e R s m args below meth c H locs cells slots Q (F0 m (pc + 3) ls (.int out :: rest))) : W p l e R s m args below meth c H locs cells slots Q (F0 m pc ls (.int a1 :: .int a0 :: .ref o :: rest)) := by
  have hN := hS.2.1
  obtain ⟨fs, he⟩ := isO_s ho
  exact br_r (va_runV (As := [.int a0, .int a1]) S (mm_X1_wouldRather (l := l) (G := G) (nx := nx) (fE := fE) (lE := lE) hf) (cwV 2 S.2.2.2.2 (lw_V q1602 q1604 qs75 q174 q1605) rfl rfl rfl hd_X1_wouldRather hR) (bPreV hS hB (ci := 0) rfl he) rfl rfl hsz rfl (lv_room hW) hdg hcs) kk
theorem hd_X1_envy : yX1_envy.cls = RX1 ∧ yX1_envy.cls ≠ "java/lang/invoke/MethodHandle" ∧ yX1_envy.cls ≠ "java/lang/invoke/VarHandle" ∧ (parseMethodDescriptor yX1_envy.desc).map (fun d => d.parameters.length) = some 1 := by decide +kernel
set_option maxHeartbeats 4000000 in
set_option maxRecDepth 100000 in
theorem mm_X1_envy {o : Nat} {a0 : Int32} {out : Int32 × AH × Nat × Nat} (hf : f_X1_envy E h nx o a0 = some out) : Met l yX1_envy (ws_ yX1_envy cX1_envy 6 (some .int)) (rC (fE + 6) (lE + 131) out.2.2.1 out.2.2.2) (bPc G E.1 hSites h nx [.ref o, .int a0]) (bQ G (some (.int out.1)) True out.2.1 (nx + out.2.2.1) (AA h nx)) out.2.2.1 out.2.2.2 (AA h nx) := by
  refine bGo (by decide +kernel) (Nat.le_of_ble_eq_true rfl) (fun p e s m below meth c ls S hr hlocks hin hnm hS hB hl => ?_)
  have S : CallFix p m c cX1_envy 6 s _ lw_all RX1 := S
  obtain ⟨hx, hb, hml, hown, hts⟩ := id S
  have hl : lv_has ls 6 [(0, .ref o), (1, .int a0)] := hl
  have w51 : ∀ (n : Nat) (k33 : Nat → Int32 → Int32 → Int32 → Int32 → AH → Nat → Option (Int32 × AH × Nat × Nat)), (∀ (b0 : Nat) (b1 : Int32) (b2 : Int32) (b3 : Int32) (b4 : Int32) (b5 : AH) (b6 : Nat) (ls : Array Slot) (H : Heap) (locs : List Loc) (ce sl : Nat) (o1 : Int32 × AH × Nat × Nat), BI G (AA h nx) s.heap b5 b6 H locs → b6 = nx + ce → TL out o1 ce sl → lv_has ls 6 [(0, .ref b0), (1, .int b1), (2, .int b2), (3, .int b3), (4, .int b4)] → k33 b0 b1 b2 b3 b4 b5 b6 = some o1 → W p l e (rC (fE + 6) (lE + 131) out.2.2.1 out.2.2.2) s m ([.ref o, .int a0] : List Value).toArray below meth c H locs ce sl (MQ below (bQ G (some (.int out.1)) True out.2.1 (nx + out.2.2.1) (AA h nx)) ([.ref o, .int a0] : List Value).toArray s out.2.2.1 out.2.2.2 (AA h nx)) (F0 m 33 ls [])) → ∀ (x0 : Nat) (x1 : Int32) (x2 : Int32) (x3 : Int32) (x4 : Int32) (x5 : Int32) (hc : AH) (nc : Nat) (ls : Array Slot) (H : Heap) (locs : List Loc) (ce sl : Nat) (o1 : Int32 × AH × Nat × Nat), BI G (AA h nx) s.heap hc nc H locs → nc = nx + ce → TL out o1 ce sl → lv_has ls 6 [(0, .ref x0), (1, .int x1), (2, .int x2), (3, .int x3), (4, .int x4), (5, .int x5)] → f_X1_envy_51 n k33 E x0 x1 x2 x3 x4 x5 hc nc = some o1 → W p l e (rC (fE + 6) (lE + 131) out.2.2.1 out.2.2.2) s m ([.ref o, .int a0] : List Value).toArray below meth c H locs ce sl (MQ below (bQ G (some (.int out.1)) True out.2.1 (nx + out.2.2.1) (AA h nx)) ([.ref o, .int a0] : List Value).toArray s out.2.2.1 out.2.2.2 (AA h nx)) (F0 m 51 ls []) := by
    intro n
    induction n with
    | zero =>
      intro k33 hk33 x0 x1 x2 x3 x4 x5 hc nc ls H locs ce sl o1 hB hn hT hl hf
      exact absurd hf (by rw [f_X1_envy_51]; exact nofun)
    | succ n ih =>
      intro k33 hk33 x0 x1 x2 x3 x4 x5 hc nc ls H locs ce sl o1 hB hn hT hl hf
      rw [f_X1_envy_51] at hf
      refine lv_iload hx hb dX1_envy_51 (lv_at hl 5 rfl) ?_
      refine lv_aload_n hx hb dX1_envy_53 rfl (lv_at hl 0 rfl) ?_
      obtain ⟨v1, hv1, hf⟩ := ob_s hf
      refine bg_X1_51 S hS hB (vR_s hv1) dX1_envy_54 ?_
      obtain ⟨g2, hf⟩ := gd_t hf
      obtain ⟨v3, hv3, hf⟩ := ob_s hf
      refine mc_X1_130 (fE := fE) (lE := lE) S hS hB g2 hv3 hl.1 ⟨(by show _ ≤ (fE + 6); omega), (by show _ ≤ (lE + 131); omega)⟩ (Nat.le_of_ble_eq_true rfl) ⟨(TL_m hT).1, (TL_m hT).2⟩ dX1_envy_57 (fun _ => ?_)
      refine lv_icmp_ge (tgt := 114) hx hb dX1_envy_60 (by decide) (fun c4 => ?_) (fun c4 => ?_)
      · replace hf := it_t c4 hf
        refine lv_iinc (v := (x4 + 1)) (lv' := [(4, .int (x4 + 1)), (0, .ref x0), (1, .int x1), (2, .int x2), (3, .int x3), (5, .int x5)]) hx hb dX1_envy_114 hl (k := 4) rfl rfl (by decide) rfl (fun ls hl => ?_)
        refine lv_goto (tgt := 33) hx hb dX1_envy_117 (by decide) ?_
        exact hk33 x0 x1 x2 x3 (x4 + 1) hc nc ls H locs ce sl o1 hB (by omega) hT (lv_sub (l' := [(0, .ref x0), (1, .int x1), (2, .int x2), (3, .int x3), (4, .int (x4 + 1))]) hl [1, 2, 3, 4, 0] rfl) hf
      · replace hf := it_f c4 hf
        refine lv_aload_n hx hb dX1_envy_63 rfl (lv_at hl 0 rfl) ?_
        refine lv_iload hx hb dX1_envy_64 (lv_at hl 4 rfl) ?_
        refine lv_iload hx hb dX1_envy_66 (lv_at hl 5 rfl) ?_
        obtain ⟨g5, hf⟩ := gd_t hf
        obtain ⟨v6, hv6, hf⟩ := ob_s hf
        refine mc_X1_478 (fE := fE) (lE := lE) S hS hB g5 hv6 hl.1 ⟨(by show _ ≤ (fE + 6); omega), (by show _ ≤ (lE + 131); omega)⟩ (Nat.le_of_ble_eq_true rfl) ⟨(TL_m hT).1, (TL_m hT).2⟩ dX1_envy_68 (fun hnv6 => ?_)
        refine lv_if_eq (tgt := 108) hx hb dX1_envy_71 (by decide) (fun c7 => ?_) (fun c7 => ?_)
        · replace hf := it_t c7 hf
          refine lv_iinc (v := (x5 + 1)) (lv' := [(5, .int (x5 + 1)), (0, .ref x0), (1, .int x1), (2, .int x2), (3, .int x3), (4, .int x4)]) hx hb dX1_envy_108 hl (k := 5) rfl rfl (by decide) rfl (fun ls hl => ?_)
          refine lv_goto (tgt := 51) hx hb dX1_envy_111 (by decide) ?_
          exact (ih k33 hk33) x0 x1 x2 x3 x4 (x5 + 1) hc nc ls H locs ce sl o1 hB (by omega) hT (lv_sub (l' := [(0, .ref x0), (1, .int x1), (2, .int x2), (3, .int x3), (4, .int x4), (5, .int (x5 + 1))]) hl [1, 2, 3, 4, 5, 0] rfl) hf
        · replace hf := it_f c7 hf
          refine lv_aload_n hx hb dX1_envy_74 rfl (lv_at hl 0 rfl) ?_
          refine lv_iload hx hb dX1_envy_75 (lv_at hl 5 rfl) ?_
          refine lv_iload hx hb dX1_envy_77 (lv_at hl 4 rfl) ?_
          obtain ⟨g8, hf⟩ := gd_t hf
          obtain ⟨v9, hv9, hf⟩ := ob_s hf
          refine mc_X1_478 (fE := fE) (lE := lE) S hS hB g8 hv9 hl.1 ⟨(by show _ ≤ (fE + 6); omega), (by show _ ≤ (lE + 131); omega)⟩ (Nat.le_of_ble_eq_true rfl) ⟨(TL_m hT).1, (TL_m hT).2⟩ dX1_envy_79 (fun hnv9 => ?_)
          refine lv_if_ne (tgt := 88) hx hb dX1_envy_82 (by decide) (fun c10 => ?_) (fun c10 => ?_)
          · replace hf := it_f c10 hf
            refine lv_iload_n hx hb dX1_envy_88 rfl (lv_at hl 2 rfl) ?_
            refine lv_if_ne (tgt := 103) hx hb dX1_envy_89 (by decide) (fun c11 => ?_) (fun c11 => ?_)
            · replace hf := it_f c11 hf
              refine lv_iload_n hx hb dX1_envy_103 rfl (lv_at hl 3 rfl) ?_
              refine lv_istore_n (i := 3) (lv' := [(3, .int x3), (0, .ref x0), (1, .int x1), (2, .int x2), (4, .int x4), (5, .int x5)]) hx hb dX1_envy_104 rfl hl (by decide) rfl (fun ls hl => ?_)
              refine lv_iinc (v := (x2 + 1)) (lv' := [(2, .int (x2 + 1)), (3, .int x3), (0, .ref x0), (1, .int x1), (4, .int x4), (5, .int x5)]) hx hb dX1_envy_105 hl (k := 3) rfl rfl (by decide) rfl (fun ls hl => ?_)
              refine lv_iinc (v := (x5 + 1)) (lv' := [(5, .int (x5 + 1)), (2, .int (x2 + 1)), (3, .int x3), (0, .ref x0), (1, .int x1), (4, .int x4)]) hx hb dX1_envy_108 hl (k := 5) rfl rfl (by decide) rfl (fun ls hl => ?_)
              refine lv_goto (tgt := 51) hx hb dX1_envy_111 (by decide) ?_
              exact (ih k33 hk33) x0 x1 (x2 + 1) x3 x4 (x5 + 1) hc nc ls H locs ce sl o1 hB (by omega) hT (lv_sub (l' := [(0, .ref x0), (1, .int x1), (2, .int (x2 + 1)), (3, .int x3), (4, .int x4), (5, .int (x5 + 1))]) hl [3, 4, 1, 2, 5, 0] rfl) hf
            · replace hf := it_t c11 hf
              refine lv_bipush hx hb dX1_envy_92 kc_b8 ?_
              refine lv_iload hx hb dX1_envy_94 (lv_at hl 4 rfl) ?_
              refine lv_imul hx hb dX1_envy_96 ?_
              refine lv_iload hx hb dX1_envy_97 (lv_at hl 5 rfl) ?_
              refine lv_iadd hx hb dX1_envy_99 ?_
              refine lv_goto (tgt := 104) hx hb dX1_envy_100 (by decide) ?_
              refine lv_istore_n (i := 3) (lv' := [(3, .int (((nI 8) * x4) + x5)), (0, .ref x0), (1, .int x1), (2, .int x2), (4, .int x4), (5, .int x5)]) hx hb dX1_envy_104 rfl hl (by decide) rfl (fun ls hl => ?_)
              refine lv_iinc (v := (x2 + 1)) (lv' := [(2, .int (x2 + 1)), (3, .int (((nI 8) * x4) + x5)), (0, .ref x0), (1, .int x1), (4, .int x4), (5, .int x5)]) hx hb dX1_envy_105 hl (k := 3) rfl rfl (by decide) rfl (fun ls hl => ?_)
              refine lv_iinc (v := (x5 + 1)) (lv' := [(5, .int (x5 + 1)), (2, .int (x2 + 1)), (3, .int (((nI 8) * x4) + x5)), (0, .ref x0), (1, .int x1), (4, .int x4)]) hx hb dX1_envy_108 hl (k := 5) rfl rfl (by decide) rfl (fun ls hl => ?_)
              refine lv_goto (tgt := 51) hx hb dX1_envy_111 (by decide) ?_
              exact (ih k33 hk33) x0 x1 (x2 + 1) (((nI 8) * x4) + x5) x4 (x5 + 1) hc nc ls H locs ce sl o1 hB (by omega) hT (lv_sub (l' := [(0, .ref x0), (1, .int x1), (2, .int (x2 + 1)), (3, .int (((nI 8) * x4) + x5)), (4, .int x4), (5, .int (x5 + 1))]) hl [3, 4, 1, 2, 5, 0] rfl) hf
          · replace hf := it_t c10 hf
            refine lv_goto (tgt := 108) hx hb dX1_envy_85 (by decide) ?_
            refine lv_iinc (v := (x5 + 1)) (lv' := [(5, .int (x5 + 1)), (0, .ref x0), (1, .int x1), (2, .int x2), (3, .int x3), (4, .int x4)]) hx hb dX1_envy_108 hl (k := 5) rfl rfl (by decide) rfl (fun ls hl => ?_)
            refine lv_goto (tgt := 51) hx hb dX1_envy_111 (by decide) ?_
            exact (ih k33 hk33) x0 x1 x2 x3 x4 (x5 + 1) hc nc ls H locs ce sl o1 hB (by omega) hT (lv_sub (l' := [(0, .ref x0), (1, .int x1), (2, .int x2), (3, .int x3), (4, .int x4), (5, .int (x5 + 1))]) hl [1, 2, 3, 4, 5, 0] rfl) hf
  have w33 : ∀ (n : Nat) , ∀ (x0 : Nat) (x1 : Int32) (x2 : Int32) (x3 : Int32) (x4 : Int32) (hc : AH) (nc : Nat) (ls : Array Slot) (H : Heap) (locs : List Loc) (ce sl : Nat) (o1 : Int32 × AH × Nat × Nat), BI G (AA h nx) s.heap hc nc H locs → nc = nx + ce → TL out o1 ce sl → lv_has ls 6 [(0, .ref x0), (1, .int x1), (2, .int x2), (3, .int x3), (4, .int x4)] → f_X1_envy_33 n E x0 x1 x2 x3 x4 hc nc = some o1 → W p l e (rC (fE + 6) (lE + 131) out.2.2.1 out.2.2.2) s m ([.ref o, .int a0] : List Value).toArray below meth c H locs ce sl (MQ below (bQ G (some (.int out.1)) True out.2.1 (nx + out.2.2.1) (AA h nx)) ([.ref o, .int a0] : List Value).toArray s out.2.2.1 out.2.2.2 (AA h nx)) (F0 m 33 ls []) := by
    intro n
    induction n with
    | zero =>
      intro x0 x1 x2 x3 x4 hc nc ls H locs ce sl o1 hB hn hT hl hf
      exact absurd hf (by rw [f_X1_envy_33]; exact nofun)
    | succ n ih =>
      intro x0 x1 x2 x3 x4 hc nc ls H locs ce sl o1 hB hn hT hl hf
      rw [f_X1_envy_33] at hf
      refine lv_iload hx hb dX1_envy_33 (lv_at hl 4 rfl) ?_
      refine lv_aload_n hx hb dX1_envy_35 rfl (lv_at hl 0 rfl) ?_
      obtain ⟨v1, hv1, hf⟩ := ob_s hf
      refine bg_X1_51 S hS hB (vR_s hv1) dX1_envy_36 ?_
      obtain ⟨g2, hf⟩ := gd_t hf
      obtain ⟨v3, hv3, hf⟩ := ob_s hf
      refine mc_X1_130 (fE := fE) (lE := lE) S hS hB g2 hv3 hl.1 ⟨(by show _ ≤ (fE + 6); omega), (by show _ ≤ (lE + 131); omega)⟩ (Nat.le_of_ble_eq_true rfl) ⟨(TL_m hT).1, (TL_m hT).2⟩ dX1_envy_39 (fun _ => ?_)
      refine lv_icmp_ge (tgt := 120) hx hb dX1_envy_42 (by decide) (fun c4 => ?_) (fun c4 => ?_)
      · replace hf := it_t c4 hf
        refine lv_iload_n hx hb dX1_envy_120 rfl (lv_at hl 1 rfl) ?_
        refine lv_if_ne (tgt := 128) hx hb dX1_envy_121 (by decide) (fun c5 => ?_) (fun c5 => ?_)
        · replace hf := it_f c5 hf
          refine lv_iload_n hx hb dX1_envy_128 rfl (lv_at hl 2 rfl) ?_
          refine lv_if_ne (tgt := 140) hx hb dX1_envy_129 (by decide) (fun c6 => ?_) (fun c6 => ?_)
          · replace hf := it_f c6 hf
            refine lv_iload_n hx hb dX1_envy_140 rfl (lv_at hl 1 rfl) ?_
            refine lv_iconst hx hb dX1_envy_141 kc_i1 ?_
            refine lv_icmp_ne (tgt := 152) hx hb dX1_envy_142 (by decide) (fun c7 => ?_) (fun c7 => ?_)
            · replace hf := it_f c7 hf
              refine lv_iload_n hx hb dX1_envy_152 rfl (lv_at hl 3 rfl) ?_
              refine lv_bipush hx hb dX1_envy_153 kc_b8 ?_
              obtain ⟨g8, hf⟩ := gd_t hf
              refine lv_irem hx hb dX1_envy_155 (nz32_t g8) ?_
              have hE9 := TL_e hT hf
              subst hE9
              exact bt_i S hr hlocks hB (by omega) trivial dX1_envy_156
            · replace hf := it_t c7 hf
              refine lv_iload_n hx hb dX1_envy_145 rfl (lv_at hl 3 rfl) ?_
              refine lv_bipush hx hb dX1_envy_146 kc_b8 ?_
              obtain ⟨g9, hf⟩ := gd_t hf
              refine lv_idiv hx hb dX1_envy_148 (nz32_t g9) ?_
              refine lv_goto (tgt := 156) hx hb dX1_envy_149 (by decide) ?_
              have hE9 := TL_e hT hf
              subst hE9
              exact bt_i S hr hlocks hB (by omega) trivial dX1_envy_156
          · replace hf := it_t c6 hf
            refine lv_aload_n hx hb dX1_envy_132 rfl (lv_at hl 0 rfl) ?_
            refine lv_iconst hx hb dX1_envy_133 kc_i5 ?_
            obtain ⟨g10, hf⟩ := gd_t hf
            obtain ⟨v11, hv11, hf⟩ := ob_s hf
            obtain ⟨o12, hf, hT⟩ := TL_c hT hf
            refine mc_X1_174 (fE := fE) (lE := lE) S hS hB g10 hv11 hl.1 ⟨(by show _ ≤ (fE + 6); omega), (by show _ ≤ (lE + 131); omega)⟩ (Nat.le_of_ble_eq_true rfl) ⟨(TL_m hT).1, (TL_m hT).2⟩ dX1_envy_134 (fun H locs _ hB => ?_)
            refine lv_goto (tgt := 156) hx hb dX1_envy_137 (by decide) ?_
            have hE9 := TL_e hT hf
            subst hE9
            exact bt_i S hr hlocks hB (by omega) trivial dX1_envy_156
        · replace hf := it_t c5 hf
          refine lv_iload_n hx hb dX1_envy_124 rfl (lv_at hl 2 rfl) ?_
          refine lv_goto (tgt := 156) hx hb dX1_envy_125 (by decide) ?_
          have hE9 := TL_e hT hf
          subst hE9
          exact bt_i S hr hlocks hB (by omega) trivial dX1_envy_156
      · replace hf := it_f c4 hf
        refine lv_iload hx hb dX1_envy_45 (lv_at hl 4 rfl) ?_
        refine lv_iconst hx hb dX1_envy_47 kc_i1 ?_
        refine lv_iadd hx hb dX1_envy_48 ?_
        refine lv_istore (lv' := [(5, .int (x4 + 1)), (0, .ref x0), (1, .int x1), (2, .int x2), (3, .int x3), (4, .int x4)]) hx hb dX1_envy_49 hl (by decide) rfl (fun ls hl => ?_)
        exact (w51 FU (f_X1_envy_33 n E) (ih)) x0 x1 x2 x3 x4 (x4 + 1) hc nc ls H locs ce sl o1 hB (by omega) hT (lv_sub (l' := [(0, .ref x0), (1, .int x1), (2, .int x2), (3, .int x3), (4, .int x4), (5, .int (x4 + 1))]) hl [1, 2, 3, 4, 5, 0] rfl) hf
  have w18 : ∀ (x0 : Nat) (x1 : Int32) (y0 : Nat) (y1 : Int32) (hc : AH) (nc : Nat) (ls : Array Slot) (H : Heap) (locs : List Loc) (ce sl : Nat) (o1 : Int32 × AH × Nat × Nat), BI G (AA h nx) s.heap hc nc H locs → nc = nx + ce → TL out o1 ce sl → lv_has ls 6 [(0, .ref x0), (1, .int x1)] → f_X1_envy_18 E x0 x1 y0 y1 hc nc = some o1 → W p l e (rC (fE + 6) (lE + 131) out.2.2.1 out.2.2.2) s m ([.ref o, .int a0] : List Value).toArray below meth c H locs ce sl (MQ below (bQ G (some (.int out.1)) True out.2.1 (nx + out.2.2.1) (AA h nx)) ([.ref o, .int a0] : List Value).toArray s out.2.2.1 out.2.2.2 (AA h nx)) (F0 m 18 ls [.int y1, .ref y0]) := by
    intro x0 x1 y0 y1 hc nc ls H locs ce sl o1 hB hn hT hl hf
    rw [f_X1_envy_18] at hf
    obtain ⟨g1, hf⟩ := gd_t hf
    obtain ⟨v2, hv2, hf⟩ := ob_s hf
    obtain ⟨o3, hf, hT⟩ := TL_c hT hf
    refine mc_X1_155 (fE := fE) (lE := lE) S hS hB g1 hv2 hl.1 ⟨(by show _ ≤ (fE + 6); omega), (by show _ ≤ (lE + 131); omega)⟩ (Nat.le_of_ble_eq_true rfl) ⟨(TL_m hT).1, (TL_m hT).2⟩ dX1_envy_18 (fun H locs hnv2 hB => ?_)
    refine lv_if_ne (tgt := 26) hx hb dX1_envy_21 (by decide) (fun c4 => ?_) (fun c4 => ?_)
    · replace hf := it_f c4 hf
      refine lv_iconst hx hb dX1_envy_26 kc_i0 ?_
      refine lv_istore_n (i := 2) (lv' := [(2, .int 0), (0, .ref x0), (1, .int x1)]) hx hb dX1_envy_27 rfl hl (by decide) rfl (fun ls hl => ?_)
      refine lv_iconst hx hb dX1_envy_28 kc_im1 ?_
      refine lv_istore_n (i := 3) (lv' := [(3, .int (-1)), (2, .int 0), (0, .ref x0), (1, .int x1)]) hx hb dX1_envy_29 rfl hl (by decide) rfl (fun ls hl => ?_)
      refine lv_iconst hx hb dX1_envy_30 kc_i0 ?_
      refine lv_istore (lv' := [(4, .int 0), (3, .int (-1)), (2, .int 0), (0, .ref x0), (1, .int x1)]) hx hb dX1_envy_31 hl (by decide) rfl (fun ls hl => ?_)
      exact (w33 FU) x0 x1 0 (-1) 0 v2.2.1 (nc + v2.2.2.1) ls H locs (ce + v2.2.2.1) (sl + v2.2.2.2) o3 hB (by omega) hT (lv_sub (l' := [(0, .ref x0), (1, .int x1), (2, .int 0), (3, .int (-1)), (4, .int 0)]) hl [3, 4, 2, 1, 0] rfl) hf
    · replace hf := it_t c4 hf
      refine lv_iconst hx hb dX1_envy_24 kc_im1 ?_
      have hE9 := TL_e hT hf
      subst hE9
      exact bt_i S hr hlocks hB (by omega) trivial dX1_envy_25
  have hT : TL out out 0 0 := TL_0
  rw [f_X1_envy] at hf
  refine lv_aload_n hx hb dX1_envy_0 rfl (lv_at hl 0 rfl) ?_
  refine lv_iload_n hx hb dX1_envy_1 rfl (lv_at hl 1 rfl) ?_
  refine lv_i2l hx hb dX1_envy_2 rfl ?_
  refine lv_lconst (v := 0) hx hb dX1_envy_3 (by decide) ?_
  refine lv_ldc2 hx hb hown (hts _ q1325) dX1_envy_4 ?_
  obtain ⟨v1, hv1, hf⟩ := ob_s hf
  refine mc_X1_134 S hS.1 hv1 hl.1 ⟨(by show _ ≤ (fE + 6); omega), (by show _ ≤ (lE + 131); omega)⟩ (Nat.le_of_ble_eq_true rfl) ⟨(TL_m hT).1, (TL_m hT).2⟩ dX1_envy_7 (fun hnv1 => ?_)
  refine lv_if_eq (tgt := 17) hx hb dX1_envy_10 (by decide) (fun c2 => ?_) (fun c2 => ?_)
  · replace hf := it_t c2 hf
    refine lv_iconst hx hb dX1_envy_17 kc_i1 ?_
    exact (w18) o a0 o 1 h nx ls s.heap [] 0 0 out hB (by omega) hT hl hf
  · replace hf := it_f c2 hf
    refine lv_iconst hx hb dX1_envy_13 kc_i0 ?_
    refine lv_goto (tgt := 18) hx hb dX1_envy_14 (by decide) ?_
    exact (w18) o a0 o 0 h nx ls s.heap [] 0 0 out hB (by omega) hT hl hf
theorem hd_X1_letsBy : yX1_letsBy.cls = RX1 ∧ yX1_letsBy.cls ≠ "java/lang/invoke/MethodHandle" ∧ yX1_letsBy.cls ≠ "java/lang/invoke/VarHandle" ∧ (parseMethodDescriptor yX1_letsBy.desc).map (fun d => d.parameters.length) = some 3 := by decide +kernel
set_option maxHeartbeats 4000000 in
set_option maxRecDepth 100000 in
theorem mm_X1_letsBy {o : Nat} {a0 : Int32} {a1 : Int32} {a2 : Int32} {out : Int32 × AH × Nat × Nat} (hE : IfOK l G E fE lE) (hf : f_X1_letsBy E h nx o a0 a1 a2 = some out) : Met l yX1_letsBy (ws_ yX1_letsBy cX1_letsBy 4 (some .int)) (rC (fE + 12) (lE + 376) out.2.2.1 out.2.2.2) (bPc G E.1 hSites h nx [.ref o, .int a0, .int a1, .int a2]) (bQ G (some (.int out.1)) True out.2.1 (nx + out.2.2.1) (AA h nx)) out.2.2.1 out.2.2.2 (AA h nx) := by
  refine bGo (by decide +kernel) (Nat.le_of_ble_eq_true rfl) (fun p e s m below meth c ls S hr hlocks hin hnm hS hB hl => ?_)
  have S : CallFix p m c cX1_letsBy 4 s _ lw_all RX1 := S
  obtain ⟨hx, hb, hml, hown, hts⟩ := id S
  have hl : lv_has ls 4 [(0, .ref o), (1, .int a0), (2, .int a1), (3, .int a2)] := hl
  have hT : TL out out 0 0 := TL_0
  rw [f_X1_letsBy] at hf
  refine lv_aload_n hx hb dX1_letsBy_0 rfl (lv_at hl 0 rfl) ?_
  obtain ⟨v1, hv1, hf⟩ := ob_s hf
  refine bg_X1_74 S hS hB (vR_s hv1) dX1_letsBy_1 ?_
  refine lv_aload_n hx hb dX1_letsBy_4 rfl (lv_at hl 0 rfl) ?_
  obtain ⟨v2, hv2, hf⟩ := ob_s hf
  refine bg_X1_70 S hS hB (vR_s hv2) dX1_letsBy_5 ?_
  obtain ⟨g3, hf⟩ := gd_t hf
  obtain ⟨v4, hv4, hf⟩ := ob_s hf
  obtain ⟨o5, hf, hT⟩ := TL_c hT hf
  refine mc_X1_396 (fE := fE) (lE := lE) S hS hB g3 hv4 hl.1 ⟨(by show _ ≤ (fE + 12); omega), (by show _ ≤ (lE + 376); omega)⟩ (Nat.le_of_ble_eq_true rfl) ⟨(TL_m hT).1, (TL_m hT).2⟩ dX1_letsBy_8 (fun H locs _ hB => ?_)
  refine lv_aload_n hx hb dX1_letsBy_11 rfl (lv_at hl 0 rfl) ?_
  obtain ⟨v6, hv6, hf⟩ := ob_s hf
  refine bg_X1_74 S hS hB (vR_s hv6) dX1_letsBy_12 ?_
  obtain ⟨v7, hv7, hf⟩ := ob_s hf
  refine bg_X1_316 S hS hB (vR_s hv7) dX1_letsBy_15 ?_
  refine lv_iload_n hx hb dX1_letsBy_18 rfl (lv_at hl 2 rfl) ?_
  refine lv_iload_n hx hb dX1_letsBy_19 rfl (lv_at hl 3 rfl) ?_
  obtain ⟨h8, hh8, hf⟩ := ob_s hf
  refine b_iast S hS.1 hB hh8 dX1_letsBy_20 (fun H locs hB => ?_)
  refine lv_aload_n hx hb dX1_letsBy_21 rfl (lv_at hl 0 rfl) ?_
  obtain ⟨v9, hv9, hf⟩ := ob_s hf
  refine bg_X1_74 S hS hB (vR_s hv9) dX1_letsBy_22 ?_
  refine lv_iload_n hx hb dX1_letsBy_25 rfl (lv_at hl 1 rfl) ?_
  obtain ⟨g10, hf⟩ := gd_t hf
  obtain ⟨v11, hv11, hf⟩ := ob_s hf
  obtain ⟨o12, hf, hT⟩ := TL_c hT hf
  refine mc_X1_400 (fE := fE) (lE := lE) S hE hS hB g10 hv11 hl.1 ⟨(by show _ ≤ (fE + 12); omega), (by show _ ≤ (lE + 376); omega)⟩ (Nat.le_of_ble_eq_true rfl) ⟨(TL_m hT).1, (TL_m hT).2⟩ dX1_letsBy_26 (fun H locs _ hB => ?_)
  refine lv_aload_n hx hb dX1_letsBy_29 rfl (lv_at hl 0 rfl) ?_
  obtain ⟨v13, hv13, hf⟩ := ob_s hf
  refine bg_X1_74 S hS hB (vR_s hv13) dX1_letsBy_30 ?_
  obtain ⟨v14, hv14, hf⟩ := ob_s hf
  refine bg_X1_204 S hS hB (vR_s hv14) dX1_letsBy_33 ?_
  obtain ⟨g15, hf⟩ := gd_t hf
  obtain ⟨v16, hv16, hf⟩ := ob_s hf
  refine mc_X1_130 (fE := fE) (lE := lE) S hS hB g15 hv16 hl.1 ⟨(by show _ ≤ (fE + 12); omega), (by show _ ≤ (lE + 376); omega)⟩ (Nat.le_of_ble_eq_true rfl) ⟨(TL_m hT).1, (TL_m hT).2⟩ dX1_letsBy_36 (fun _ => ?_)
  refine lv_aload_n hx hb dX1_letsBy_39 rfl (lv_at hl 0 rfl) ?_
  obtain ⟨v17, hv17, hf⟩ := ob_s hf
  refine bg_X1_70 S hS hB (vR_s hv17) dX1_letsBy_40 ?_
  obtain ⟨v18, hv18, hf⟩ := ob_s hf
  refine bg_X1_204 S hS hB (vR_s hv18) dX1_letsBy_43 ?_
  obtain ⟨g19, hf⟩ := gd_t hf
  obtain ⟨v20, hv20, hf⟩ := ob_s hf
  refine mc_X1_130 (fE := fE) (lE := lE) S hS hB g19 hv20 hl.1 ⟨(by show _ ≤ (fE + 12); omega), (by show _ ≤ (lE + 376); omega)⟩ (Nat.le_of_ble_eq_true rfl) ⟨(TL_m hT).1, (TL_m hT).2⟩ dX1_letsBy_46 (fun _ => ?_)
  refine lv_isub hx hb dX1_letsBy_49 ?_
  have hE9 := TL_e hT hf
  subst hE9
  exact bt_i S hr hlocks hB (by omega) trivial dX1_letsBy_50
set_option maxRecDepth 100000 in
theorem mc_X1_487 {o : Nat} {a0 : Int32} {a1 : Int32} {a2 : Int32} {out : Int32 × AH × Nat × Nat} (S : CallFix p m c cc nL s args lw_all RX1) (hE : IfOK l G E fE lE) (hS : SK G E.1 hSites A s) (hB : BI G A s.heap h nx H locs) (ho : isO h o 0 = true) (hf : f_X1_letsBy E h nx o a0 a1 a2 = some out) (hsz : ls.size = nL) (hR : (fE + 12) + 1 ≤ R.frames ∧ 8 + (4 + 11) + (lE + 376) ≤ R.locals) (hW : (rest.map fun v => v.category).sum ≤ 8) (hcs : cells + out.2.2.1 ≤ R.cells ∧ slots + out.2.2.2 ≤ R.slots) (hdg : decode cc pc = .ok (.invokevirtual 487, 3))  (kk : ∀ (H1 : Heap) (locs1 : List Loc), True → BI G A s.heap out.2.1 (nx + out.2.2.1) H1 locs1 → W p l e R s m args below meth c H1 locs1 (cells + out.2.2.1) (slots + out.2.2.2) Q (F0 m (pc + 3) ls (.int out.1 :: rest))) : W p l e R s m args below meth c H locs cells slots Q (F0 m pc ls (.int a2 :: .int a1 :: .int a0 :: .ref o :: rest)) := by
  have hN := hS.2.1
  obtain ⟨fs, he⟩ := isO_s ho
  exact br_w (va_runV (As := [.int a0, .int a1, .int a2]) S (mm_X1_letsBy hE hf) (cwV 3 S.2.2.2.2 (lw_V q1617 q1619 qs77 q174 q1620) rfl rfl rfl hd_X1_letsBy hR) (bPreV hS hB (ci := 0) rfl he) rfl rfl hsz rfl (lv_room hW) hdg hcs) hB kk
theorem hd_X1_lever : yX1_lever.cls = RX1 ∧ yX1_lever.cls ≠ "java/lang/invoke/MethodHandle" ∧ yX1_lever.cls ≠ "java/lang/invoke/VarHandle" ∧ (parseMethodDescriptor yX1_lever.desc).map (fun d => d.parameters.length) = some 2 := by decide +kernel
set_option maxHeartbeats 4000000 in
set_option maxRecDepth 100000 in
theorem mm_X1_lever {o : Nat} {a0 : Int32} {a1 : Int32} {out : Int32 × AH × Nat × Nat} (hE : IfOK l G E fE lE) (hf : f_X1_lever E h nx o a0 a1 = some out) : Met l yX1_lever (ws_ yX1_lever cX1_lever 10 (some .int)) (rC (fE + 13) (lE + 399) out.2.2.1 out.2.2.2) (bPc G E.1 hSites h nx [.ref o, .int a0, .int a1]) (bQ G (some (.int out.1)) True out.2.1 (nx + out.2.2.1) (AA h nx)) out.2.2.1 out.2.2.2 (AA h nx) := by
  refine bGo (by decide +kernel) (Nat.le_of_ble_eq_true rfl) (fun p e s m below meth c ls S hr hlocks hin hnm hS hB hl => ?_)
  have S : CallFix p m c cX1_lever 10 s _ lw_all RX1 := S
  obtain ⟨hx, hb, hml, hown, hts⟩ := id S
  have hl : lv_has ls 10 [(0, .ref o), (1, .int a0), (2, .int a1)] := hl
  have w59 : ∀ (n : Nat) (k49 : Nat → Int32 → Int32 → Int32 → Int32 → Int32 → Int32 → AH → Nat → Option (Int32 × AH × Nat × Nat)), (∀ (b0 : Nat) (b1 : Int32) (b2 : Int32) (b3 : Int32) (b4 : Int32) (b5 : Int32) (b6 : Int32) (b7 : AH) (b8 : Nat) (ls : Array Slot) (H : Heap) (locs : List Loc) (ce sl : Nat) (o1 : Int32 × AH × Nat × Nat), BI G (AA h nx) s.heap b7 b8 H locs → b8 = nx + ce → TL out o1 ce sl → lv_has ls 10 [(0, .ref b0), (1, .int b1), (2, .int b2), (3, .int b3), (4, .int b4), (5, .int b5), (6, .int b6)] → k49 b0 b1 b2 b3 b4 b5 b6 b7 b8 = some o1 → W p l e (rC (fE + 13) (lE + 399) out.2.2.1 out.2.2.2) s m ([.ref o, .int a0, .int a1] : List Value).toArray below meth c H locs ce sl (MQ below (bQ G (some (.int out.1)) True out.2.1 (nx + out.2.2.1) (AA h nx)) ([.ref o, .int a0, .int a1] : List Value).toArray s out.2.2.1 out.2.2.2 (AA h nx)) (F0 m 49 ls [])) → ∀ (x0 : Nat) (x1 : Int32) (x2 : Int32) (x3 : Int32) (x4 : Int32) (x5 : Int32) (x6 : Int32) (x7 : Int32) (hc : AH) (nc : Nat) (ls : Array Slot) (H : Heap) (locs : List Loc) (ce sl : Nat) (o1 : Int32 × AH × Nat × Nat), BI G (AA h nx) s.heap hc nc H locs → nc = nx + ce → TL out o1 ce sl → lv_has ls 10 [(0, .ref x0), (1, .int x1), (2, .int x2), (3, .int x3), (4, .int x4), (5, .int x5), (6, .int x6), (7, .int x7)] → f_X1_lever_59 n k49 E x0 x1 x2 x3 x4 x5 x6 x7 hc nc = some o1 → W p l e (rC (fE + 13) (lE + 399) out.2.2.1 out.2.2.2) s m ([.ref o, .int a0, .int a1] : List Value).toArray below meth c H locs ce sl (MQ below (bQ G (some (.int out.1)) True out.2.1 (nx + out.2.2.1) (AA h nx)) ([.ref o, .int a0, .int a1] : List Value).toArray s out.2.2.1 out.2.2.2 (AA h nx)) (F0 m 59 ls []) := by
    intro n
    induction n with
    | zero =>
      intro k49 hk49 x0 x1 x2 x3 x4 x5 x6 x7 hc nc ls H locs ce sl o1 hB hn hT hl hf
      exact absurd hf (by rw [f_X1_lever_59]; exact nofun)
    | succ n ih =>
      intro k49 hk49 x0 x1 x2 x3 x4 x5 x6 x7 hc nc ls H locs ce sl o1 hB hn hT hl hf
      rw [f_X1_lever_59] at hf
      refine lv_iload hx hb dX1_lever_59 (lv_at hl 7 rfl) ?_
      refine lv_iconst hx hb dX1_lever_61 kc_i2 ?_
      refine lv_icmp_ge (tgt := 143) hx hb dX1_lever_62 (by decide) (fun c1 => ?_) (fun c1 => ?_)
      · replace hf := it_t c1 hf
        refine lv_iinc (v := (x6 + 1)) (lv' := [(6, .int (x6 + 1)), (0, .ref x0), (1, .int x1), (2, .int x2), (3, .int x3), (4, .int x4), (5, .int x5), (7, .int x7)]) hx hb dX1_lever_143 hl (k := 6) rfl rfl (by decide) rfl (fun ls hl => ?_)
        refine lv_goto (tgt := 49) hx hb dX1_lever_146 (by decide) ?_
        exact hk49 x0 x1 x2 x3 x4 x5 (x6 + 1) hc nc ls H locs ce sl o1 hB (by omega) hT (lv_sub (l' := [(0, .ref x0), (1, .int x1), (2, .int x2), (3, .int x3), (4, .int x4), (5, .int x5), (6, .int (x6 + 1))]) hl [1, 2, 3, 4, 5, 6, 0] rfl) hf
      · replace hf := it_f c1 hf
        refine lv_aload_n hx hb dX1_lever_65 rfl (lv_at hl 0 rfl) ?_
        obtain ⟨v2, hv2, hf⟩ := ob_s hf
        refine bg_X1_70 S hS hB (vR_s hv2) dX1_lever_66 ?_
        obtain ⟨v3, hv3, hf⟩ := ob_s hf
        refine bg_X1_316 S hS hB (vR_s hv3) dX1_lever_69 ?_
        refine lv_iload hx hb dX1_lever_72 (lv_at hl 6 rfl) ?_
        obtain ⟨v4, hv4, hf⟩ := ob_s hf
        refine b_iald S hS.1 hB hv4 dX1_lever_74 ?_
        refine lv_iload hx hb dX1_lever_75 (lv_at hl 7 rfl) ?_
        refine lv_iadd hx hb dX1_lever_77 ?_
        refine lv_istore (lv' := [(8, .int (v4 + x7)), (0, .ref x0), (1, .int x1), (2, .int x2), (3, .int x3), (4, .int x4), (5, .int x5), (6, .int x6), (7, .int x7)]) hx hb dX1_lever_78 hl (by decide) rfl (fun ls hl => ?_)
        refine lv_iload hx hb dX1_lever_80 (lv_at hl 0 rfl) ?_
        refine lv_i2l hx hb dX1_lever_82 rfl ?_
        refine b_gets S hS hB 0 rfl (hts _ q1615) dX1_lever_83 ?_
        refine lv_iload hx hb dX1_lever_86 (lv_at hl 7 rfl) ?_
        obtain ⟨v5, hv5, hf⟩ := ob_s hf
        refine b_iald S hS.1 hB hv5 dX1_lever_88 ?_
        refine lv_i2l hx hb dX1_lever_89 rfl ?_
        refine b_gets S hS hB 1 rfl (hts _ q1616) dX1_lever_90 ?_
        refine lv_iload hx hb dX1_lever_93 (lv_at hl 7 rfl) ?_
        obtain ⟨v6, hv6, hf⟩ := ob_s hf
        refine b_iald S hS.1 hB hv6 dX1_lever_95 ?_
        refine lv_i2l hx hb dX1_lever_96 rfl ?_
        obtain ⟨v7, hv7, hf⟩ := ob_s hf
        refine mc_X1_134 S hS.1 hv7 hl.1 ⟨(by show _ ≤ (fE + 13); omega), (by show _ ≤ (lE + 399); omega)⟩ (Nat.le_of_ble_eq_true rfl) ⟨(TL_m hT).1, (TL_m hT).2⟩ dX1_lever_97 (fun hnv7 => ?_)
        refine lv_if_ne (tgt := 106) hx hb dX1_lever_100 (by decide) (fun c8 => ?_) (fun c8 => ?_)
        · replace hf := it_f c8 hf
          refine lv_aload_n hx hb dX1_lever_106 rfl (lv_at hl 1 rfl) ?_
          refine lv_iload_n hx hb dX1_lever_107 rfl (lv_at hl 2 rfl) ?_
          refine lv_iload hx hb dX1_lever_108 (lv_at hl 7 rfl) ?_
          refine lv_iload hx hb dX1_lever_110 (lv_at hl 0 rfl) ?_
          obtain ⟨g9, hf⟩ := gd_t hf
          obtain ⟨v10, hv10, hf⟩ := ob_s hf
          obtain ⟨o11, hf, hT⟩ := TL_c hT hf
          refine mc_X1_487 (fE := fE) (lE := lE) S hE hS hB g9 hv10 hl.1 ⟨(by show _ ≤ (fE + 13); omega), (by show _ ≤ (lE + 399); omega)⟩ (Nat.le_of_ble_eq_true rfl) ⟨(TL_m hT).1, (TL_m hT).2⟩ dX1_lever_112 (fun H locs _ hB => ?_)
          refine lv_istore (lv' := [(9, .int v10.1), (8, .int (v4 + x7)), (0, .ref x0), (1, .int x1), (2, .int x2), (3, .int x3), (4, .int x4), (5, .int x5), (6, .int x6), (7, .int x7)]) hx hb dX1_lever_115 hl (by decide) rfl (fun ls hl => ?_)
          refine lv_iload hx hb dX1_lever_117 (lv_at hl 0 rfl) ?_
          refine lv_iload_n hx hb dX1_lever_119 rfl (lv_at hl 5 rfl) ?_
          refine lv_icmp_gt (tgt := 126) hx hb dX1_lever_120 (by decide) (fun c12 => ?_) (fun c12 => ?_)
          · replace hf := it_t c12 hf
            refine lv_iload hx hb dX1_lever_126 (lv_at hl 0 rfl) ?_
            refine lv_istore_n (i := 3) (lv' := [(3, .int v10.1), (9, .int v10.1), (8, .int (v4 + x7)), (0, .ref x0), (1, .int x1), (2, .int x2), (4, .int x4), (5, .int x5), (6, .int x6), (7, .int x7)]) hx hb dX1_lever_128 rfl hl (by decide) rfl (fun ls hl => ?_)
            refine lv_iload hx hb dX1_lever_129 (lv_at hl 8 rfl) ?_
            refine lv_istore (lv' := [(4, .int x6), (3, .int v10.1), (9, .int v10.1), (8, .int (v4 + x7)), (0, .ref x0), (1, .int x1), (2, .int x2), (5, .int x5), (6, .int x6), (7, .int x7)]) hx hb dX1_lever_131 hl (by decide) rfl (fun ls hl => ?_)
            refine lv_iload hx hb dX1_lever_133 (lv_at hl 3 rfl) ?_
            refine lv_istore (lv' := [(5, .int (v4 + x7)), (4, .int x6), (3, .int v10.1), (9, .int v10.1), (8, .int (v4 + x7)), (0, .ref x0), (1, .int x1), (2, .int x2), (6, .int x6), (7, .int x7)]) hx hb dX1_lever_135 hl (by decide) rfl (fun ls hl => ?_)
            refine lv_iinc (v := (x7 + (2))) (lv' := [(7, .int (x7 + (2))), (5, .int (v4 + x7)), (4, .int x6), (3, .int v10.1), (9, .int v10.1), (8, .int (v4 + x7)), (0, .ref x0), (1, .int x1), (2, .int x2), (6, .int x6)]) hx hb dX1_lever_137 hl (k := 9) rfl rfl (by decide) rfl (fun ls hl => ?_)
            refine lv_goto (tgt := 59) hx hb dX1_lever_140 (by decide) ?_
            exact (ih k49 hk49) x0 x1 x2 v10.1 x6 (v4 + x7) x6 (x7 + (2)) v10.2.1 (nc + v10.2.2.1) ls H locs (ce + v10.2.2.1) (sl + v10.2.2.2) o11 hB (by omega) hT (lv_sub (l' := [(0, .ref x0), (1, .int x1), (2, .int x2), (3, .int v10.1), (4, .int x6), (5, .int (v4 + x7)), (6, .int x6), (7, .int (x7 + (2)))]) hl [6, 7, 8, 3, 2, 1, 9, 0] rfl) hf
          · replace hf := it_f c12 hf
            refine lv_goto (tgt := 137) hx hb dX1_lever_123 (by decide) ?_
            refine lv_iinc (v := (x7 + (2))) (lv' := [(7, .int (x7 + (2))), (9, .int v10.1), (8, .int (v4 + x7)), (0, .ref x0), (1, .int x1), (2, .int x2), (3, .int x3), (4, .int x4), (5, .int x5), (6, .int x6)]) hx hb dX1_lever_137 hl (k := 9) rfl rfl (by decide) rfl (fun ls hl => ?_)
            refine lv_goto (tgt := 59) hx hb dX1_lever_140 (by decide) ?_
            exact (ih k49 hk49) x0 x1 x2 x3 x4 x5 x6 (x7 + (2)) v10.2.1 (nc + v10.2.2.1) ls H locs (ce + v10.2.2.1) (sl + v10.2.2.2) o11 hB (by omega) hT (lv_sub (l' := [(0, .ref x0), (1, .int x1), (2, .int x2), (3, .int x3), (4, .int x4), (5, .int x5), (6, .int x6), (7, .int (x7 + (2)))]) hl [3, 4, 5, 6, 7, 8, 9, 0] rfl) hf
        · replace hf := it_t c8 hf
          refine lv_goto (tgt := 137) hx hb dX1_lever_103 (by decide) ?_
          refine lv_iinc (v := (x7 + (2))) (lv' := [(7, .int (x7 + (2))), (8, .int (v4 + x7)), (0, .ref x0), (1, .int x1), (2, .int x2), (3, .int x3), (4, .int x4), (5, .int x5), (6, .int x6)]) hx hb dX1_lever_137 hl (k := 8) rfl rfl (by decide) rfl (fun ls hl => ?_)
          refine lv_goto (tgt := 59) hx hb dX1_lever_140 (by decide) ?_
          exact (ih k49 hk49) x0 x1 x2 x3 x4 x5 x6 (x7 + (2)) hc nc ls H locs ce sl o1 hB (by omega) hT (lv_sub (l' := [(0, .ref x0), (1, .int x1), (2, .int x2), (3, .int x3), (4, .int x4), (5, .int x5), (6, .int x6), (7, .int (x7 + (2)))]) hl [2, 3, 4, 5, 6, 7, 8, 0] rfl) hf
  have w49 : ∀ (n : Nat) , ∀ (x0 : Nat) (x1 : Int32) (x2 : Int32) (x3 : Int32) (x4 : Int32) (x5 : Int32) (x6 : Int32) (hc : AH) (nc : Nat) (ls : Array Slot) (H : Heap) (locs : List Loc) (ce sl : Nat) (o1 : Int32 × AH × Nat × Nat), BI G (AA h nx) s.heap hc nc H locs → nc = nx + ce → TL out o1 ce sl → lv_has ls 10 [(0, .ref x0), (1, .int x1), (2, .int x2), (3, .int x3), (4, .int x4), (5, .int x5), (6, .int x6)] → f_X1_lever_49 n E x0 x1 x2 x3 x4 x5 x6 hc nc = some o1 → W p l e (rC (fE + 13) (lE + 399) out.2.2.1 out.2.2.2) s m ([.ref o, .int a0, .int a1] : List Value).toArray below meth c H locs ce sl (MQ below (bQ G (some (.int out.1)) True out.2.1 (nx + out.2.2.1) (AA h nx)) ([.ref o, .int a0, .int a1] : List Value).toArray s out.2.2.1 out.2.2.2 (AA h nx)) (F0 m 49 ls []) := by
    intro n
    induction n with
    | zero =>
      intro x0 x1 x2 x3 x4 x5 x6 hc nc ls H locs ce sl o1 hB hn hT hl hf
      exact absurd hf (by rw [f_X1_lever_49]; exact nofun)
    | succ n ih =>
      intro x0 x1 x2 x3 x4 x5 x6 hc nc ls H locs ce sl o1 hB hn hT hl hf
      rw [f_X1_lever_49] at hf
      refine lv_iload hx hb dX1_lever_49 (lv_at hl 6 rfl) ?_
      refine lv_bipush hx hb dX1_lever_51 kc_b6 ?_
      refine lv_icmp_ge (tgt := 149) hx hb dX1_lever_53 (by decide) (fun c1 => ?_) (fun c1 => ?_)
      · replace hf := it_t c1 hf
        refine lv_iload_n hx hb dX1_lever_149 rfl (lv_at hl 2 rfl) ?_
        refine lv_if_ne (tgt := 157) hx hb dX1_lever_150 (by decide) (fun c2 => ?_) (fun c2 => ?_)
        · replace hf := it_f c2 hf
          refine lv_iload_n hx hb dX1_lever_157 rfl (lv_at hl 2 rfl) ?_
          refine lv_iconst hx hb dX1_lever_158 kc_i1 ?_
          refine lv_icmp_ne (tgt := 167) hx hb dX1_lever_159 (by decide) (fun c3 => ?_) (fun c3 => ?_)
          · replace hf := it_f c3 hf
            refine lv_iload hx hb dX1_lever_167 (lv_at hl 5 rfl) ?_
            have hE9 := TL_e hT hf
            subst hE9
            exact bt_i S hr hlocks hB (by omega) trivial dX1_lever_169
          · replace hf := it_t c3 hf
            refine lv_iload hx hb dX1_lever_162 (lv_at hl 4 rfl) ?_
            refine lv_goto (tgt := 169) hx hb dX1_lever_164 (by decide) ?_
            have hE9 := TL_e hT hf
            subst hE9
            exact bt_i S hr hlocks hB (by omega) trivial dX1_lever_169
        · replace hf := it_t c2 hf
          refine lv_iload_n hx hb dX1_lever_153 rfl (lv_at hl 3 rfl) ?_
          refine lv_goto (tgt := 169) hx hb dX1_lever_154 (by decide) ?_
          have hE9 := TL_e hT hf
          subst hE9
          exact bt_i S hr hlocks hB (by omega) trivial dX1_lever_169
      · replace hf := it_f c1 hf
        refine lv_iconst hx hb dX1_lever_56 kc_im1 ?_
        refine lv_istore (lv' := [(7, .int (-1)), (0, .ref x0), (1, .int x1), (2, .int x2), (3, .int x3), (4, .int x4), (5, .int x5), (6, .int x6)]) hx hb dX1_lever_57 hl (by decide) rfl (fun ls hl => ?_)
        exact (w59 FU (f_X1_lever_49 n E) (ih)) x0 x1 x2 x3 x4 x5 x6 (-1) hc nc ls H locs ce sl o1 hB (by omega) hT (lv_sub (l' := [(0, .ref x0), (1, .int x1), (2, .int x2), (3, .int x3), (4, .int x4), (5, .int x5), (6, .int x6), (7, .int (-1))]) hl [1, 2, 3, 4, 5, 6, 7, 0] rfl) hf
  have w30 : ∀ (x0 : Nat) (x1 : Int32) (x2 : Int32) (y0 : Nat) (y1 : Int32) (hc : AH) (nc : Nat) (ls : Array Slot) (H : Heap) (locs : List Loc) (ce sl : Nat) (o1 : Int32 × AH × Nat × Nat), BI G (AA h nx) s.heap hc nc H locs → nc = nx + ce → TL out o1 ce sl → lv_has ls 10 [(0, .ref x0), (1, .int x1), (2, .int x2)] → f_X1_lever_30 E x0 x1 x2 y0 y1 hc nc = some o1 → W p l e (rC (fE + 13) (lE + 399) out.2.2.1 out.2.2.2) s m ([.ref o, .int a0, .int a1] : List Value).toArray below meth c H locs ce sl (MQ below (bQ G (some (.int out.1)) True out.2.1 (nx + out.2.2.1) (AA h nx)) ([.ref o, .int a0, .int a1] : List Value).toArray s out.2.2.1 out.2.2.2 (AA h nx)) (F0 m 30 ls [.int y1, .ref y0]) := by
    intro x0 x1 x2 y0 y1 hc nc ls H locs ce sl o1 hB hn hT hl hf
    rw [f_X1_lever_30] at hf
    obtain ⟨g1, hf⟩ := gd_t hf
    obtain ⟨v2, hv2, hf⟩ := ob_s hf
    obtain ⟨o3, hf, hT⟩ := TL_c hT hf
    refine mc_X1_155 (fE := fE) (lE := lE) S hS hB g1 hv2 hl.1 ⟨(by show _ ≤ (fE + 13); omega), (by show _ ≤ (lE + 399); omega)⟩ (Nat.le_of_ble_eq_true rfl) ⟨(TL_m hT).1, (TL_m hT).2⟩ dX1_lever_30 (fun H locs hnv2 hB => ?_)
    refine lv_if_ne (tgt := 38) hx hb dX1_lever_33 (by decide) (fun c4 => ?_) (fun c4 => ?_)
    · replace hf := it_f c4 hf
      refine lv_iconst hx hb dX1_lever_38 kc_im1 ?_
      refine lv_istore_n (i := 3) (lv' := [(3, .int (-1)), (0, .ref x0), (1, .int x1), (2, .int x2)]) hx hb dX1_lever_39 rfl hl (by decide) rfl (fun ls hl => ?_)
      refine lv_iconst hx hb dX1_lever_40 kc_i0 ?_
      refine lv_istore (lv' := [(4, .int 0), (3, .int (-1)), (0, .ref x0), (1, .int x1), (2, .int x2)]) hx hb dX1_lever_41 hl (by decide) rfl (fun ls hl => ?_)
      refine lv_iconst hx hb dX1_lever_43 kc_i0 ?_
      refine lv_istore (lv' := [(5, .int 0), (4, .int 0), (3, .int (-1)), (0, .ref x0), (1, .int x1), (2, .int x2)]) hx hb dX1_lever_44 hl (by decide) rfl (fun ls hl => ?_)
      refine lv_iconst hx hb dX1_lever_46 kc_i0 ?_
      refine lv_istore (lv' := [(6, .int 0), (5, .int 0), (4, .int 0), (3, .int (-1)), (0, .ref x0), (1, .int x1), (2, .int x2)]) hx hb dX1_lever_47 hl (by decide) rfl (fun ls hl => ?_)
      exact (w49 FU) x0 x1 x2 (-1) 0 0 0 v2.2.1 (nc + v2.2.2.1) ls H locs (ce + v2.2.2.1) (sl + v2.2.2.2) o3 hB (by omega) hT (lv_sub (l' := [(0, .ref x0), (1, .int x1), (2, .int x2), (3, .int (-1)), (4, .int 0), (5, .int 0), (6, .int 0)]) hl [4, 5, 6, 3, 2, 1, 0] rfl) hf
    · replace hf := it_t c4 hf
      refine lv_iconst hx hb dX1_lever_36 kc_im1 ?_
      have hE9 := TL_e hT hf
      subst hE9
      exact bt_i S hr hlocks hB (by omega) trivial dX1_lever_37
  have hT : TL out out 0 0 := TL_0
  rw [f_X1_lever] at hf
  refine lv_aload_n hx hb dX1_lever_0 rfl (lv_at hl 0 rfl) ?_
  refine lv_iload_n hx hb dX1_lever_1 rfl (lv_at hl 1 rfl) ?_
  refine lv_i2l hx hb dX1_lever_2 rfl ?_
  refine lv_lconst (v := 1) hx hb dX1_lever_3 (by decide) ?_
  refine lv_ldc2 hx hb hown (hts _ q1371) dX1_lever_4 ?_
  obtain ⟨v1, hv1, hf⟩ := ob_s hf
  refine mc_X1_134 S hS.1 hv1 hl.1 ⟨(by show _ ≤ (fE + 13); omega), (by show _ ≤ (lE + 399); omega)⟩ (Nat.le_of_ble_eq_true rfl) ⟨(TL_m hT).1, (TL_m hT).2⟩ dX1_lever_7 (fun hnv1 => ?_)
  refine lv_if_eq (tgt := 25) hx hb dX1_lever_10 (by decide) (fun c2 => ?_) (fun c2 => ?_)
  · replace hf := it_t c2 hf
    refine lv_iconst hx hb dX1_lever_25 kc_i1 ?_
    refine lv_goto (tgt := 30) hx hb dX1_lever_26 (by decide) ?_
    exact (w30) o a0 a1 o 1 h nx ls s.heap [] 0 0 out hB (by omega) hT hl hf
  · replace hf := it_f c2 hf
    refine lv_iload_n hx hb dX1_lever_13 rfl (lv_at hl 2 rfl) ?_
    refine lv_i2l hx hb dX1_lever_14 rfl ?_
    refine lv_lconst (v := 0) hx hb dX1_lever_15 (by decide) ?_
    refine lv_ldc2 hx hb hown (hts _ q1325) dX1_lever_16 ?_
    obtain ⟨v3, hv3, hf⟩ := ob_s hf
    refine mc_X1_134 S hS.1 hv3 hl.1 ⟨(by show _ ≤ (fE + 13); omega), (by show _ ≤ (lE + 399); omega)⟩ (Nat.le_of_ble_eq_true rfl) ⟨(TL_m hT).1, (TL_m hT).2⟩ dX1_lever_19 (fun hnv3 => ?_)
    refine lv_if_ne (tgt := 29) hx hb dX1_lever_22 (by decide) (fun c4 => ?_) (fun c4 => ?_)
    · replace hf := it_f c4 hf
      refine lv_iconst hx hb dX1_lever_29 kc_i0 ?_
      exact (w30) o a0 a1 o 0 h nx ls s.heap [] 0 0 out hB (by omega) hT hl hf
    · replace hf := it_t c4 hf
      refine lv_iconst hx hb dX1_lever_25 kc_i1 ?_
      refine lv_goto (tgt := 30) hx hb dX1_lever_26 (by decide) ?_
      exact (w30) o a0 a1 o 1 h nx ls s.heap [] 0 0 out hB (by omega) hT hl hf
theorem hd_X1_queue : yX1_queue.cls = RX1 ∧ yX1_queue.cls ≠ "java/lang/invoke/MethodHandle" ∧ yX1_queue.cls ≠ "java/lang/invoke/VarHandle" ∧ (parseMethodDescriptor yX1_queue.desc).map (fun d => d.parameters.length) = some 1 := by decide +kernel
set_option maxHeartbeats 4000000 in
set_option maxRecDepth 100000 in
theorem mm_X1_queue {o : Nat} {a0 : Int32} {out : Int32 × AH × Nat × Nat} (hE : IfOK l G E fE lE) (hf : f_X1_queue E h nx o a0 = some out) : Met l yX1_queue (ws_ yX1_queue cX1_queue 5 (some .int)) (rC (fE + 2) (lE + 3100) out.2.2.1 out.2.2.2) (bPc G E.1 hSites h nx [.ref o, .int a0]) (bQ G (some (.int out.1)) True out.2.1 (nx + out.2.2.1) (AA h nx)) out.2.2.1 out.2.2.2 (AA h nx) := by
  refine bGo (by decide +kernel) (Nat.le_of_ble_eq_true rfl) (fun p e s m below meth c ls S hr hlocks hin hnm hS hB hl => ?_)
  have S : CallFix p m c cX1_queue 5 s _ lw_all RX1 := S
  obtain ⟨hx, hb, hml, hown, hts⟩ := id S
  have hl : lv_has ls 5 [(0, .ref o), (1, .int a0)] := hl
  have w27 : ∀ (n : Nat) , ∀ (x0 : Nat) (x1 : Int32) (x2 : Nat) (x3 : Int32) (x4 : Int32) (hc : AH) (nc : Nat) (ls : Array Slot) (H : Heap) (locs : List Loc) (ce sl : Nat) (o1 : Int32 × AH × Nat × Nat), BI G (AA h nx) s.heap hc nc H locs → nc = nx + ce → TL out o1 ce sl → lv_has ls 5 [(0, .ref x0), (1, .int x1), (2, .ref x2), (3, .int x3), (4, .int x4)] → f_X1_queue_27 n E x0 x1 x2 x3 x4 hc nc = some o1 → W p l e (rC (fE + 2) (lE + 3100) out.2.2.1 out.2.2.2) s m ([.ref o, .int a0] : List Value).toArray below meth c H locs ce sl (MQ below (bQ G (some (.int out.1)) True out.2.1 (nx + out.2.2.1) (AA h nx)) ([.ref o, .int a0] : List Value).toArray s out.2.2.1 out.2.2.2 (AA h nx)) (F0 m 27 ls []) := by
    intro n
    induction n with
    | zero =>
      intro x0 x1 x2 x3 x4 hc nc ls H locs ce sl o1 hB hn hT hl hf
      exact absurd hf (by rw [f_X1_queue_27]; exact nofun)
    | succ n ih =>
      intro x0 x1 x2 x3 x4 hc nc ls H locs ce sl o1 hB hn hT hl hf
      rw [f_X1_queue_27] at hf
      refine lv_iload hx hb dX1_queue_27 (lv_at hl 4 rfl) ?_
      refine lv_iload_n hx hb dX1_queue_29 rfl (lv_at hl 1 rfl) ?_
      refine lv_icmp_gt (tgt := 83) hx hb dX1_queue_30 (by decide) (fun c1 => ?_) (fun c1 => ?_)
      · replace hf := it_t c1 hf
        refine lv_iload_n hx hb dX1_queue_83 rfl (lv_at hl 3 rfl) ?_
        have hE9 := TL_e hT hf
        subst hE9
        exact bt_i S hr hlocks hB (by omega) trivial dX1_queue_84
      · replace hf := it_f c1 hf
        refine lv_aload_n hx hb dX1_queue_33 rfl (lv_at hl 0 rfl) ?_
        obtain ⟨v2, hv2, hf⟩ := ob_s hf
        refine bg_X1_51 S hS hB (vR_s hv2) dX1_queue_34 ?_
        obtain ⟨g3, hf⟩ := gd_t hf
        obtain ⟨v4, hv4, hf⟩ := ob_s hf
        refine mc_X1_130 (fE := fE) (lE := lE) S hS hB g3 hv4 hl.1 ⟨(by show _ ≤ (fE + 2); omega), (by show _ ≤ (lE + 3100); omega)⟩ (Nat.le_of_ble_eq_true rfl) ⟨(TL_m hT).1, (TL_m hT).2⟩ dX1_queue_37 (fun _ => ?_)
        refine lv_aload_n hx hb dX1_queue_40 rfl (lv_at hl 0 rfl) ?_
        refine lv_aload_n hx hb dX1_queue_41 rfl (lv_at hl 2 rfl) ?_
        obtain ⟨o5, hf, hT⟩ := TL_c hT hf
        refine b_lam S hS hB (k := 40) (vs := [.ref x0, .ref x2]) hnm rfl lamL_40 (lamV_c rfl rfl (lamV_c rfl rfl lamV_n)) rfl hl.1 (by show _ ≤ (lE + 3100); simp only [List.map, List.sum_cons, List.sum_nil, Value.category]; omega) (TL_m hT).1 (TL_m hT).2 dX1_queue_42 (fun H hB => ?_)
        refine lv_aload_n hx hb dX1_queue_47 rfl (lv_at hl 0 rfl) ?_
        obtain ⟨v6, hv6, hf⟩ := ob_s hf
        refine bg_X1_70 S hS hB (vR_s hv6) dX1_queue_48 ?_
        obtain ⟨v7, hv7, hf⟩ := ob_s hf
        refine bg_X1_494 S hS hB (vR_s hv7) dX1_queue_51 ?_
        obtain ⟨v8, hv8, hf⟩ := ob_s hf
        obtain ⟨o9, hf, hT⟩ := TL_c hT hf
        refine mc_X1_428 (fE := fE) (lE := lE) S hE hS hB hv8 hl.1 ⟨(by show _ ≤ (fE + 2); omega), (by show _ ≤ (lE + 3100); omega)⟩ (Nat.le_of_ble_eq_true rfl) ⟨(TL_m hT).1, (TL_m hT).2⟩ dX1_queue_54 (fun H locs _ hB => ?_)
        refine lv_istore_n (i := 3) (lv' := [(3, .int v8.1), (0, .ref x0), (1, .int x1), (2, .ref x2), (4, .int x4)]) hx hb dX1_queue_57 rfl hl (by decide) rfl (fun ls hl => ?_)
        refine lv_iload_n hx hb dX1_queue_58 rfl (lv_at hl 0 rfl) ?_
        refine lv_if_ge (tgt := 68) hx hb dX1_queue_59 (by decide) (fun c10 => ?_) (fun c10 => ?_)
        · replace hf := it_t c10 hf
          refine lv_aload_n hx hb dX1_queue_68 rfl (lv_at hl 3 rfl) ?_
          refine lv_iconst hx hb dX1_queue_69 kc_i0 ?_
          refine lv_dup2_11 hx hb dX1_queue_70 rfl rfl ?_
          obtain ⟨v11, hv11, hf⟩ := ob_s hf
          refine b_iald S hS.1 hB hv11 dX1_queue_71 ?_
          refine lv_iconst hx hb dX1_queue_72 kc_i1 ?_
          refine lv_iload_n hx hb dX1_queue_73 rfl (lv_at hl 0 rfl) ?_
          refine lv_ishl hx hb dX1_queue_74 ?_
          refine lv_ior hx hb dX1_queue_75 ?_
          obtain ⟨h12, hh12, hf⟩ := ob_s hf
          refine b_iast S hS.1 hB hh12 dX1_queue_76 (fun H locs hB => ?_)
          refine lv_iinc (v := (x4 + 1)) (lv' := [(4, .int (x4 + 1)), (3, .int v8.1), (0, .ref x0), (1, .int x1), (2, .ref x2)]) hx hb dX1_queue_77 hl (k := 4) rfl rfl (by decide) rfl (fun ls hl => ?_)
          refine lv_goto (tgt := 27) hx hb dX1_queue_80 (by decide) ?_
          exact (ih) x0 x1 x2 v8.1 (x4 + 1) h12 ((nc + 1) + v8.2.2.1) ls H locs ((ce + 1) + v8.2.2.1) ((sl + 2) + v8.2.2.2) o9 hB (by omega) hT (lv_sub (l' := [(0, .ref x0), (1, .int x1), (2, .ref x2), (3, .int v8.1), (4, .int (x4 + 1))]) hl [2, 3, 4, 1, 0] rfl) hf
        · replace hf := it_f c10 hf
          refine lv_aload_n hx hb dX1_queue_62 rfl (lv_at hl 1 rfl) ?_
          refine lv_iconst hx hb dX1_queue_63 kc_i5 ?_
          obtain ⟨g13, hf⟩ := gd_t hf
          obtain ⟨v14, hv14, hf⟩ := ob_s hf
          obtain ⟨o15, hf, hT⟩ := TL_c hT hf
          refine mc_X1_174 (fE := fE) (lE := lE) S hS hB g13 hv14 hl.1 ⟨(by show _ ≤ (fE + 2); omega), (by show _ ≤ (lE + 3100); omega)⟩ (Nat.le_of_ble_eq_true rfl) ⟨(TL_m hT).1, (TL_m hT).2⟩ dX1_queue_64 (fun H locs _ hB => ?_)
          have hE9 := TL_e hT hf
          subst hE9
          exact bt_i S hr hlocks hB (by omega) trivial dX1_queue_67
  have w10 : ∀ (x0 : Nat) (x1 : Int32) (y0 : Nat) (y1 : Int32) (hc : AH) (nc : Nat) (ls : Array Slot) (H : Heap) (locs : List Loc) (ce sl : Nat) (o1 : Int32 × AH × Nat × Nat), BI G (AA h nx) s.heap hc nc H locs → nc = nx + ce → TL out o1 ce sl → lv_has ls 5 [(0, .ref x0), (1, .int x1)] → f_X1_queue_10 E x0 x1 y0 y1 hc nc = some o1 → W p l e (rC (fE + 2) (lE + 3100) out.2.2.1 out.2.2.2) s m ([.ref o, .int a0] : List Value).toArray below meth c H locs ce sl (MQ below (bQ G (some (.int out.1)) True out.2.1 (nx + out.2.2.1) (AA h nx)) ([.ref o, .int a0] : List Value).toArray s out.2.2.1 out.2.2.2 (AA h nx)) (F0 m 10 ls [.int y1, .ref y0]) := by
    intro x0 x1 y0 y1 hc nc ls H locs ce sl o1 hB hn hT hl hf
    rw [f_X1_queue_10] at hf
    obtain ⟨g1, hf⟩ := gd_t hf
    obtain ⟨v2, hv2, hf⟩ := ob_s hf
    obtain ⟨o3, hf, hT⟩ := TL_c hT hf
    refine mc_X1_155 (fE := fE) (lE := lE) S hS hB g1 hv2 hl.1 ⟨(by show _ ≤ (fE + 2); omega), (by show _ ≤ (lE + 3100); omega)⟩ (Nat.le_of_ble_eq_true rfl) ⟨(TL_m hT).1, (TL_m hT).2⟩ dX1_queue_10 (fun H locs hnv2 hB => ?_)
    refine lv_if_ne (tgt := 18) hx hb dX1_queue_13 (by decide) (fun c4 => ?_) (fun c4 => ?_)
    · replace hf := it_f c4 hf
      refine lv_iconst hx hb dX1_queue_18 kc_i1 ?_
      obtain ⟨o5, hf, hT⟩ := TL_c hT hf
      refine b_newI S hS hB kn_1 kna_1 (TL_m hT).1 (TL_m hT).2 dX1_queue_19 (fun H hB => ?_)
      refine lv_astore_n (i := 2) (lv' := [(2, .ref (nc + v2.2.2.1)), (0, .ref x0), (1, .int x1)]) hx hb dX1_queue_21 rfl hl (by decide) rfl (fun ls hl => ?_)
      refine lv_iconst hx hb dX1_queue_22 kc_im1 ?_
      refine lv_istore_n (i := 3) (lv' := [(3, .int (-1)), (2, .ref (nc + v2.2.2.1)), (0, .ref x0), (1, .int x1)]) hx hb dX1_queue_23 rfl hl (by decide) rfl (fun ls hl => ?_)
      refine lv_iconst hx hb dX1_queue_24 kc_i0 ?_
      refine lv_istore (lv' := [(4, .int 0), (3, .int (-1)), (2, .ref (nc + v2.2.2.1)), (0, .ref x0), (1, .int x1)]) hx hb dX1_queue_25 hl (by decide) rfl (fun ls hl => ?_)
      exact (w27 FU) x0 x1 (nc + v2.2.2.1) (-1) 0 (hu v2.2.1 (nc + v2.2.2.1) (.inl (0, 1, .inl (fun _ => 0)))) ((nc + v2.2.2.1) + 1) ls H locs ((ce + v2.2.2.1) + 1) ((sl + v2.2.2.2) + 1) o5 hB (by omega) hT (lv_sub (l' := [(0, .ref x0), (1, .int x1), (2, .ref (nc + v2.2.2.1)), (3, .int (-1)), (4, .int 0)]) hl [3, 4, 2, 1, 0] rfl) hf
    · replace hf := it_t c4 hf
      refine lv_iconst hx hb dX1_queue_16 kc_im1 ?_
      have hE9 := TL_e hT hf
      subst hE9
      exact bt_i S hr hlocks hB (by omega) trivial dX1_queue_17
  have hT : TL out out 0 0 := TL_0
  rw [f_X1_queue] at hf
  refine lv_aload_n hx hb dX1_queue_0 rfl (lv_at hl 0 rfl) ?_
  refine lv_iload_n hx hb dX1_queue_1 rfl (lv_at hl 1 rfl) ?_
  refine lv_if_ge (tgt := 9) hx hb dX1_queue_2 (by decide) (fun c1 => ?_) (fun c1 => ?_)
  · replace hf := it_t c1 hf
    refine lv_iconst hx hb dX1_queue_9 kc_i0 ?_
    exact (w10) o a0 o 0 h nx ls s.heap [] 0 0 out hB (by omega) hT hl hf
  · replace hf := it_f c1 hf
    refine lv_iconst hx hb dX1_queue_5 kc_i1 ?_
    refine lv_goto (tgt := 10) hx hb dX1_queue_6 (by decide) ?_
    exact (w10) o a0 o 1 h nx ls s.heap [] 0 0 out hB (by omega) hT hl hf
theorem hd_X1_lambda_queue_28 : yX1_lambda_queue_28.cls = RX1 ∧ yX1_lambda_queue_28.cls ≠ "java/lang/invoke/MethodHandle" ∧ yX1_lambda_queue_28.cls ≠ "java/lang/invoke/VarHandle" ∧ (parseMethodDescriptor yX1_lambda_queue_28.desc).map (fun d => d.parameters.length) = some 2 := by decide +kernel
set_option maxHeartbeats 4000000 in
set_option maxRecDepth 100000 in
theorem mm_X1_lambda_queue_28 {o : Nat} {a0 : Nat} {a1 : Int32} {out : Int32} (hf : f_X1_lambda_queue_28 E h o a0 a1 = some out) : Met l yX1_lambda_queue_28 (ws_ yX1_lambda_queue_28 cX1_lambda_queue_28 3 (some .boolean)) (rM (fE + 0) (lE + 0)) (bPc G E.1 hSites h nx [.ref o, .ref a0, .int a1]) (gR (some (.int out)) (narrow .boolean (.int out) = .int out)) 0 0 (fun _ => False) := by
  refine bGo (by decide +kernel) (Nat.le_of_ble_eq_true rfl) (fun p e s m below meth c ls S hr hlocks hin hnm hS hB hl => ?_)
  have S : CallFix p m c cX1_lambda_queue_28 3 s _ lw_all RX1 := S
  obtain ⟨hx, hb, hml, hown, hts⟩ := id S
  have hl : lv_has ls 3 [(0, .ref o), (1, .ref a0), (2, .int a1)] := hl
  rw [f_X1_lambda_queue_28] at hf
  refine lv_aload_n hx hb dX1_lambda_queue_28_0 rfl (lv_at hl 0 rfl) ?_
  obtain ⟨v1, hv1, hf⟩ := ob_s hf
  refine bg_X1_70 S hS hB (vR_s hv1) dX1_lambda_queue_28_1 ?_
  obtain ⟨v2, hv2, hf⟩ := ob_s hf
  refine bg_X1_305 S hS hB (vR_s hv2) dX1_lambda_queue_28_4 ?_
  refine lv_iload_n hx hb dX1_lambda_queue_28_7 rfl (lv_at hl 2 rfl) ?_
  obtain ⟨v3, hv3, hf⟩ := ob_s hf
  refine b_zald S hS.1 hB hv3 dX1_lambda_queue_28_8 ?_
  refine lv_if_ne (tgt := 26) hx hb dX1_lambda_queue_28_9 (by decide) (fun c4 => ?_) (fun c4 => ?_)
  · replace hf := it_f c4 hf
    refine lv_iconst hx hb dX1_lambda_queue_28_26 kc_i0 ?_
    have hE9 := Option.some.inj hf
    subst hE9
    exact gt_rz S hr hlocks nb0 dX1_lambda_queue_28_27
  · replace hf := it_t c4 hf
    refine lv_aload_n hx hb dX1_lambda_queue_28_12 rfl (lv_at hl 1 rfl) ?_
    refine lv_iconst hx hb dX1_lambda_queue_28_13 kc_i0 ?_
    obtain ⟨v5, hv5, hf⟩ := ob_s hf
    refine b_iald S hS.1 hB hv5 dX1_lambda_queue_28_14 ?_
    refine lv_iload_n hx hb dX1_lambda_queue_28_15 rfl (lv_at hl 2 rfl) ?_
    refine lv_ishr hx hb dX1_lambda_queue_28_16 ?_
    refine lv_iconst hx hb dX1_lambda_queue_28_17 kc_i1 ?_
    refine lv_iand hx hb dX1_lambda_queue_28_18 ?_
    refine lv_if_ne (tgt := 26) hx hb dX1_lambda_queue_28_19 (by decide) (fun c6 => ?_) (fun c6 => ?_)
    · replace hf := it_f c6 hf
      refine lv_iconst hx hb dX1_lambda_queue_28_26 kc_i0 ?_
      have hE9 := Option.some.inj hf
      subst hE9
      exact gt_rz S hr hlocks nb0 dX1_lambda_queue_28_27
    · replace hf := it_t c6 hf
      refine lv_iconst hx hb dX1_lambda_queue_28_22 kc_i1 ?_
      refine lv_goto (tgt := 27) hx hb dX1_lambda_queue_28_23 (by decide) ?_
      have hE9 := Option.some.inj hf
      subst hE9
      exact gt_rz S hr hlocks nb1 dX1_lambda_queue_28_27
theorem hd_X1_most : yX1_most.cls = RX1 ∧ yX1_most.cls ≠ "java/lang/invoke/MethodHandle" ∧ yX1_most.cls ≠ "java/lang/invoke/VarHandle" ∧ (parseMethodDescriptor yX1_most.desc).map (fun d => d.parameters.length) = some 0 := by decide +kernel
set_option maxHeartbeats 4000000 in
set_option maxRecDepth 100000 in
theorem mm_X1_most {o : Nat} {out : Int32 × AH × Nat × Nat} (hf : f_X1_most E h nx o = some out) : Met l yX1_most (ws_ yX1_most cX1_most 1 (some .int)) (rC (fE + 87) (lE + 1897) out.2.2.1 out.2.2.2) (bPc G E.1 hSites h nx [.ref o]) (bQ G (some (.int out.1)) True out.2.1 (nx + out.2.2.1) (AA h nx)) out.2.2.1 out.2.2.2 (AA h nx) := by
  refine bGo (by decide +kernel) (Nat.le_of_ble_eq_true rfl) (fun p e s m below meth c ls S hr hlocks hin hnm hS hB hl => ?_)
  have S : CallFix p m c cX1_most 1 s _ lw_all RX1 := S
  obtain ⟨hx, hb, hml, hown, hts⟩ := id S
  have hl : lv_has ls 1 [(0, .ref o)] := hl
  have hT : TL out out 0 0 := TL_0
  rw [f_X1_most] at hf
  refine lv_aload_n hx hb dX1_most_0 rfl (lv_at hl 0 rfl) ?_
  refine lv_iconst hx hb dX1_most_1 kc_i0 ?_
  obtain ⟨g1, hf⟩ := gd_t hf
  obtain ⟨v2, hv2, hf⟩ := ob_s hf
  obtain ⟨o3, hf, hT⟩ := TL_c hT hf
  refine mc_X1_155 (fE := fE) (lE := lE) S hS hB g1 hv2 hl.1 ⟨(by show _ ≤ (fE + 87); omega), (by show _ ≤ (lE + 1897); omega)⟩ (Nat.le_of_ble_eq_true rfl) ⟨(TL_m hT).1, (TL_m hT).2⟩ dX1_most_2 (fun H locs hnv2 hB => ?_)
  refine lv_if_eq (tgt := 22) hx hb dX1_most_5 (by decide) (fun c4 => ?_) (fun c4 => ?_)
  · replace hf := it_t c4 hf
    refine lv_iconst hx hb dX1_most_22 kc_im1 ?_
    have hE9 := TL_e hT hf
    subst hE9
    exact bt_i S hr hlocks hB (by omega) trivial dX1_most_23
  · replace hf := it_f c4 hf
    obtain ⟨o5, hf, hT⟩ := TL_c hT hf
    refine bn_X1_498 S hS hB (TL_m hT).1 (TL_m hT).2 dX1_most_8 (fun H hB => ?_)
    refine lv_dup hx hb dX1_most_11 rfl ?_
    refine lv_aload_n hx hb dX1_most_12 rfl (lv_at hl 0 rfl) ?_
    obtain ⟨v6, hv6, hf⟩ := ob_s hf
    obtain ⟨o7, hf, hT⟩ := TL_c hT hf
    refine mc_X1_500 (fE := fE) (lE := lE) S hS hB hv6 hl.1 ⟨(by show _ ≤ (fE + 87); omega), (by show _ ≤ (lE + 1897); omega)⟩ (Nat.le_of_ble_eq_true rfl) ⟨(TL_m hT).1, (TL_m hT).2⟩ dX1_most_13 (fun H locs _ hB => ?_)
    obtain ⟨v8, hv8, hf⟩ := ob_s hf
    refine bg_X1_501 S hS hB (vI_s hv8) dX1_most_16 ?_
    refine lv_goto (tgt := 23) hx hb dX1_most_19 (by decide) ?_
    have hE9 := TL_e hT hf
    subst hE9
    exact bt_i S hr hlocks hB (by omega) trivial dX1_most_23
theorem hd_X1_gift : yX1_gift.cls = RX1 ∧ yX1_gift.cls ≠ "java/lang/invoke/MethodHandle" ∧ yX1_gift.cls ≠ "java/lang/invoke/VarHandle" ∧ (parseMethodDescriptor yX1_gift.desc).map (fun d => d.parameters.length) = some 1 := by decide +kernel
set_option maxHeartbeats 4000000 in
set_option maxRecDepth 100000 in
theorem mm_X1_gift {o : Nat} {a0 : Int32} {out : Int32 × AH × Nat × Nat} (hf : f_X1_gift E h nx o a0 = some out) : Met l yX1_gift (ws_ yX1_gift cX1_gift 2 (some .int)) (rC (fE + 87) (lE + 1897) out.2.2.1 out.2.2.2) (bPc G E.1 hSites h nx [.ref o, .int a0]) (bQ G (some (.int out.1)) True out.2.1 (nx + out.2.2.1) (AA h nx)) out.2.2.1 out.2.2.2 (AA h nx) := by
  refine bGo (by decide +kernel) (Nat.le_of_ble_eq_true rfl) (fun p e s m below meth c ls S hr hlocks hin hnm hS hB hl => ?_)
  have S : CallFix p m c cX1_gift 2 s _ lw_all RX1 := S
  obtain ⟨hx, hb, hml, hown, hts⟩ := id S
  have hl : lv_has ls 2 [(0, .ref o), (1, .int a0)] := hl
  have w14 : ∀ (x0 : Nat) (x1 : Int32) (y0 : Nat) (y1 : Int32) (hc : AH) (nc : Nat) (ls : Array Slot) (H : Heap) (locs : List Loc) (ce sl : Nat) (o1 : Int32 × AH × Nat × Nat), BI G (AA h nx) s.heap hc nc H locs → nc = nx + ce → TL out o1 ce sl → lv_has ls 2 [(0, .ref x0), (1, .int x1)] → f_X1_gift_14 E x0 x1 y0 y1 hc nc = some o1 → W p l e (rC (fE + 87) (lE + 1897) out.2.2.1 out.2.2.2) s m ([.ref o, .int a0] : List Value).toArray below meth c H locs ce sl (MQ below (bQ G (some (.int out.1)) True out.2.1 (nx + out.2.2.1) (AA h nx)) ([.ref o, .int a0] : List Value).toArray s out.2.2.1 out.2.2.2 (AA h nx)) (F0 m 14 ls [.int y1, .ref y0]) := by
    intro x0 x1 y0 y1 hc nc ls H locs ce sl o1 hB hn hT hl hf
    rw [f_X1_gift_14] at hf
    obtain ⟨g1, hf⟩ := gd_t hf
    obtain ⟨v2, hv2, hf⟩ := ob_s hf
    obtain ⟨o3, hf, hT⟩ := TL_c hT hf
    refine mc_X1_155 (fE := fE) (lE := lE) S hS hB g1 hv2 hl.1 ⟨(by show _ ≤ (fE + 87); omega), (by show _ ≤ (lE + 1897); omega)⟩ (Nat.le_of_ble_eq_true rfl) ⟨(TL_m hT).1, (TL_m hT).2⟩ dX1_gift_14 (fun H locs hnv2 hB => ?_)
    refine lv_if_eq (tgt := 40) hx hb dX1_gift_17 (by decide) (fun c4 => ?_) (fun c4 => ?_)
    · replace hf := it_t c4 hf
      refine lv_iconst hx hb dX1_gift_40 kc_im1 ?_
      have hE9 := TL_e hT hf
      subst hE9
      exact bt_i S hr hlocks hB (by omega) trivial dX1_gift_41
    · replace hf := it_f c4 hf
      refine lv_aload_n hx hb dX1_gift_20 rfl (lv_at hl 0 rfl) ?_
      obtain ⟨o5, hf, hT⟩ := TL_c hT hf
      refine bn_X1_498 S hS hB (TL_m hT).1 (TL_m hT).2 dX1_gift_21 (fun H hB => ?_)
      refine lv_dup hx hb dX1_gift_24 rfl ?_
      refine lv_aload_n hx hb dX1_gift_25 rfl (lv_at hl 0 rfl) ?_
      obtain ⟨v6, hv6, hf⟩ := ob_s hf
      obtain ⟨o7, hf, hT⟩ := TL_c hT hf
      refine mc_X1_500 (fE := fE) (lE := lE) S hS hB hv6 hl.1 ⟨(by show _ ≤ (fE + 87); omega), (by show _ ≤ (lE + 1897); omega)⟩ (Nat.le_of_ble_eq_true rfl) ⟨(TL_m hT).1, (TL_m hT).2⟩ dX1_gift_26 (fun H locs _ hB => ?_)
      obtain ⟨v8, hv8, hf⟩ := ob_s hf
      refine bg_X1_504 S hS hB (vR_s hv8) dX1_gift_29 ?_
      refine lv_iload_n hx hb dX1_gift_32 rfl (lv_at hl 1 rfl) ?_
      obtain ⟨v9, hv9, hf⟩ := ob_s hf
      refine b_iald S hS.1 hB hv9 dX1_gift_33 ?_
      obtain ⟨g10, hf⟩ := gd_t hf
      obtain ⟨v11, hv11, hf⟩ := ob_s hf
      obtain ⟨o12, hf, hT⟩ := TL_c hT hf
      refine mc_X1_247 (fE := fE) (lE := lE) S hS hB g10 hv11 hl.1 ⟨(by show _ ≤ (fE + 87); omega), (by show _ ≤ (lE + 1897); omega)⟩ (Nat.le_of_ble_eq_true rfl) ⟨(TL_m hT).1, (TL_m hT).2⟩ dX1_gift_34 (fun H locs _ hB => ?_)
      refine lv_goto (tgt := 41) hx hb dX1_gift_37 (by decide) ?_
      have hE9 := TL_e hT hf
      subst hE9
      exact bt_i S hr hlocks hB (by omega) trivial dX1_gift_41
  have hT : TL out out 0 0 := TL_0
  rw [f_X1_gift] at hf
  refine lv_aload_n hx hb dX1_gift_0 rfl (lv_at hl 0 rfl) ?_
  refine lv_aload_n hx hb dX1_gift_1 rfl (lv_at hl 0 rfl) ?_
  refine lv_iload_n hx hb dX1_gift_2 rfl (lv_at hl 1 rfl) ?_
  obtain ⟨g1, hf⟩ := gd_t hf
  obtain ⟨v2, hv2, hf⟩ := ob_s hf
  refine mc_X1_138 (fE := fE) (lE := lE) S hS hB g1 hv2 hl.1 ⟨(by show _ ≤ (fE + 87); omega), (by show _ ≤ (lE + 1897); omega)⟩ (Nat.le_of_ble_eq_true rfl) ⟨(TL_m hT).1, (TL_m hT).2⟩ dX1_gift_3 (fun hnv2 => ?_)
  refine lv_if_eq (tgt := 13) hx hb dX1_gift_6 (by decide) (fun c3 => ?_) (fun c3 => ?_)
  · replace hf := it_t c3 hf
    refine lv_iconst hx hb dX1_gift_13 kc_i2 ?_
    exact (w14) o a0 o (nI 2) h nx ls s.heap [] 0 0 out hB (by omega) hT hl hf
  · replace hf := it_f c3 hf
    refine lv_iconst hx hb dX1_gift_9 kc_i0 ?_
    refine lv_goto (tgt := 14) hx hb dX1_gift_10 (by decide) ?_
    exact (w14) o a0 o 0 h nx ls s.heap [] 0 0 out hB (by omega) hT hl hf
theorem hd_X1_trade : yX1_trade.cls = RX1 ∧ yX1_trade.cls ≠ "java/lang/invoke/MethodHandle" ∧ yX1_trade.cls ≠ "java/lang/invoke/VarHandle" ∧ (parseMethodDescriptor yX1_trade.desc).map (fun d => d.parameters.length) = some 1 := by decide +kernel
set_option maxHeartbeats 4000000 in
set_option maxRecDepth 100000 in
theorem mm_X1_trade {o : Nat} {a0 : Int32} {out : Int32 × AH × Nat × Nat} (hf : f_X1_trade E h nx o a0 = some out) : Met l yX1_trade (ws_ yX1_trade cX1_trade 2 (some .int)) (rC (fE + 8) (lE + 180) out.2.2.1 out.2.2.2) (bPc G E.1 hSites h nx [.ref o, .int a0]) (bQ G (some (.int out.1)) True out.2.1 (nx + out.2.2.1) (AA h nx)) out.2.2.1 out.2.2.2 (AA h nx) := by
  refine bGo (by decide +kernel) (Nat.le_of_ble_eq_true rfl) (fun p e s m below meth c ls S hr hlocks hin hnm hS hB hl => ?_)
  have S : CallFix p m c cX1_trade 2 s _ lw_all RX1 := S
  obtain ⟨hx, hb, hml, hown, hts⟩ := id S
  have hl : lv_has ls 2 [(0, .ref o), (1, .int a0)] := hl
  have w14 : ∀ (x0 : Nat) (x1 : Int32) (y0 : Nat) (y1 : Int32) (hc : AH) (nc : Nat) (ls : Array Slot) (H : Heap) (locs : List Loc) (ce sl : Nat) (o1 : Int32 × AH × Nat × Nat), BI G (AA h nx) s.heap hc nc H locs → nc = nx + ce → TL out o1 ce sl → lv_has ls 2 [(0, .ref x0), (1, .int x1)] → f_X1_trade_14 E x0 x1 y0 y1 hc nc = some o1 → W p l e (rC (fE + 8) (lE + 180) out.2.2.1 out.2.2.2) s m ([.ref o, .int a0] : List Value).toArray below meth c H locs ce sl (MQ below (bQ G (some (.int out.1)) True out.2.1 (nx + out.2.2.1) (AA h nx)) ([.ref o, .int a0] : List Value).toArray s out.2.2.1 out.2.2.2 (AA h nx)) (F0 m 14 ls [.int y1, .ref y0]) := by
    intro x0 x1 y0 y1 hc nc ls H locs ce sl o1 hB hn hT hl hf
    rw [f_X1_trade_14] at hf
    obtain ⟨g1, hf⟩ := gd_t hf
    obtain ⟨v2, hv2, hf⟩ := ob_s hf
    obtain ⟨o3, hf, hT⟩ := TL_c hT hf
    refine mc_X1_155 (fE := fE) (lE := lE) S hS hB g1 hv2 hl.1 ⟨(by show _ ≤ (fE + 8); omega), (by show _ ≤ (lE + 180); omega)⟩ (Nat.le_of_ble_eq_true rfl) ⟨(TL_m hT).1, (TL_m hT).2⟩ dX1_trade_14 (fun H locs hnv2 hB => ?_)
    refine lv_if_eq (tgt := 40) hx hb dX1_trade_17 (by decide) (fun c4 => ?_) (fun c4 => ?_)
    · replace hf := it_t c4 hf
      refine lv_iconst hx hb dX1_trade_40 kc_im1 ?_
      have hE9 := TL_e hT hf
      subst hE9
      exact bt_i S hr hlocks hB (by omega) trivial dX1_trade_41
    · replace hf := it_f c4 hf
      refine lv_aload_n hx hb dX1_trade_20 rfl (lv_at hl 0 rfl) ?_
      obtain ⟨o5, hf, hT⟩ := TL_c hT hf
      refine bn_X1_507 S hS hB (TL_m hT).1 (TL_m hT).2 dX1_trade_21 (fun H hB => ?_)
      refine lv_dup hx hb dX1_trade_24 rfl ?_
      refine lv_aload_n hx hb dX1_trade_25 rfl (lv_at hl 0 rfl) ?_
      obtain ⟨v6, hv6, hf⟩ := ob_s hf
      obtain ⟨o7, hf, hT⟩ := TL_c hT hf
      refine mc_X1_509 (fE := fE) (lE := lE) S hS hB hv6 hl.1 ⟨(by show _ ≤ (fE + 8); omega), (by show _ ≤ (lE + 180); omega)⟩ (Nat.le_of_ble_eq_true rfl) ⟨(TL_m hT).1, (TL_m hT).2⟩ dX1_trade_26 (fun H locs _ hB => ?_)
      obtain ⟨v8, hv8, hf⟩ := ob_s hf
      refine bg_X1_510 S hS hB (vR_s hv8) dX1_trade_29 ?_
      refine lv_iload_n hx hb dX1_trade_32 rfl (lv_at hl 1 rfl) ?_
      obtain ⟨v9, hv9, hf⟩ := ob_s hf
      refine b_iald S hS.1 hB hv9 dX1_trade_33 ?_
      obtain ⟨g10, hf⟩ := gd_t hf
      obtain ⟨v11, hv11, hf⟩ := ob_s hf
      obtain ⟨o12, hf, hT⟩ := TL_c hT hf
      refine mc_X1_247 (fE := fE) (lE := lE) S hS hB g10 hv11 hl.1 ⟨(by show _ ≤ (fE + 8); omega), (by show _ ≤ (lE + 180); omega)⟩ (Nat.le_of_ble_eq_true rfl) ⟨(TL_m hT).1, (TL_m hT).2⟩ dX1_trade_34 (fun H locs _ hB => ?_)
      refine lv_goto (tgt := 41) hx hb dX1_trade_37 (by decide) ?_
      have hE9 := TL_e hT hf
      subst hE9
      exact bt_i S hr hlocks hB (by omega) trivial dX1_trade_41
  have hT : TL out out 0 0 := TL_0
  rw [f_X1_trade] at hf
  refine lv_aload_n hx hb dX1_trade_0 rfl (lv_at hl 0 rfl) ?_
  refine lv_aload_n hx hb dX1_trade_1 rfl (lv_at hl 0 rfl) ?_
  refine lv_iload_n hx hb dX1_trade_2 rfl (lv_at hl 1 rfl) ?_
  obtain ⟨g1, hf⟩ := gd_t hf
  obtain ⟨v2, hv2, hf⟩ := ob_s hf
  refine mc_X1_138 (fE := fE) (lE := lE) S hS hB g1 hv2 hl.1 ⟨(by show _ ≤ (fE + 8); omega), (by show _ ≤ (lE + 180); omega)⟩ (Nat.le_of_ble_eq_true rfl) ⟨(TL_m hT).1, (TL_m hT).2⟩ dX1_trade_3 (fun hnv2 => ?_)
  refine lv_if_eq (tgt := 13) hx hb dX1_trade_6 (by decide) (fun c3 => ?_) (fun c3 => ?_)
  · replace hf := it_t c3 hf
    refine lv_iconst hx hb dX1_trade_13 kc_i2 ?_
    exact (w14) o a0 o (nI 2) h nx ls s.heap [] 0 0 out hB (by omega) hT hl hf
  · replace hf := it_f c3 hf
    refine lv_iconst hx hb dX1_trade_9 kc_i0 ?_
    refine lv_goto (tgt := 14) hx hb dX1_trade_10 (by decide) ?_
    exact (w14) o a0 o 0 h nx ls s.heap [] 0 0 out hB (by omega) hT hl hf
theorem hd_X1_trades : yX1_trades.cls = RX1 ∧ yX1_trades.cls ≠ "java/lang/invoke/MethodHandle" ∧ yX1_trades.cls ≠ "java/lang/invoke/VarHandle" ∧ (parseMethodDescriptor yX1_trades.desc).map (fun d => d.parameters.length) = some 1 := by decide +kernel
set_option maxHeartbeats 4000000 in
set_option maxRecDepth 100000 in
theorem mm_X1_trades {o : Nat} {a0 : Int32} {out : Int32 × AH × Nat × Nat} (hE : IfOK l G E fE lE) (hf : f_X1_trades E h nx o a0 = some out) : Met l yX1_trades (ws_ yX1_trades cX1_trades 3 (some .int)) (rC (fE + 8) (lE + 3100) out.2.2.1 out.2.2.2) (bPc G E.1 hSites h nx [.ref o, .int a0]) (bQ G (some (.int out.1)) True out.2.1 (nx + out.2.2.1) (AA h nx)) out.2.2.1 out.2.2.2 (AA h nx) := by
  refine bGo (by decide +kernel) (Nat.le_of_ble_eq_true rfl) (fun p e s m below meth c ls S hr hlocks hin hnm hS hB hl => ?_)
  have S : CallFix p m c cX1_trades 3 s _ lw_all RX1 := S
  obtain ⟨hx, hb, hml, hown, hts⟩ := id S
  have hl : lv_has ls 3 [(0, .ref o), (1, .int a0)] := hl
  have w18 : ∀ (x0 : Nat) (x1 : Int32) (y0 : Nat) (y1 : Int32) (hc : AH) (nc : Nat) (ls : Array Slot) (H : Heap) (locs : List Loc) (ce sl : Nat) (o1 : Int32 × AH × Nat × Nat), BI G (AA h nx) s.heap hc nc H locs → nc = nx + ce → TL out o1 ce sl → lv_has ls 3 [(0, .ref x0), (1, .int x1)] → f_X1_trades_18 E x0 x1 y0 y1 hc nc = some o1 → W p l e (rC (fE + 8) (lE + 3100) out.2.2.1 out.2.2.2) s m ([.ref o, .int a0] : List Value).toArray below meth c H locs ce sl (MQ below (bQ G (some (.int out.1)) True out.2.1 (nx + out.2.2.1) (AA h nx)) ([.ref o, .int a0] : List Value).toArray s out.2.2.1 out.2.2.2 (AA h nx)) (F0 m 18 ls [.int y1, .ref y0]) := by
    intro x0 x1 y0 y1 hc nc ls H locs ce sl o1 hB hn hT hl hf
    rw [f_X1_trades_18] at hf
    obtain ⟨g1, hf⟩ := gd_t hf
    obtain ⟨v2, hv2, hf⟩ := ob_s hf
    obtain ⟨o3, hf, hT⟩ := TL_c hT hf
    refine mc_X1_155 (fE := fE) (lE := lE) S hS hB g1 hv2 hl.1 ⟨(by show _ ≤ (fE + 8); omega), (by show _ ≤ (lE + 3100); omega)⟩ (Nat.le_of_ble_eq_true rfl) ⟨(TL_m hT).1, (TL_m hT).2⟩ dX1_trades_18 (fun H locs hnv2 hB => ?_)
    refine lv_if_ne (tgt := 26) hx hb dX1_trades_21 (by decide) (fun c4 => ?_) (fun c4 => ?_)
    · replace hf := it_f c4 hf
      obtain ⟨o5, hf, hT⟩ := TL_c hT hf
      refine bn_X1_507 S hS hB (TL_m hT).1 (TL_m hT).2 dX1_trades_26 (fun H hB => ?_)
      refine lv_dup hx hb dX1_trades_29 rfl ?_
      refine lv_aload_n hx hb dX1_trades_30 rfl (lv_at hl 0 rfl) ?_
      obtain ⟨v6, hv6, hf⟩ := ob_s hf
      obtain ⟨o7, hf, hT⟩ := TL_c hT hf
      refine mc_X1_509 (fE := fE) (lE := lE) S hS hB hv6 hl.1 ⟨(by show _ ≤ (fE + 8); omega), (by show _ ≤ (lE + 3100); omega)⟩ (Nat.le_of_ble_eq_true rfl) ⟨(TL_m hT).1, (TL_m hT).2⟩ dX1_trades_31 (fun H locs _ hB => ?_)
      refine lv_astore_n (i := 2) (lv' := [(2, .ref (nc + v2.2.2.1)), (0, .ref x0), (1, .int x1)]) hx hb dX1_trades_34 rfl hl (by decide) rfl (fun ls hl => ?_)
      refine lv_iload_n hx hb dX1_trades_35 rfl (lv_at hl 2 rfl) ?_
      refine lv_if_ne (tgt := 59) hx hb dX1_trades_36 (by decide) (fun c8 => ?_) (fun c8 => ?_)
      · replace hf := it_f c8 hf
        refine lv_iload_n hx hb dX1_trades_59 rfl (lv_at hl 2 rfl) ?_
        refine lv_iconst hx hb dX1_trades_60 kc_i1 ?_
        refine lv_icmp_ne (tgt := 71) hx hb dX1_trades_61 (by decide) (fun c9 => ?_) (fun c9 => ?_)
        · replace hf := it_f c9 hf
          refine lv_aload_n hx hb dX1_trades_71 rfl (lv_at hl 0 rfl) ?_
          obtain ⟨v10, hv10, hf⟩ := ob_s hf
          refine bg_X1_519 S hS hB (vI_s hv10) dX1_trades_72 ?_
          have hE9 := TL_e hT hf
          subst hE9
          exact bt_i S hr hlocks hB (by omega) trivial dX1_trades_75
        · replace hf := it_t c9 hf
          refine lv_aload_n hx hb dX1_trades_64 rfl (lv_at hl 0 rfl) ?_
          obtain ⟨v11, hv11, hf⟩ := ob_s hf
          refine bg_X1_516 S hS hB (vI_s hv11) dX1_trades_65 ?_
          refine lv_goto (tgt := 75) hx hb dX1_trades_68 (by decide) ?_
          have hE9 := TL_e hT hf
          subst hE9
          exact bt_i S hr hlocks hB (by omega) trivial dX1_trades_75
      · replace hf := it_t c8 hf
        refine lv_aload_n hx hb dX1_trades_39 rfl (lv_at hl 1 rfl) ?_
        obtain ⟨v12, hv12, hf⟩ := ob_s hf
        refine bg_X1_51 S hS hB (vR_s hv12) dX1_trades_40 ?_
        obtain ⟨g13, hf⟩ := gd_t hf
        obtain ⟨v14, hv14, hf⟩ := ob_s hf
        refine mc_X1_130 (fE := fE) (lE := lE) S hS hB g13 hv14 hl.1 ⟨(by show _ ≤ (fE + 8); omega), (by show _ ≤ (lE + 3100); omega)⟩ (Nat.le_of_ble_eq_true rfl) ⟨(TL_m hT).1, (TL_m hT).2⟩ dX1_trades_43 (fun _ => ?_)
        refine lv_aload_n hx hb dX1_trades_46 rfl (lv_at hl 1 rfl) ?_
        refine lv_aload_n hx hb dX1_trades_47 rfl (lv_at hl 0 rfl) ?_
        obtain ⟨o15, hf, hT⟩ := TL_c hT hf
        refine b_lam S hS hB (k := 41) (vs := [.ref x0, .ref (nc + v2.2.2.1)]) hnm rfl lamL_41 (lamV_c rfl rfl (lamV_c rfl rfl lamV_n)) rfl hl.1 (by show _ ≤ (lE + 3100); simp only [List.map, List.sum_cons, List.sum_nil, Value.category]; omega) (TL_m hT).1 (TL_m hT).2 dX1_trades_48 (fun H hB => ?_)
        obtain ⟨h16, eh16⟩ : ∃ z, z = (hu v6.2.1 (((nc + v2.2.2.1) + 1) + v6.2.2.1) (.inr (.inr (41, [.ref x0, .ref (nc + v2.2.2.1)])))) := ⟨_, rfl⟩
        replace hf := bd_e eh16 hf
        rw [← eh16] at hB
        obtain ⟨v17, hv17, hf⟩ := ob_s hf
        obtain ⟨o18, hf, hT⟩ := TL_c hT hf
        refine mc_X1_192 (fE := fE) (lE := lE) S hE hS hB hv17 hl.1 ⟨(by show _ ≤ (fE + 8); omega), (by show _ ≤ (lE + 3100); omega)⟩ (Nat.le_of_ble_eq_true rfl) ⟨(TL_m hT).1, (TL_m hT).2⟩ dX1_trades_53 (fun H locs _ hB => ?_)
        refine lv_goto (tgt := 75) hx hb dX1_trades_56 (by decide) ?_
        have hE9 := TL_e hT hf
        subst hE9
        exact bt_i S hr hlocks hB (by omega) trivial dX1_trades_75
    · replace hf := it_t c4 hf
      refine lv_iconst hx hb dX1_trades_24 kc_im1 ?_
      have hE9 := TL_e hT hf
      subst hE9
      exact bt_i S hr hlocks hB (by omega) trivial dX1_trades_25
  have hT : TL out out 0 0 := TL_0
  rw [f_X1_trades] at hf
  refine lv_aload_n hx hb dX1_trades_0 rfl (lv_at hl 0 rfl) ?_
  refine lv_iload_n hx hb dX1_trades_1 rfl (lv_at hl 1 rfl) ?_
  refine lv_i2l hx hb dX1_trades_2 rfl ?_
  refine lv_lconst (v := 0) hx hb dX1_trades_3 (by decide) ?_
  refine lv_ldc2 hx hb hown (hts _ q1325) dX1_trades_4 ?_
  obtain ⟨v1, hv1, hf⟩ := ob_s hf
  refine mc_X1_134 S hS.1 hv1 hl.1 ⟨(by show _ ≤ (fE + 8); omega), (by show _ ≤ (lE + 3100); omega)⟩ (Nat.le_of_ble_eq_true rfl) ⟨(TL_m hT).1, (TL_m hT).2⟩ dX1_trades_7 (fun hnv1 => ?_)
  refine lv_if_eq (tgt := 17) hx hb dX1_trades_10 (by decide) (fun c2 => ?_) (fun c2 => ?_)
  · replace hf := it_t c2 hf
    refine lv_iconst hx hb dX1_trades_17 kc_i1 ?_
    exact (w18) o a0 o 1 h nx ls s.heap [] 0 0 out hB (by omega) hT hl hf
  · replace hf := it_f c2 hf
    refine lv_iconst hx hb dX1_trades_13 kc_i0 ?_
    refine lv_goto (tgt := 18) hx hb dX1_trades_14 (by decide) ?_
    exact (w18) o a0 o 0 h nx ls s.heap [] 0 0 out hB (by omega) hT hl hf
theorem hd_X1_lambda_trades_29 : yX1_lambda_trades_29.cls = RX1 ∧ yX1_lambda_trades_29.cls ≠ "java/lang/invoke/MethodHandle" ∧ yX1_lambda_trades_29.cls ≠ "java/lang/invoke/VarHandle" ∧ (parseMethodDescriptor yX1_lambda_trades_29.desc).map (fun d => d.parameters.length) = some 2 := by decide +kernel
set_option maxHeartbeats 4000000 in
set_option maxRecDepth 100000 in
theorem mm_X1_lambda_trades_29 {o : Nat} {a0 : Nat} {a1 : Int32} {out : Int32} (hf : f_X1_lambda_trades_29 E h o a0 a1 = some out) : Met l yX1_lambda_trades_29 (ws_ yX1_lambda_trades_29 cX1_lambda_trades_29 3 (some .boolean)) (rM (fE + 0) (lE + 0)) (bPc G E.1 hSites h nx [.ref o, .ref a0, .int a1]) (gR (some (.int out)) (narrow .boolean (.int out) = .int out)) 0 0 (fun _ => False) := by
  refine bGo (by decide +kernel) (Nat.le_of_ble_eq_true rfl) (fun p e s m below meth c ls S hr hlocks hin hnm hS hB hl => ?_)
  have S : CallFix p m c cX1_lambda_trades_29 3 s _ lw_all RX1 := S
  obtain ⟨hx, hb, hml, hown, hts⟩ := id S
  have hl : lv_has ls 3 [(0, .ref o), (1, .ref a0), (2, .int a1)] := hl
  rw [f_X1_lambda_trades_29] at hf
  refine lv_aload_n hx hb dX1_lambda_trades_29_0 rfl (lv_at hl 1 rfl) ?_
  obtain ⟨v1, hv1, hf⟩ := ob_s hf
  refine bg_X1_510 S hS hB (vR_s hv1) dX1_lambda_trades_29_1 ?_
  refine lv_iload_n hx hb dX1_lambda_trades_29_4 rfl (lv_at hl 2 rfl) ?_
  obtain ⟨v2, hv2, hf⟩ := ob_s hf
  refine b_iald S hS.1 hB hv2 dX1_lambda_trades_29_5 ?_
  refine lv_aload_n hx hb dX1_lambda_trades_29_6 rfl (lv_at hl 0 rfl) ?_
  obtain ⟨v3, hv3, hf⟩ := ob_s hf
  refine bg_X1_70 S hS hB (vR_s hv3) dX1_lambda_trades_29_7 ?_
  obtain ⟨v4, hv4, hf⟩ := ob_s hf
  refine bg_X1_296 S hS hB (vR_s hv4) dX1_lambda_trades_29_10 ?_
  refine lv_iload_n hx hb dX1_lambda_trades_29_13 rfl (lv_at hl 2 rfl) ?_
  obtain ⟨v5, hv5, hf⟩ := ob_s hf
  refine b_iald S hS.1 hB hv5 dX1_lambda_trades_29_14 ?_
  refine lv_icmp_eq (tgt := 22) hx hb dX1_lambda_trades_29_15 (by decide) (fun c6 => ?_) (fun c6 => ?_)
  · replace hf := it_t c6 hf
    refine lv_iconst hx hb dX1_lambda_trades_29_22 kc_i0 ?_
    have hE9 := Option.some.inj hf
    subst hE9
    exact gt_rz S hr hlocks nb0 dX1_lambda_trades_29_23
  · replace hf := it_f c6 hf
    refine lv_iconst hx hb dX1_lambda_trades_29_18 kc_i1 ?_
    refine lv_goto (tgt := 23) hx hb dX1_lambda_trades_29_19 (by decide) ?_
    have hE9 := Option.some.inj hf
    subst hE9
    exact gt_rz S hr hlocks nb1 dX1_lambda_trades_29_23
theorem hd_X1_longest : yX1_longest.cls = RX1 ∧ yX1_longest.cls ≠ "java/lang/invoke/MethodHandle" ∧ yX1_longest.cls ≠ "java/lang/invoke/VarHandle" ∧ (parseMethodDescriptor yX1_longest.desc).map (fun d => d.parameters.length) = some 2 := by decide +kernel
set_option maxHeartbeats 4000000 in
set_option maxRecDepth 100000 in
theorem mm_X1_longest {o : Nat} {a0 : Int32} {a1 : Int32} {out : Int32 × AH × Nat × Nat} (hf : f_X1_longest E h nx o a0 a1 = some out) : Met l yX1_longest (ws_ yX1_longest cX1_longest 4 (some .int)) (rC (fE + 74) (lE + 1738) out.2.2.1 out.2.2.2) (bPc G E.1 hSites h nx [.ref o, .int a0, .int a1]) (bQ G (some (.int out.1)) True out.2.1 (nx + out.2.2.1) (AA h nx)) out.2.2.1 out.2.2.2 (AA h nx) := by
  refine bGo (by decide +kernel) (Nat.le_of_ble_eq_true rfl) (fun p e s m below meth c ls S hr hlocks hin hnm hS hB hl => ?_)
  have S : CallFix p m c cX1_longest 4 s _ lw_all RX1 := S
  obtain ⟨hx, hb, hml, hown, hts⟩ := id S
  have hl : lv_has ls 4 [(0, .ref o), (1, .int a0), (2, .int a1)] := hl
  have w11 : ∀ (x0 : Nat) (x1 : Int32) (x2 : Int32) (y0 : Nat) (y1 : Int32) (hc : AH) (nc : Nat) (ls : Array Slot) (H : Heap) (locs : List Loc) (ce sl : Nat) (o1 : Int32 × AH × Nat × Nat), BI G (AA h nx) s.heap hc nc H locs → nc = nx + ce → TL out o1 ce sl → lv_has ls 4 [(0, .ref x0), (1, .int x1), (2, .int x2)] → f_X1_longest_11 E x0 x1 x2 y0 y1 hc nc = some o1 → W p l e (rC (fE + 74) (lE + 1738) out.2.2.1 out.2.2.2) s m ([.ref o, .int a0, .int a1] : List Value).toArray below meth c H locs ce sl (MQ below (bQ G (some (.int out.1)) True out.2.1 (nx + out.2.2.1) (AA h nx)) ([.ref o, .int a0, .int a1] : List Value).toArray s out.2.2.1 out.2.2.2 (AA h nx)) (F0 m 11 ls [.int y1, .ref y0]) := by
    intro x0 x1 x2 y0 y1 hc nc ls H locs ce sl o1 hB hn hT hl hf
    rw [f_X1_longest_11] at hf
    obtain ⟨g1, hf⟩ := gd_t hf
    obtain ⟨v2, hv2, hf⟩ := ob_s hf
    obtain ⟨o3, hf, hT⟩ := TL_c hT hf
    refine mc_X1_155 (fE := fE) (lE := lE) S hS hB g1 hv2 hl.1 ⟨(by show _ ≤ (fE + 74); omega), (by show _ ≤ (lE + 1738); omega)⟩ (Nat.le_of_ble_eq_true rfl) ⟨(TL_m hT).1, (TL_m hT).2⟩ dX1_longest_11 (fun H locs hnv2 hB => ?_)
    refine lv_if_ne (tgt := 19) hx hb dX1_longest_14 (by decide) (fun c4 => ?_) (fun c4 => ?_)
    · replace hf := it_f c4 hf
      obtain ⟨o5, hf, hT⟩ := TL_c hT hf
      refine bn_X1_522 S hS hB (TL_m hT).1 (TL_m hT).2 dX1_longest_19 (fun H hB => ?_)
      refine lv_dup hx hb dX1_longest_22 rfl ?_
      refine lv_aload_n hx hb dX1_longest_23 rfl (lv_at hl 0 rfl) ?_
      obtain ⟨v6, hv6, hf⟩ := ob_s hf
      obtain ⟨o7, hf, hT⟩ := TL_c hT hf
      refine mc_X1_524 (fE := fE) (lE := lE) S hS hB hv6 hl.1 ⟨(by show _ ≤ (fE + 74); omega), (by show _ ≤ (lE + 1738); omega)⟩ (Nat.le_of_ble_eq_true rfl) ⟨(TL_m hT).1, (TL_m hT).2⟩ dX1_longest_24 (fun H locs _ hB => ?_)
      refine lv_astore_n (i := 3) (lv' := [(3, .ref (nc + v2.2.2.1)), (0, .ref x0), (1, .int x1), (2, .int x2)]) hx hb dX1_longest_27 rfl hl (by decide) rfl (fun ls hl => ?_)
      refine lv_iload_n hx hb dX1_longest_28 rfl (lv_at hl 2 rfl) ?_
      refine lv_iconst hx hb dX1_longest_29 kc_im1 ?_
      refine lv_icmp_ne (tgt := 38) hx hb dX1_longest_30 (by decide) (fun c8 => ?_) (fun c8 => ?_)
      · replace hf := it_f c8 hf
        refine lv_iload_n hx hb dX1_longest_38 rfl (lv_at hl 2 rfl) ?_
        refine lv_aload_n hx hb dX1_longest_39 rfl (lv_at hl 0 rfl) ?_
        obtain ⟨v9, hv9, hf⟩ := ob_s hf
        refine bg_X1_525 S hS hB (vI_s hv9) dX1_longest_40 ?_
        refine lv_icmp_lt (tgt := 54) hx hb dX1_longest_43 (by decide) (fun c10 => ?_) (fun c10 => ?_)
        · replace hf := it_t c10 hf
          refine lv_iload_n hx hb dX1_longest_54 rfl (lv_at hl 3 rfl) ?_
          refine lv_if_eq (tgt := 66) hx hb dX1_longest_55 (by decide) (fun c11 => ?_) (fun c11 => ?_)
          · replace hf := it_t c11 hf
            refine lv_aload_n hx hb dX1_longest_66 rfl (lv_at hl 0 rfl) ?_
            obtain ⟨v12, hv12, hf⟩ := ob_s hf
            refine bg_X1_531 S hS hB (vR_s hv12) dX1_longest_67 ?_
            refine lv_iload_n hx hb dX1_longest_70 rfl (lv_at hl 2 rfl) ?_
            obtain ⟨v13, hv13, hf⟩ := ob_s hf
            refine b_iald S hS.1 hB hv13 dX1_longest_71 ?_
            have hE9 := TL_e hT hf
            subst hE9
            exact bt_i S hr hlocks hB (by omega) trivial dX1_longest_72
          · replace hf := it_f c11 hf
            refine lv_aload_n hx hb dX1_longest_58 rfl (lv_at hl 0 rfl) ?_
            refine lv_iload_n hx hb dX1_longest_59 rfl (lv_at hl 2 rfl) ?_
            obtain ⟨g14, hf⟩ := gd_t hf
            obtain ⟨v15, hv15, hf⟩ := ob_s hf
            refine mc_X1_528 (fE := fE) (lE := lE) S hS hB g14 hv15 hl.1 ⟨(by show _ ≤ (fE + 74); omega), (by show _ ≤ (lE + 1738); omega)⟩ (Nat.le_of_ble_eq_true rfl) ⟨(TL_m hT).1, (TL_m hT).2⟩ dX1_longest_60 (fun _ => ?_)
            refine lv_goto (tgt := 72) hx hb dX1_longest_63 (by decide) ?_
            have hE9 := TL_e hT hf
            subst hE9
            exact bt_i S hr hlocks hB (by omega) trivial dX1_longest_72
        · replace hf := it_f c10 hf
          refine lv_aload_n hx hb dX1_longest_46 rfl (lv_at hl 1 rfl) ?_
          refine lv_iconst hx hb dX1_longest_47 kc_i5 ?_
          obtain ⟨g16, hf⟩ := gd_t hf
          obtain ⟨v17, hv17, hf⟩ := ob_s hf
          obtain ⟨o18, hf, hT⟩ := TL_c hT hf
          refine mc_X1_174 (fE := fE) (lE := lE) S hS hB g16 hv17 hl.1 ⟨(by show _ ≤ (fE + 74); omega), (by show _ ≤ (lE + 1738); omega)⟩ (Nat.le_of_ble_eq_true rfl) ⟨(TL_m hT).1, (TL_m hT).2⟩ dX1_longest_48 (fun H locs _ hB => ?_)
          refine lv_goto (tgt := 72) hx hb dX1_longest_51 (by decide) ?_
          have hE9 := TL_e hT hf
          subst hE9
          exact bt_i S hr hlocks hB (by omega) trivial dX1_longest_72
      · replace hf := it_t c8 hf
        refine lv_aload_n hx hb dX1_longest_33 rfl (lv_at hl 0 rfl) ?_
        obtain ⟨v19, hv19, hf⟩ := ob_s hf
        refine bg_X1_525 S hS hB (vI_s hv19) dX1_longest_34 ?_
        have hE9 := TL_e hT hf
        subst hE9
        exact bt_i S hr hlocks hB (by omega) trivial dX1_longest_37
    · replace hf := it_t c4 hf
      refine lv_iconst hx hb dX1_longest_17 kc_im1 ?_
      have hE9 := TL_e hT hf
      subst hE9
      exact bt_i S hr hlocks hB (by omega) trivial dX1_longest_18
  have hT : TL out out 0 0 := TL_0
  rw [f_X1_longest] at hf
  refine lv_aload_n hx hb dX1_longest_0 rfl (lv_at hl 0 rfl) ?_
  refine lv_iload_n hx hb dX1_longest_1 rfl (lv_at hl 1 rfl) ?_
  refine lv_iconst hx hb dX1_longest_2 kc_im1 ?_
  refine lv_icmp_ge (tgt := 10) hx hb dX1_longest_3 (by decide) (fun c1 => ?_) (fun c1 => ?_)
  · replace hf := it_t c1 hf
    refine lv_iconst hx hb dX1_longest_10 kc_i0 ?_
    exact (w11) o a0 a1 o 0 h nx ls s.heap [] 0 0 out hB (by omega) hT hl hf
  · replace hf := it_f c1 hf
    refine lv_iconst hx hb dX1_longest_6 kc_i1 ?_
    refine lv_goto (tgt := 11) hx hb dX1_longest_7 (by decide) ?_
    exact (w11) o a0 a1 o 1 h nx ls s.heap [] 0 0 out hB (by omega) hT hl hf
theorem hd_X1_isFirstBy : yX1_isFirstBy.cls = RX1 ∧ yX1_isFirstBy.cls ≠ "java/lang/invoke/MethodHandle" ∧ yX1_isFirstBy.cls ≠ "java/lang/invoke/VarHandle" ∧ (parseMethodDescriptor yX1_isFirstBy.desc).map (fun d => d.parameters.length) = some 3 := by decide +kernel
set_option maxHeartbeats 4000000 in
set_option maxRecDepth 100000 in
theorem mm_X1_isFirstBy {o : Nat} {a0 : Int32} {a1 : Int32} {a2 : Int32} {out : Int32 × AH × Nat × Nat} (hE : IfOK l G E fE lE) (hf : f_X1_isFirstBy E h nx o a0 a1 a2 = some out) : Met l yX1_isFirstBy (ws_ yX1_isFirstBy cX1_isFirstBy 5 (some .boolean)) (rC (fE + 3) (lE + 88) out.2.2.1 out.2.2.2) (bPc G E.1 hSites h nx [.ref o, .int a0, .int a1, .int a2]) (bQ G (some (.int out.1)) (narrow .boolean (.int out.1) = .int out.1) out.2.1 (nx + out.2.2.1) (AA h nx)) out.2.2.1 out.2.2.2 (AA h nx) := by
  refine bGo (by decide +kernel) (Nat.le_of_ble_eq_true rfl) (fun p e s m below meth c ls S hr hlocks hin hnm hS hB hl => ?_)
  have S : CallFix p m c cX1_isFirstBy 5 s _ lw_all RX1 := S
  obtain ⟨hx, hb, hml, hown, hts⟩ := id S
  have hl : lv_has ls 5 [(0, .ref o), (1, .int a0), (2, .int a1), (3, .int a2)] := hl
  have w3 : ∀ (n : Nat) , ∀ (x0 : Nat) (x1 : Int32) (x2 : Int32) (x3 : Int32) (x4 : Int32) (hc : AH) (nc : Nat) (ls : Array Slot) (H : Heap) (locs : List Loc) (ce sl : Nat) (o1 : Int32 × AH × Nat × Nat), BI G (AA h nx) s.heap hc nc H locs → nc = nx + ce → TL out o1 ce sl → lv_has ls 5 [(0, .ref x0), (1, .int x1), (2, .int x2), (3, .int x3), (4, .int x4)] → f_X1_isFirstBy_3 n E x0 x1 x2 x3 x4 hc nc = some o1 → W p l e (rC (fE + 3) (lE + 88) out.2.2.1 out.2.2.2) s m ([.ref o, .int a0, .int a1, .int a2] : List Value).toArray below meth c H locs ce sl (MQ below (bQ G (some (.int out.1)) (narrow .boolean (.int out.1) = .int out.1) out.2.1 (nx + out.2.2.1) (AA h nx)) ([.ref o, .int a0, .int a1, .int a2] : List Value).toArray s out.2.2.1 out.2.2.2 (AA h nx)) (F0 m 3 ls []) := by
    intro n
    induction n with
    | zero =>
      intro x0 x1 x2 x3 x4 hc nc ls H locs ce sl o1 hB hn hT hl hf
      exact absurd hf (by rw [f_X1_isFirstBy_3]; exact nofun)
    | succ n ih =>
      intro x0 x1 x2 x3 x4 hc nc ls H locs ce sl o1 hB hn hT hl hf
      rw [f_X1_isFirstBy_3] at hf
      refine lv_iload hx hb dX1_isFirstBy_3 (lv_at hl 4 rfl) ?_
      refine lv_aload_n hx hb dX1_isFirstBy_5 rfl (lv_at hl 0 rfl) ?_
      obtain ⟨v1, hv1, hf⟩ := ob_s hf
      refine bg_X1_51 S hS hB (vR_s hv1) dX1_isFirstBy_6 ?_
      obtain ⟨g2, hf⟩ := gd_t hf
      obtain ⟨v3, hv3, hf⟩ := ob_s hf
      refine mc_X1_130 (fE := fE) (lE := lE) S hS hB g2 hv3 hl.1 ⟨(by show _ ≤ (fE + 3); omega), (by show _ ≤ (lE + 88); omega)⟩ (Nat.le_of_ble_eq_true rfl) ⟨(TL_m hT).1, (TL_m hT).2⟩ dX1_isFirstBy_9 (fun _ => ?_)
      refine lv_icmp_ge (tgt := 60) hx hb dX1_isFirstBy_12 (by decide) (fun c4 => ?_) (fun c4 => ?_)
      · replace hf := it_t c4 hf
        refine lv_iconst hx hb dX1_isFirstBy_60 kc_i1 ?_
        have hE9 := TL_e hT hf
        subst hE9
        exact bt_z S hr hlocks hB (by omega) nb1 dX1_isFirstBy_61
      · replace hf := it_f c4 hf
        refine lv_iload hx hb dX1_isFirstBy_15 (lv_at hl 4 rfl) ?_
        refine lv_iload_n hx hb dX1_isFirstBy_17 rfl (lv_at hl 1 rfl) ?_
        refine lv_icmp_eq (tgt := 54) hx hb dX1_isFirstBy_18 (by decide) (fun c5 => ?_) (fun c5 => ?_)
        · replace hf := it_t c5 hf
          refine lv_iinc (v := (x4 + 1)) (lv' := [(4, .int (x4 + 1)), (0, .ref x0), (1, .int x1), (2, .int x2), (3, .int x3)]) hx hb dX1_isFirstBy_54 hl (k := 4) rfl rfl (by decide) rfl (fun ls hl => ?_)
          refine lv_goto (tgt := 3) hx hb dX1_isFirstBy_57 (by decide) ?_
          exact (ih) x0 x1 x2 x3 (x4 + 1) hc nc ls H locs ce sl o1 hB (by omega) hT (lv_sub (l' := [(0, .ref x0), (1, .int x1), (2, .int x2), (3, .int x3), (4, .int (x4 + 1))]) hl [1, 2, 3, 4, 0] rfl) hf
        · replace hf := it_f c5 hf
          refine lv_aload_n hx hb dX1_isFirstBy_21 rfl (lv_at hl 0 rfl) ?_
          obtain ⟨v6, hv6, hf⟩ := ob_s hf
          refine bg_X1_70 S hS hB (vR_s hv6) dX1_isFirstBy_22 ?_
          refine lv_iload hx hb dX1_isFirstBy_25 (lv_at hl 4 rfl) ?_
          refine lv_iload_n hx hb dX1_isFirstBy_27 rfl (lv_at hl 2 rfl) ?_
          obtain ⟨g7, hf⟩ := gd_t hf
          obtain ⟨v8, hv8, hf⟩ := ob_s hf
          refine mc_X1_325 (fE := fE) (lE := lE) S hS hB g7 hv8 hl.1 ⟨(by show _ ≤ (fE + 3); omega), (by show _ ≤ (lE + 88); omega)⟩ (Nat.le_of_ble_eq_true rfl) ⟨(TL_m hT).1, (TL_m hT).2⟩ dX1_isFirstBy_28 (fun hnv8 => ?_)
          refine lv_if_ne (tgt := 37) hx hb dX1_isFirstBy_31 (by decide) (fun c9 => ?_) (fun c9 => ?_)
          · replace hf := it_f c9 hf
            refine lv_aload_n hx hb dX1_isFirstBy_37 rfl (lv_at hl 0 rfl) ?_
            obtain ⟨v10, hv10, hf⟩ := ob_s hf
            refine bg_X1_70 S hS hB (vR_s hv10) dX1_isFirstBy_38 ?_
            refine lv_iload_n hx hb dX1_isFirstBy_41 rfl (lv_at hl 2 rfl) ?_
            refine lv_iload_n hx hb dX1_isFirstBy_42 rfl (lv_at hl 1 rfl) ?_
            refine lv_iload_n hx hb dX1_isFirstBy_43 rfl (lv_at hl 3 rfl) ?_
            refine lv_iload hx hb dX1_isFirstBy_44 (lv_at hl 4 rfl) ?_
            obtain ⟨g11, hf⟩ := gd_t hf
            obtain ⟨v12, hv12, hf⟩ := ob_s hf
            obtain ⟨o13, hf, hT⟩ := TL_c hT hf
            refine mc_X1_534 (fE := fE) (lE := lE) S hE hS hB g11 hv12 hl.1 ⟨(by show _ ≤ (fE + 3); omega), (by show _ ≤ (lE + 88); omega)⟩ (Nat.le_of_ble_eq_true rfl) ⟨(TL_m hT).1, (TL_m hT).2⟩ dX1_isFirstBy_46 (fun H locs _ hB => ?_)
            refine lv_if_le (tgt := 54) hx hb dX1_isFirstBy_49 (by decide) (fun c14 => ?_) (fun c14 => ?_)
            · replace hf := it_t c14 hf
              refine lv_iinc (v := (x4 + 1)) (lv' := [(4, .int (x4 + 1)), (0, .ref x0), (1, .int x1), (2, .int x2), (3, .int x3)]) hx hb dX1_isFirstBy_54 hl (k := 4) rfl rfl (by decide) rfl (fun ls hl => ?_)
              refine lv_goto (tgt := 3) hx hb dX1_isFirstBy_57 (by decide) ?_
              exact (ih) x0 x1 x2 x3 (x4 + 1) v12.2.1 (nc + v12.2.2.1) ls H locs (ce + v12.2.2.1) (sl + v12.2.2.2) o13 hB (by omega) hT (lv_sub (l' := [(0, .ref x0), (1, .int x1), (2, .int x2), (3, .int x3), (4, .int (x4 + 1))]) hl [1, 2, 3, 4, 0] rfl) hf
            · replace hf := it_f c14 hf
              refine lv_iconst hx hb dX1_isFirstBy_52 kc_i0 ?_
              have hE9 := TL_e hT hf
              subst hE9
              exact bt_z S hr hlocks hB (by omega) nb0 dX1_isFirstBy_53
          · replace hf := it_t c9 hf
            refine lv_goto (tgt := 54) hx hb dX1_isFirstBy_34 (by decide) ?_
            refine lv_iinc (v := (x4 + 1)) (lv' := [(4, .int (x4 + 1)), (0, .ref x0), (1, .int x1), (2, .int x2), (3, .int x3)]) hx hb dX1_isFirstBy_54 hl (k := 4) rfl rfl (by decide) rfl (fun ls hl => ?_)
            refine lv_goto (tgt := 3) hx hb dX1_isFirstBy_57 (by decide) ?_
            exact (ih) x0 x1 x2 x3 (x4 + 1) hc nc ls H locs ce sl o1 hB (by omega) hT (lv_sub (l' := [(0, .ref x0), (1, .int x1), (2, .int x2), (3, .int x3), (4, .int (x4 + 1))]) hl [1, 2, 3, 4, 0] rfl) hf
  have hT : TL out out 0 0 := TL_0
  rw [f_X1_isFirstBy] at hf
  refine lv_iconst hx hb dX1_isFirstBy_0 kc_i0 ?_
  refine lv_istore (lv' := [(4, .int 0), (0, .ref o), (1, .int a0), (2, .int a1), (3, .int a2)]) hx hb dX1_isFirstBy_1 hl (by decide) rfl (fun ls hl => ?_)
  exact (w3 FU) o a0 a1 a2 0 h nx ls s.heap [] 0 0 out hB (by omega) hT (lv_sub (l' := [(0, .ref o), (1, .int a0), (2, .int a1), (3, .int a2), (4, .int 0)]) hl [1, 2, 3, 4, 0] rfl) hf
set_option maxRecDepth 100000 in
theorem mc_X1_538 {o : Nat} {a0 : Int32} {a1 : Int32} {a2 : Int32} {out : Int32 × AH × Nat × Nat} (S : CallFix p m c cc nL s args lw_all RX1) (hE : IfOK l G E fE lE) (hS : SK G E.1 hSites A s) (hB : BI G A s.heap h nx H locs) (ho : isO h o 0 = true) (hf : f_X1_isFirstBy E h nx o a0 a1 a2 = some out) (hsz : ls.size = nL) (hR : (fE + 3) + 1 ≤ R.frames ∧ 8 + (5 + 11) + (lE + 88) ≤ R.locals) (hW : (rest.map fun v => v.category).sum ≤ 8) (hcs : cells + out.2.2.1 ≤ R.cells ∧ slots + out.2.2.2 ≤ R.slots) (hdg : decode cc pc = .ok (.invokevirtual 538, 3))  (kk : ∀ (H1 : Heap) (locs1 : List Loc), (narrow .boolean (.int out.1) = .int out.1) → BI G A s.heap out.2.1 (nx + out.2.2.1) H1 locs1 → W p l e R s m args below meth c H1 locs1 (cells + out.2.2.1) (slots + out.2.2.2) Q (F0 m (pc + 3) ls (.int out.1 :: rest))) : W p l e R s m args below meth c H locs cells slots Q (F0 m pc ls (.int a2 :: .int a1 :: .int a0 :: .ref o :: rest)) := by
  have hN := hS.2.1
  obtain ⟨fs, he⟩ := isO_s ho
  exact br_w (va_runV (As := [.int a0, .int a1, .int a2]) S (mm_X1_isFirstBy hE hf) (cwV 3 S.2.2.2.2 (lw_V q1776 q1778 qs87 q174 q1779) rfl rfl rfl hd_X1_isFirstBy hR) (bPreV hS hB (ci := 0) rfl he) rfl rfl hsz rfl (lv_room hW) hdg hcs) hB kk
end
