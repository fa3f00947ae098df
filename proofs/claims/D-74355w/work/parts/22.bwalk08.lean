section
variable {l : Launch} {D : va_G} {cl : List vw_C} {tys : List (ClassId × FieldType)} {G : hG} {E : bE} {fE lE : Nat} {h : AH} {nx : Nat} {A : Nat → Prop}
variable {p : Program} {e : Env} {R : Room} {s : State} {m : MethodId} {args : Array Value} {below : List Frame} {meth : Method} {c : Code} {H H0 : Heap} {locs : List Loc} {cells slots : Nat} {Q : State → Prop} {cc : ByteArray} {nL pc : Nat} {ls : Array Slot} {rest : List Value}
theorem hd_X1_tally : yX1_tally.cls = RX1 ∧ yX1_tally.cls ≠ "java/lang/invoke/MethodHandle" ∧ yX1_tally.cls ≠ "java/lang/invoke/VarHandle" ∧ (parseMethodDescriptor yX1_tally.desc).map (fun d => d.parameters.length) = some 1 := by decide +kernel
set_option maxHeartbeats 4000000 in
set_option maxRecDepth 100000 in
theorem mm_X1_tally {o : Nat} {a0 : Int32} {out : Int32 × AH × Nat × Nat} (hE : IfOK l G E fE lE) (hf : f_X1_tally E h nx o a0 = some out) : Met l yX1_tally (ws_ yX1_tally cX1_tally 3 (some .int)) (rC (fE + 4) (lE + 3121) out.2.2.1 out.2.2.2) (bPc G E.1 hSites h nx [.ref o, .int a0]) (bQ G (some (.int out.1)) True out.2.1 (nx + out.2.2.1) (AA h nx)) out.2.2.1 out.2.2.2 (AA h nx) := by
  refine bGo (by decide +kernel) (Nat.le_of_ble_eq_true rfl) (fun p e s m below meth c ls S hr hlocks hin hnm hS hB hl => ?_)
  have S : CallFix p m c cX1_tally 3 s _ lw_all RX1 := S
  obtain ⟨hx, hb, hml, hown, hts⟩ := id S
  have hl : lv_has ls 3 [(0, .ref o), (1, .int a0)] := hl
  have w18 : ∀ (x0 : Nat) (x1 : Int32) (y0 : Nat) (y1 : Int32) (hc : AH) (nc : Nat) (ls : Array Slot) (H : Heap) (locs : List Loc) (ce sl : Nat) (o1 : Int32 × AH × Nat × Nat), BI G (AA h nx) s.heap hc nc H locs → nc = nx + ce → TL out o1 ce sl → lv_has ls 3 [(0, .ref x0), (1, .int x1)] → f_X1_tally_18 E x0 x1 y0 y1 hc nc = some o1 → W p l e (rC (fE + 4) (lE + 3121) out.2.2.1 out.2.2.2) s m ([.ref o, .int a0] : List Value).toArray below meth c H locs ce sl (MQ below (bQ G (some (.int out.1)) True out.2.1 (nx + out.2.2.1) (AA h nx)) ([.ref o, .int a0] : List Value).toArray s out.2.2.1 out.2.2.2 (AA h nx)) (F0 m 18 ls [.int y1, .ref y0]) := by
    intro x0 x1 y0 y1 hc nc ls H locs ce sl o1 hB hn hT hl hf
    rw [f_X1_tally_18] at hf
    obtain ⟨g1, hf⟩ := gd_t hf
    obtain ⟨v2, hv2, hf⟩ := ob_s hf
    obtain ⟨o3, hf, hT⟩ := TL_c hT hf
    refine mc_X1_155 (fE := fE) (lE := lE) S hS hB g1 hv2 hl.1 ⟨(by show _ ≤ (fE + 4); omega), (by show _ ≤ (lE + 3121); omega)⟩ (Nat.le_of_ble_eq_true rfl) ⟨(TL_m hT).1, (TL_m hT).2⟩ dX1_tally_18 (fun H locs hnv2 hB => ?_)
    refine lv_if_ne (tgt := 26) hx hb dX1_tally_21 (by decide) (fun c4 => ?_) (fun c4 => ?_)
    · replace hf := it_f c4 hf
      refine lv_aload_n hx hb dX1_tally_26 rfl (lv_at hl 0 rfl) ?_
      obtain ⟨v5, hv5, hf⟩ := ob_s hf
      refine bg_X1_70 S hS hB (vR_s hv5) dX1_tally_27 ?_
      obtain ⟨v6, hv6, hf⟩ := ob_s hf
      refine bg_X1_204 S hS hB (vR_s hv6) dX1_tally_30 ?_
      refine lv_astore_n (i := 2) (lv' := [(2, .ref v6), (0, .ref x0), (1, .int x1)]) hx hb dX1_tally_33 rfl hl (by decide) rfl (fun ls hl => ?_)
      refine lv_iload_n hx hb dX1_tally_34 rfl (lv_at hl 2 rfl) ?_
      by_cases c7 : x1 = 0
      · replace hf := it_t c7 hf
        refine lv_tableIn (tgt := 64) (off := 29) hx hb dX1_tally_35 (by rw [c7]; decide) (by rw [c7]; decide) (by rw [c7]; decide) (by decide) ?_
        refine lv_aload_n hx hb dX1_tally_64 rfl (lv_at hl 1 rfl) ?_
        refine lv_aload_n hx hb dX1_tally_65 rfl (lv_at hl 1 rfl) ?_
        obtain ⟨v8, hv8, hf⟩ := ob_s hf
        refine bg_X1_70 S hS hB (vR_s hv8) dX1_tally_66 ?_
        obtain ⟨g9, hf⟩ := gd_t hf
        obtain ⟨v10, hv10, hf⟩ := ob_s hf
        obtain ⟨o11, hf, hT⟩ := TL_c hT hf
        refine mc_X1_379 (fE := fE) (lE := lE) S hE hS hB g9 hv10 hl.1 ⟨(by show _ ≤ (fE + 4); omega), (by show _ ≤ (lE + 3121); omega)⟩ (Nat.le_of_ble_eq_true rfl) ⟨(TL_m hT).1, (TL_m hT).2⟩ dX1_tally_69 (fun H locs _ hB => ?_)
        have hE9 := TL_e hT hf
        subst hE9
        exact bt_i S hr hlocks hB (by omega) trivial dX1_tally_72
      · replace hf := it_f c7 hf
        by_cases c12 : x1 = 1
        · replace hf := it_t c12 hf
          refine lv_tableIn (tgt := 73) (off := 38) hx hb dX1_tally_35 (by rw [c12]; decide) (by rw [c12]; decide) (by rw [c12]; decide) (by decide) ?_
          refine lv_aload_n hx hb dX1_tally_73 rfl (lv_at hl 0 rfl) ?_
          obtain ⟨g13, hf⟩ := gd_t hf
          obtain ⟨v14, hv14, hf⟩ := ob_s hf
          refine mc_X1_130 (fE := fE) (lE := lE) S hS hB g13 hv14 hl.1 ⟨(by show _ ≤ (fE + 4); omega), (by show _ ≤ (lE + 3121); omega)⟩ (Nat.le_of_ble_eq_true rfl) ⟨(TL_m hT).1, (TL_m hT).2⟩ dX1_tally_74 (fun _ => ?_)
          refine lv_aload_n hx hb dX1_tally_77 rfl (lv_at hl 0 rfl) ?_
          obtain ⟨o15, hf, hT⟩ := TL_c hT hf
          refine b_lam S hS hB (k := 23) (vs := [.ref v6]) hnm rfl lamL_23 (lamV_c rfl rfl lamV_n) rfl hl.1 (by show _ ≤ (lE + 3121); simp only [List.map, List.sum_cons, List.sum_nil, Value.category]; omega) (TL_m hT).1 (TL_m hT).2 dX1_tally_78 (fun H hB => ?_)
          obtain ⟨v16, hv16, hf⟩ := ob_s hf
          obtain ⟨o17, hf, hT⟩ := TL_c hT hf
          refine mc_X1_192 (fE := fE) (lE := lE) S hE hS hB hv16 hl.1 ⟨(by show _ ≤ (fE + 4); omega), (by show _ ≤ (lE + 3121); omega)⟩ (Nat.le_of_ble_eq_true rfl) ⟨(TL_m hT).1, (TL_m hT).2⟩ dX1_tally_83 (fun H locs _ hB => ?_)
          have hE9 := TL_e hT hf
          subst hE9
          exact bt_i S hr hlocks hB (by omega) trivial dX1_tally_86
        · replace hf := it_f c12 hf
          by_cases c18 : x1 = (nI 2)
          · replace hf := it_t c18 hf
            refine lv_tableIn (tgt := 87) (off := 52) hx hb dX1_tally_35 (by rw [c18]; decide) (by rw [c18]; decide) (by rw [c18]; decide) (by decide) ?_
            refine lv_aload_n hx hb dX1_tally_87 rfl (lv_at hl 1 rfl) ?_
            obtain ⟨v19, hv19, hf⟩ := ob_s hf
            refine bg_X1_70 S hS hB (vR_s hv19) dX1_tally_88 ?_
            obtain ⟨g20, hf⟩ := gd_t hf
            obtain ⟨v21, hv21, hf⟩ := ob_s hf
            refine mc_X1_385 (fE := fE) (lE := lE) S hS hB g20 hv21 hl.1 ⟨(by show _ ≤ (fE + 4); omega), (by show _ ≤ (lE + 3121); omega)⟩ (Nat.le_of_ble_eq_true rfl) ⟨(TL_m hT).1, (TL_m hT).2⟩ dX1_tally_91 (fun _ => ?_)
            have hE9 := TL_e hT hf
            subst hE9
            exact bt_i S hr hlocks hB (by omega) trivial dX1_tally_94
          · replace hf := it_f c18 hf
            by_cases c22 : x1 = (nI 3)
            · replace hf := it_t c22 hf
              refine lv_tableIn (tgt := 95) (off := 60) hx hb dX1_tally_35 (by rw [c22]; decide) (by rw [c22]; decide) (by rw [c22]; decide) (by decide) ?_
              refine lv_aload_n hx hb dX1_tally_95 rfl (lv_at hl 0 rfl) ?_
              obtain ⟨g23, hf⟩ := gd_t hf
              obtain ⟨v24, hv24, hf⟩ := ob_s hf
              refine mc_X1_130 (fE := fE) (lE := lE) S hS hB g23 hv24 hl.1 ⟨(by show _ ≤ (fE + 4); omega), (by show _ ≤ (lE + 3121); omega)⟩ (Nat.le_of_ble_eq_true rfl) ⟨(TL_m hT).1, (TL_m hT).2⟩ dX1_tally_96 (fun _ => ?_)
              refine lv_aload_n hx hb dX1_tally_99 rfl (lv_at hl 0 rfl) ?_
              obtain ⟨o25, hf, hT⟩ := TL_c hT hf
              refine b_lam S hS hB (k := 24) (vs := [.ref v6]) hnm rfl lamL_24 (lamV_c rfl rfl lamV_n) rfl hl.1 (by show _ ≤ (lE + 3121); simp only [List.map, List.sum_cons, List.sum_nil, Value.category]; omega) (TL_m hT).1 (TL_m hT).2 dX1_tally_100 (fun H hB => ?_)
              obtain ⟨v26, hv26, hf⟩ := ob_s hf
              obtain ⟨o27, hf, hT⟩ := TL_c hT hf
              refine mc_X1_192 (fE := fE) (lE := lE) S hE hS hB hv26 hl.1 ⟨(by show _ ≤ (fE + 4); omega), (by show _ ≤ (lE + 3121); omega)⟩ (Nat.le_of_ble_eq_true rfl) ⟨(TL_m hT).1, (TL_m hT).2⟩ dX1_tally_105 (fun H locs _ hB => ?_)
              have hE9 := TL_e hT hf
              subst hE9
              exact bt_i S hr hlocks hB (by omega) trivial dX1_tally_108
            · replace hf := it_f c22 hf
              refine lv_tableOut (tgt := 109) hx hb dX1_tally_35 (by have n0 := lv_neT (a := 0) c7 (by decide); have n1 := lv_neT (a := 1) c12 (by decide); have n2 := lv_neT (a := 2) c18 (by decide); have n3 := lv_neT (a := 3) c22 (by decide); omega) (by decide) ?_
              refine lv_aload_n hx hb dX1_tally_109 rfl (lv_at hl 1 rfl) ?_
              refine lv_aload_n hx hb dX1_tally_110 rfl (lv_at hl 1 rfl) ?_
              obtain ⟨v28, hv28, hf⟩ := ob_s hf
              refine bg_X1_70 S hS hB (vR_s hv28) dX1_tally_111 ?_
              obtain ⟨g29, hf⟩ := gd_t hf
              obtain ⟨v30, hv30, hf⟩ := ob_s hf
              obtain ⟨o31, hf, hT⟩ := TL_c hT hf
              refine mc_X1_389 (fE := fE) (lE := lE) S hE hS hB g29 hv30 hl.1 ⟨(by show _ ≤ (fE + 4); omega), (by show _ ≤ (lE + 3121); omega)⟩ (Nat.le_of_ble_eq_true rfl) ⟨(TL_m hT).1, (TL_m hT).2⟩ dX1_tally_114 (fun H locs _ hB => ?_)
              have hE9 := TL_e hT hf
              subst hE9
              exact bt_i S hr hlocks hB (by omega) trivial dX1_tally_117
    · replace hf := it_t c4 hf
      refine lv_iconst hx hb dX1_tally_24 kc_im1 ?_
      have hE9 := TL_e hT hf
      subst hE9
      exact bt_i S hr hlocks hB (by omega) trivial dX1_tally_25
  have hT : TL out out 0 0 := TL_0
  rw [f_X1_tally] at hf
  refine lv_aload_n hx hb dX1_tally_0 rfl (lv_at hl 0 rfl) ?_
  refine lv_iload_n hx hb dX1_tally_1 rfl (lv_at hl 1 rfl) ?_
  refine lv_i2l hx hb dX1_tally_2 rfl ?_
  refine lv_lconst (v := 0) hx hb dX1_tally_3 (by decide) ?_
  refine lv_ldc2 hx hb hown (hts _ q1331) dX1_tally_4 ?_
  obtain ⟨v1, hv1, hf⟩ := ob_s hf
  refine mc_X1_134 S hS.1 hv1 hl.1 ⟨(by show _ ≤ (fE + 4); omega), (by show _ ≤ (lE + 3121); omega)⟩ (Nat.le_of_ble_eq_true rfl) ⟨(TL_m hT).1, (TL_m hT).2⟩ dX1_tally_7 (fun hnv1 => ?_)
  refine lv_if_eq (tgt := 17) hx hb dX1_tally_10 (by decide) (fun c2 => ?_) (fun c2 => ?_)
  · replace hf := it_t c2 hf
    refine lv_iconst hx hb dX1_tally_17 kc_i1 ?_
    exact (w18) o a0 o 1 h nx ls s.heap [] 0 0 out hB (by omega) hT hl hf
  · replace hf := it_f c2 hf
    refine lv_iconst hx hb dX1_tally_13 kc_i0 ?_
    refine lv_goto (tgt := 18) hx hb dX1_tally_14 (by decide) ?_
    exact (w18) o a0 o 0 h nx ls s.heap [] 0 0 out hB (by omega) hT hl hf
theorem hd_X1_lambda_greatestChain_6 : yX1_lambda_greatestChain_6.cls ≠ "java/lang/invoke/MethodHandle" ∧ yX1_lambda_greatestChain_6.cls ≠ "java/lang/invoke/VarHandle" ∧ (parseMethodDescriptor yX1_lambda_greatestChain_6.desc).map (fun d => d.parameters.length) = some 2 := by decide +kernel
set_option maxHeartbeats 4000000 in
set_option maxRecDepth 100000 in
theorem mm_X1_lambda_greatestChain_6 {a0 : Nat} {a1 : Int32} {out : Int32} (hf : f_X1_lambda_greatestChain_6 E h a0 a1 = some out) : Met l yX1_lambda_greatestChain_6 (ws_ yX1_lambda_greatestChain_6 cX1_lambda_greatestChain_6 2 (some .int)) (rM (fE + 4) (lE + 85)) (bPc G E.1 hSites h nx [.ref a0, .int a1]) (gR (some (.int out)) True) 0 0 (fun _ => False) := by
  refine bGo (by decide +kernel) (Nat.le_of_ble_eq_true rfl) (fun p e s m below meth c ls S hr hlocks hin hnm hS hB hl => ?_)
  have S : CallFix p m c cX1_lambda_greatestChain_6 2 s _ lw_all RX1 := S
  obtain ⟨hx, hb, hml, hown, hts⟩ := id S
  have hl : lv_has ls 2 [(0, .ref a0), (1, .int a1)] := hl
  rw [f_X1_lambda_greatestChain_6] at hf
  refine lv_aload_n hx hb dX1_lambda_greatestChain_6_0 rfl (lv_at hl 0 rfl) ?_
  refine lv_iload_n hx hb dX1_lambda_greatestChain_6_1 rfl (lv_at hl 1 rfl) ?_
  obtain ⟨g1, hf⟩ := gd_t hf
  obtain ⟨v2, hv2, hf⟩ := ob_s hf
  refine mc_X1_634 (fE := fE) (lE := lE) S hS hB g1 hv2 hl.1 ⟨(by show _ ≤ (fE + 4); omega), (by show _ ≤ (lE + 85); omega)⟩ (Nat.le_of_ble_eq_true rfl) ⟨Nat.zero_le _, Nat.zero_le _⟩ dX1_lambda_greatestChain_6_2 (fun _ => ?_)
  have hE9 := Option.some.inj hf
  subst hE9
  exact gt_ri S hr hlocks trivial dX1_lambda_greatestChain_6_5
theorem hd_X1_lambda_tally_12 : yX1_lambda_tally_12.cls ≠ "java/lang/invoke/MethodHandle" ∧ yX1_lambda_tally_12.cls ≠ "java/lang/invoke/VarHandle" ∧ (parseMethodDescriptor yX1_lambda_tally_12.desc).map (fun d => d.parameters.length) = some 2 := by decide +kernel
set_option maxHeartbeats 4000000 in
set_option maxRecDepth 100000 in
theorem mm_X1_lambda_tally_12 {a0 : Nat} {a1 : Int32} {out : Int32} (hf : f_X1_lambda_tally_12 E h a0 a1 = some out) : Met l yX1_lambda_tally_12 (ws_ yX1_lambda_tally_12 cX1_lambda_tally_12 2 (some .boolean)) (rM (fE + 3) (lE + 64)) (bPc G E.1 hSites h nx [.ref a0, .int a1]) (gR (some (.int out)) (narrow .boolean (.int out) = .int out)) 0 0 (fun _ => False) := by
  refine bGo (by decide +kernel) (Nat.le_of_ble_eq_true rfl) (fun p e s m below meth c ls S hr hlocks hin hnm hS hB hl => ?_)
  have S : CallFix p m c cX1_lambda_tally_12 2 s _ lw_all RX1 := S
  obtain ⟨hx, hb, hml, hown, hts⟩ := id S
  have hl : lv_has ls 2 [(0, .ref a0), (1, .int a1)] := hl
  rw [f_X1_lambda_tally_12] at hf
  refine lv_aload_n hx hb dX1_lambda_tally_12_0 rfl (lv_at hl 0 rfl) ?_
  refine lv_iload_n hx hb dX1_lambda_tally_12_1 rfl (lv_at hl 1 rfl) ?_
  obtain ⟨g1, hf⟩ := gd_t hf
  obtain ⟨v2, hv2, hf⟩ := ob_s hf
  refine mc_X1_43 (fE := fE) (lE := lE) S hS hB g1 hv2 hl.1 ⟨(by show _ ≤ (fE + 3); omega), (by show _ ≤ (lE + 64); omega)⟩ (Nat.le_of_ble_eq_true rfl) ⟨Nat.zero_le _, Nat.zero_le _⟩ dX1_lambda_tally_12_2 (fun _ => ?_)
  obtain ⟨g3, hf⟩ := gd_t hf
  refine b_castO S hS.1 hB (ci := 7) rfl (hts _ q1230) g3 dX1_lambda_tally_12_5 ?_
  obtain ⟨v4, hv4, hf⟩ := ob_s hf
  refine bg_X1_361 S hS hB (vI_s hv4) dX1_lambda_tally_12_8 ?_
  refine lv_iconst hx hb dX1_lambda_tally_12_11 kc_i1 ?_
  refine lv_icmp_ne (tgt := 19) hx hb dX1_lambda_tally_12_12 (by decide) (fun c5 => ?_) (fun c5 => ?_)
  · replace hf := it_f c5 hf
    refine lv_iconst hx hb dX1_lambda_tally_12_19 kc_i0 ?_
    have hE9 := Option.some.inj hf
    subst hE9
    exact gt_rz S hr hlocks nb0 dX1_lambda_tally_12_20
  · replace hf := it_t c5 hf
    refine lv_iconst hx hb dX1_lambda_tally_12_15 kc_i1 ?_
    refine lv_goto (tgt := 20) hx hb dX1_lambda_tally_12_16 (by decide) ?_
    have hE9 := Option.some.inj hf
    subst hE9
    exact gt_rz S hr hlocks nb1 dX1_lambda_tally_12_20
theorem hd_X1_lambda_tally_13 : yX1_lambda_tally_13.cls ≠ "java/lang/invoke/MethodHandle" ∧ yX1_lambda_tally_13.cls ≠ "java/lang/invoke/VarHandle" ∧ (parseMethodDescriptor yX1_lambda_tally_13.desc).map (fun d => d.parameters.length) = some 2 := by decide +kernel
set_option maxHeartbeats 4000000 in
set_option maxRecDepth 100000 in
theorem mm_X1_lambda_tally_13 {a0 : Nat} {a1 : Int32} {out : Int32} (hf : f_X1_lambda_tally_13 E h a0 a1 = some out) : Met l yX1_lambda_tally_13 (ws_ yX1_lambda_tally_13 cX1_lambda_tally_13 2 (some .boolean)) (rM (fE + 3) (lE + 64)) (bPc G E.1 hSites h nx [.ref a0, .int a1]) (gR (some (.int out)) (narrow .boolean (.int out) = .int out)) 0 0 (fun _ => False) := by
  refine bGo (by decide +kernel) (Nat.le_of_ble_eq_true rfl) (fun p e s m below meth c ls S hr hlocks hin hnm hS hB hl => ?_)
  have S : CallFix p m c cX1_lambda_tally_13 2 s _ lw_all RX1 := S
  obtain ⟨hx, hb, hml, hown, hts⟩ := id S
  have hl : lv_has ls 2 [(0, .ref a0), (1, .int a1)] := hl
  rw [f_X1_lambda_tally_13] at hf
  refine lv_aload_n hx hb dX1_lambda_tally_13_0 rfl (lv_at hl 0 rfl) ?_
  refine lv_iload_n hx hb dX1_lambda_tally_13_1 rfl (lv_at hl 1 rfl) ?_
  obtain ⟨g1, hf⟩ := gd_t hf
  obtain ⟨v2, hv2, hf⟩ := ob_s hf
  refine mc_X1_43 (fE := fE) (lE := lE) S hS hB g1 hv2 hl.1 ⟨(by show _ ≤ (fE + 3); omega), (by show _ ≤ (lE + 64); omega)⟩ (Nat.le_of_ble_eq_true rfl) ⟨Nat.zero_le _, Nat.zero_le _⟩ dX1_lambda_tally_13_2 (fun _ => ?_)
  obtain ⟨g3, hf⟩ := gd_t hf
  refine b_castO S hS.1 hB (ci := 7) rfl (hts _ q1230) g3 dX1_lambda_tally_13_5 ?_
  obtain ⟨v4, hv4, hf⟩ := ob_s hf
  refine bg_X1_631 S hS hB (vI_s hv4) dX1_lambda_tally_13_8 ?_
  obtain ⟨g5, hf⟩ := gd_t hf
  have hE9 := Option.some.inj hf
  subst hE9
  exact gt_rz S hr hlocks (isB_n g5) dX1_lambda_tally_13_11
theorem hd_X1_lambda_passedBy_5 : yX1_lambda_passedBy_5.cls ≠ "java/lang/invoke/MethodHandle" ∧ yX1_lambda_passedBy_5.cls ≠ "java/lang/invoke/VarHandle" ∧ (parseMethodDescriptor yX1_lambda_passedBy_5.desc).map (fun d => d.parameters.length) = some 2 := by decide +kernel
set_option maxHeartbeats 4000000 in
set_option maxRecDepth 100000 in
theorem mm_X1_lambda_passedBy_5 {a0 : Nat} {a1 : Int32} {out : Int32} (hf : f_X1_lambda_passedBy_5 E h a0 a1 = some out) : Met l yX1_lambda_passedBy_5 (ws_ yX1_lambda_passedBy_5 cX1_lambda_passedBy_5 2 (some .int)) (rM (fE + 0) (lE + 0)) (bPc G E.1 hSites h nx [.ref a0, .int a1]) (gR (some (.int out)) True) 0 0 (fun _ => False) := by
  refine bGo (by decide +kernel) (Nat.le_of_ble_eq_true rfl) (fun p e s m below meth c ls S hr hlocks hin hnm hS hB hl => ?_)
  have S : CallFix p m c cX1_lambda_passedBy_5 2 s _ lw_all RX1 := S
  obtain ⟨hx, hb, hml, hown, hts⟩ := id S
  have hl : lv_has ls 2 [(0, .ref a0), (1, .int a1)] := hl
  rw [f_X1_lambda_passedBy_5] at hf
  refine lv_aload_n hx hb dX1_lambda_passedBy_5_0 rfl (lv_at hl 0 rfl) ?_
  obtain ⟨v1, hv1, hf⟩ := ob_s hf
  refine bg_X1_311 S hS hB (vR_s hv1) dX1_lambda_passedBy_5_1 ?_
  refine lv_iload_n hx hb dX1_lambda_passedBy_5_4 rfl (lv_at hl 1 rfl) ?_
  obtain ⟨v2, hv2, hf⟩ := ob_s hf
  refine b_iald S hS.1 hB hv2 dX1_lambda_passedBy_5_5 ?_
  have hE9 := Option.some.inj hf
  subst hE9
  exact gt_ri S hr hlocks trivial dX1_lambda_passedBy_5_6
theorem hd_X1_lack : yX1_lack.cls = RX1 ∧ yX1_lack.cls ≠ "java/lang/invoke/MethodHandle" ∧ yX1_lack.cls ≠ "java/lang/invoke/VarHandle" ∧ (parseMethodDescriptor yX1_lack.desc).map (fun d => d.parameters.length) = some 1 := by decide +kernel
set_option maxHeartbeats 4000000 in
set_option maxRecDepth 100000 in
theorem mm_X1_lack {o : Nat} {a0 : Int32} {out : Int32 × AH × Nat × Nat} (hE : IfOK l G E fE lE) (hf : f_X1_lack E h nx o a0 = some out) : Met l yX1_lack (ws_ yX1_lack cX1_lack 2 (some .int)) (rC (fE + 2) (lE + 3100) out.2.2.1 out.2.2.2) (bPc G E.1 hSites h nx [.ref o, .int a0]) (bQ G (some (.int out.1)) True out.2.1 (nx + out.2.2.1) (AA h nx)) out.2.2.1 out.2.2.2 (AA h nx) := by
  refine bGo (by decide +kernel) (Nat.le_of_ble_eq_true rfl) (fun p e s m below meth c ls S hr hlocks hin hnm hS hB hl => ?_)
  have S : CallFix p m c cX1_lack 2 s _ lw_all RX1 := S
  obtain ⟨hx, hb, hml, hown, hts⟩ := id S
  have hl : lv_has ls 2 [(0, .ref o), (1, .int a0)] := hl
  have w18 : ∀ (x0 : Nat) (x1 : Int32) (y0 : Nat) (y1 : Int32) (hc : AH) (nc : Nat) (ls : Array Slot) (H : Heap) (locs : List Loc) (ce sl : Nat) (o1 : Int32 × AH × Nat × Nat), BI G (AA h nx) s.heap hc nc H locs → nc = nx + ce → TL out o1 ce sl → lv_has ls 2 [(0, .ref x0), (1, .int x1)] → f_X1_lack_18 E x0 x1 y0 y1 hc nc = some o1 → W p l e (rC (fE + 2) (lE + 3100) out.2.2.1 out.2.2.2) s m ([.ref o, .int a0] : List Value).toArray below meth c H locs ce sl (MQ below (bQ G (some (.int out.1)) True out.2.1 (nx + out.2.2.1) (AA h nx)) ([.ref o, .int a0] : List Value).toArray s out.2.2.1 out.2.2.2 (AA h nx)) (F0 m 18 ls [.int y1, .ref y0]) := by
    intro x0 x1 y0 y1 hc nc ls H locs ce sl o1 hB hn hT hl hf
    rw [f_X1_lack_18] at hf
    obtain ⟨g1, hf⟩ := gd_t hf
    obtain ⟨v2, hv2, hf⟩ := ob_s hf
    obtain ⟨o3, hf, hT⟩ := TL_c hT hf
    refine mc_X1_155 (fE := fE) (lE := lE) S hS hB g1 hv2 hl.1 ⟨(by show _ ≤ (fE + 2); omega), (by show _ ≤ (lE + 3100); omega)⟩ (Nat.le_of_ble_eq_true rfl) ⟨(TL_m hT).1, (TL_m hT).2⟩ dX1_lack_18 (fun H locs hnv2 hB => ?_)
    refine lv_if_ne (tgt := 26) hx hb dX1_lack_21 (by decide) (fun c4 => ?_) (fun c4 => ?_)
    · replace hf := it_f c4 hf
      refine lv_aload_n hx hb dX1_lack_26 rfl (lv_at hl 0 rfl) ?_
      obtain ⟨v5, hv5, hf⟩ := ob_s hf
      refine bg_X1_51 S hS hB (vR_s hv5) dX1_lack_27 ?_
      obtain ⟨g6, hf⟩ := gd_t hf
      obtain ⟨v7, hv7, hf⟩ := ob_s hf
      refine mc_X1_130 (fE := fE) (lE := lE) S hS hB g6 hv7 hl.1 ⟨(by show _ ≤ (fE + 2); omega), (by show _ ≤ (lE + 3100); omega)⟩ (Nat.le_of_ble_eq_true rfl) ⟨(TL_m hT).1, (TL_m hT).2⟩ dX1_lack_30 (fun _ => ?_)
      refine lv_aload_n hx hb dX1_lack_33 rfl (lv_at hl 0 rfl) ?_
      refine lv_iload_n hx hb dX1_lack_34 rfl (lv_at hl 1 rfl) ?_
      obtain ⟨o8, hf, hT⟩ := TL_c hT hf
      refine b_lam S hS hB (k := 26) (vs := [.ref x0, .int x1]) hnm rfl lamL_26 (lamV_c rfl rfl (lamV_c rfl rfl lamV_n)) rfl hl.1 (by show _ ≤ (lE + 3100); simp only [List.map, List.sum_cons, List.sum_nil, Value.category]; omega) (TL_m hT).1 (TL_m hT).2 dX1_lack_35 (fun H hB => ?_)
      obtain ⟨v9, hv9, hf⟩ := ob_s hf
      obtain ⟨o10, hf, hT⟩ := TL_c hT hf
      refine mc_X1_192 (fE := fE) (lE := lE) S hE hS hB hv9 hl.1 ⟨(by show _ ≤ (fE + 2); omega), (by show _ ≤ (lE + 3100); omega)⟩ (Nat.le_of_ble_eq_true rfl) ⟨(TL_m hT).1, (TL_m hT).2⟩ dX1_lack_40 (fun H locs _ hB => ?_)
      refine lv_aload_n hx hb dX1_lack_43 rfl (lv_at hl 0 rfl) ?_
      obtain ⟨v11, hv11, hf⟩ := ob_s hf
      refine bg_X1_39 S hS hB (vR_s hv11) dX1_lack_44 ?_
      obtain ⟨g12, hf⟩ := gd_t hf
      obtain ⟨v13, hv13, hf⟩ := ob_s hf
      refine mc_X1_130 (fE := fE) (lE := lE) S hS hB g12 hv13 hl.1 ⟨(by show _ ≤ (fE + 2); omega), (by show _ ≤ (lE + 3100); omega)⟩ (Nat.le_of_ble_eq_true rfl) ⟨(TL_m hT).1, (TL_m hT).2⟩ dX1_lack_47 (fun _ => ?_)
      refine lv_aload_n hx hb dX1_lack_50 rfl (lv_at hl 0 rfl) ?_
      refine lv_iload_n hx hb dX1_lack_51 rfl (lv_at hl 1 rfl) ?_
      obtain ⟨o14, hf, hT⟩ := TL_c hT hf
      refine b_lam S hS hB (k := 27) (vs := [.ref x0, .int x1]) hnm rfl lamL_27 (lamV_c rfl rfl (lamV_c rfl rfl lamV_n)) rfl hl.1 (by show _ ≤ (lE + 3100); simp only [List.map, List.sum_cons, List.sum_nil, Value.category]; omega) (TL_m hT).1 (TL_m hT).2 dX1_lack_52 (fun H hB => ?_)
      obtain ⟨h15, eh15⟩ : ∃ z, z = (hu v9.2.1 (((nc + v2.2.2.1) + 1) + v9.2.2.1) (.inr (.inr (27, [.ref x0, .int x1])))) := ⟨_, rfl⟩
      replace hf := bd_e eh15 hf
      rw [← eh15] at hB
      obtain ⟨v16, hv16, hf⟩ := ob_s hf
      obtain ⟨o17, hf, hT⟩ := TL_c hT hf
      refine mc_X1_192 (fE := fE) (lE := lE) S hE hS hB hv16 hl.1 ⟨(by show _ ≤ (fE + 2); omega), (by show _ ≤ (lE + 3100); omega)⟩ (Nat.le_of_ble_eq_true rfl) ⟨(TL_m hT).1, (TL_m hT).2⟩ dX1_lack_57 (fun H locs _ hB => ?_)
      refine lv_isub hx hb dX1_lack_60 ?_
      have hE9 := TL_e hT hf
      subst hE9
      exact bt_i S hr hlocks hB (by omega) trivial dX1_lack_61
    · replace hf := it_t c4 hf
      refine lv_iconst hx hb dX1_lack_24 kc_im1 ?_
      have hE9 := TL_e hT hf
      subst hE9
      exact bt_i S hr hlocks hB (by omega) trivial dX1_lack_25
  have hT : TL out out 0 0 := TL_0
  rw [f_X1_lack] at hf
  refine lv_aload_n hx hb dX1_lack_0 rfl (lv_at hl 0 rfl) ?_
  refine lv_iload_n hx hb dX1_lack_1 rfl (lv_at hl 1 rfl) ?_
  refine lv_i2l hx hb dX1_lack_2 rfl ?_
  refine lv_lconst (v := 1) hx hb dX1_lack_3 (by decide) ?_
  refine lv_ldc2 hx hb hown (hts _ q1331) dX1_lack_4 ?_
  obtain ⟨v1, hv1, hf⟩ := ob_s hf
  refine mc_X1_134 S hS.1 hv1 hl.1 ⟨(by show _ ≤ (fE + 2); omega), (by show _ ≤ (lE + 3100); omega)⟩ (Nat.le_of_ble_eq_true rfl) ⟨(TL_m hT).1, (TL_m hT).2⟩ dX1_lack_7 (fun hnv1 => ?_)
  refine lv_if_eq (tgt := 17) hx hb dX1_lack_10 (by decide) (fun c2 => ?_) (fun c2 => ?_)
  · replace hf := it_t c2 hf
    refine lv_iconst hx hb dX1_lack_17 kc_i1 ?_
    exact (w18) o a0 o 1 h nx ls s.heap [] 0 0 out hB (by omega) hT hl hf
  · replace hf := it_f c2 hf
    refine lv_iconst hx hb dX1_lack_13 kc_i0 ?_
    refine lv_goto (tgt := 18) hx hb dX1_lack_14 (by decide) ?_
    exact (w18) o a0 o 0 h nx ls s.heap [] 0 0 out hB (by omega) hT hl hf
theorem hd_X1_lambda_lack_14 : yX1_lambda_lack_14.cls = RX1 ∧ yX1_lambda_lack_14.cls ≠ "java/lang/invoke/MethodHandle" ∧ yX1_lambda_lack_14.cls ≠ "java/lang/invoke/VarHandle" ∧ (parseMethodDescriptor yX1_lambda_lack_14.desc).map (fun d => d.parameters.length) = some 2 := by decide +kernel
set_option maxHeartbeats 4000000 in
set_option maxRecDepth 100000 in
theorem mm_X1_lambda_lack_14 {o : Nat} {a0 : Int32} {a1 : Int32} {out : Int32} (hf : f_X1_lambda_lack_14 E h o a0 a1 = some out) : Met l yX1_lambda_lack_14 (ws_ yX1_lambda_lack_14 cX1_lambda_lack_14 3 (some .boolean)) (rM (fE + 0) (lE + 0)) (bPc G E.1 hSites h nx [.ref o, .int a0, .int a1]) (gR (some (.int out)) (narrow .boolean (.int out) = .int out)) 0 0 (fun _ => False) := by
  refine bGo (by decide +kernel) (Nat.le_of_ble_eq_true rfl) (fun p e s m below meth c ls S hr hlocks hin hnm hS hB hl => ?_)
  have S : CallFix p m c cX1_lambda_lack_14 3 s _ lw_all RX1 := S
  obtain ⟨hx, hb, hml, hown, hts⟩ := id S
  have hl : lv_has ls 3 [(0, .ref o), (1, .int a0), (2, .int a1)] := hl
  rw [f_X1_lambda_lack_14] at hf
  refine lv_aload_n hx hb dX1_lambda_lack_14_0 rfl (lv_at hl 0 rfl) ?_
  obtain ⟨v1, hv1, hf⟩ := ob_s hf
  refine bg_X1_70 S hS hB (vR_s hv1) dX1_lambda_lack_14_1 ?_
  obtain ⟨v2, hv2, hf⟩ := ob_s hf
  refine bg_X1_305 S hS hB (vR_s hv2) dX1_lambda_lack_14_4 ?_
  refine lv_iload_n hx hb dX1_lambda_lack_14_7 rfl (lv_at hl 2 rfl) ?_
  obtain ⟨v3, hv3, hf⟩ := ob_s hf
  refine b_zald S hS.1 hB hv3 dX1_lambda_lack_14_8 ?_
  refine lv_if_ne (tgt := 29) hx hb dX1_lambda_lack_14_9 (by decide) (fun c4 => ?_) (fun c4 => ?_)
  · replace hf := it_f c4 hf
    refine lv_iconst hx hb dX1_lambda_lack_14_29 kc_i0 ?_
    have hE9 := Option.some.inj hf
    subst hE9
    exact gt_rz S hr hlocks nb0 dX1_lambda_lack_14_30
  · replace hf := it_t c4 hf
    refine lv_aload_n hx hb dX1_lambda_lack_14_12 rfl (lv_at hl 0 rfl) ?_
    obtain ⟨v5, hv5, hf⟩ := ob_s hf
    refine bg_X1_70 S hS hB (vR_s hv5) dX1_lambda_lack_14_13 ?_
    obtain ⟨v6, hv6, hf⟩ := ob_s hf
    refine bg_X1_287 S hS hB (vR_s hv6) dX1_lambda_lack_14_16 ?_
    refine lv_iload_n hx hb dX1_lambda_lack_14_19 rfl (lv_at hl 2 rfl) ?_
    obtain ⟨v7, hv7, hf⟩ := ob_s hf
    refine b_iald S hS.1 hB hv7 dX1_lambda_lack_14_20 ?_
    refine lv_iload_n hx hb dX1_lambda_lack_14_21 rfl (lv_at hl 1 rfl) ?_
    refine lv_icmp_ne (tgt := 29) hx hb dX1_lambda_lack_14_22 (by decide) (fun c8 => ?_) (fun c8 => ?_)
    · replace hf := it_f c8 hf
      refine lv_iconst hx hb dX1_lambda_lack_14_29 kc_i0 ?_
      have hE9 := Option.some.inj hf
      subst hE9
      exact gt_rz S hr hlocks nb0 dX1_lambda_lack_14_30
    · replace hf := it_t c8 hf
      refine lv_iconst hx hb dX1_lambda_lack_14_25 kc_i1 ?_
      refine lv_goto (tgt := 30) hx hb dX1_lambda_lack_14_26 (by decide) ?_
      have hE9 := Option.some.inj hf
      subst hE9
      exact gt_rz S hr hlocks nb1 dX1_lambda_lack_14_30
theorem hd_X1_lambda_lack_15 : yX1_lambda_lack_15.cls = RX1 ∧ yX1_lambda_lack_15.cls ≠ "java/lang/invoke/MethodHandle" ∧ yX1_lambda_lack_15.cls ≠ "java/lang/invoke/VarHandle" ∧ (parseMethodDescriptor yX1_lambda_lack_15.desc).map (fun d => d.parameters.length) = some 2 := by decide +kernel
set_option maxHeartbeats 4000000 in
set_option maxRecDepth 100000 in
theorem mm_X1_lambda_lack_15 {o : Nat} {a0 : Int32} {a1 : Int32} {out : Int32} (hf : f_X1_lambda_lack_15 E h o a0 a1 = some out) : Met l yX1_lambda_lack_15 (ws_ yX1_lambda_lack_15 cX1_lambda_lack_15 3 (some .boolean)) (rM (fE + 4) (lE + 85)) (bPc G E.1 hSites h nx [.ref o, .int a0, .int a1]) (gR (some (.int out)) (narrow .boolean (.int out) = .int out)) 0 0 (fun _ => False) := by
  refine bGo (by decide +kernel) (Nat.le_of_ble_eq_true rfl) (fun p e s m below meth c ls S hr hlocks hin hnm hS hB hl => ?_)
  have S : CallFix p m c cX1_lambda_lack_15 3 s _ lw_all RX1 := S
  obtain ⟨hx, hb, hml, hown, hts⟩ := id S
  have hl : lv_has ls 3 [(0, .ref o), (1, .int a0), (2, .int a1)] := hl
  rw [f_X1_lambda_lack_15] at hf
  refine lv_aload_n hx hb dX1_lambda_lack_15_0 rfl (lv_at hl 0 rfl) ?_
  obtain ⟨v1, hv1, hf⟩ := ob_s hf
  refine bg_X1_70 S hS hB (vR_s hv1) dX1_lambda_lack_15_1 ?_
  refine lv_iload_n hx hb dX1_lambda_lack_15_4 rfl (lv_at hl 2 rfl) ?_
  obtain ⟨g2, hf⟩ := gd_t hf
  obtain ⟨v3, hv3, hf⟩ := ob_s hf
  refine mc_X1_250 (fE := fE) (lE := lE) S hS hB g2 hv3 hl.1 ⟨(by show _ ≤ (fE + 4); omega), (by show _ ≤ (lE + 85); omega)⟩ (Nat.le_of_ble_eq_true rfl) ⟨Nat.zero_le _, Nat.zero_le _⟩ dX1_lambda_lack_15_5 (fun hnv3 => ?_)
  refine lv_if_eq (tgt := 27) hx hb dX1_lambda_lack_15_8 (by decide) (fun c4 => ?_) (fun c4 => ?_)
  · replace hf := it_t c4 hf
    refine lv_iconst hx hb dX1_lambda_lack_15_27 kc_i0 ?_
    have hE9 := Option.some.inj hf
    subst hE9
    exact gt_rz S hr hlocks nb0 dX1_lambda_lack_15_28
  · replace hf := it_f c4 hf
    refine lv_aload_n hx hb dX1_lambda_lack_15_11 rfl (lv_at hl 0 rfl) ?_
    refine lv_iload_n hx hb dX1_lambda_lack_15_12 rfl (lv_at hl 2 rfl) ?_
    obtain ⟨g5, hf⟩ := gd_t hf
    obtain ⟨v6, hv6, hf⟩ := ob_s hf
    refine mc_X1_234 (fE := fE) (lE := lE) S hS hB g5 hv6 hl.1 ⟨(by show _ ≤ (fE + 4); omega), (by show _ ≤ (lE + 85); omega)⟩ (Nat.le_of_ble_eq_true rfl) ⟨Nat.zero_le _, Nat.zero_le _⟩ dX1_lambda_lack_15_13 (fun _ => ?_)
    obtain ⟨v7, hv7, hf⟩ := ob_s hf
    refine bg_X1_238 S hS hB (vI_s hv7) dX1_lambda_lack_15_16 ?_
    refine lv_iload_n hx hb dX1_lambda_lack_15_19 rfl (lv_at hl 1 rfl) ?_
    refine lv_icmp_ne (tgt := 27) hx hb dX1_lambda_lack_15_20 (by decide) (fun c8 => ?_) (fun c8 => ?_)
    · replace hf := it_f c8 hf
      refine lv_iconst hx hb dX1_lambda_lack_15_27 kc_i0 ?_
      have hE9 := Option.some.inj hf
      subst hE9
      exact gt_rz S hr hlocks nb0 dX1_lambda_lack_15_28
    · replace hf := it_t c8 hf
      refine lv_iconst hx hb dX1_lambda_lack_15_23 kc_i1 ?_
      refine lv_goto (tgt := 28) hx hb dX1_lambda_lack_15_24 (by decide) ?_
      have hE9 := Option.some.inj hf
      subst hE9
      exact gt_rz S hr hlocks nb1 dX1_lambda_lack_15_28
theorem hd_X1_weeks : yX1_weeks.cls = RX1 ∧ yX1_weeks.cls ≠ "java/lang/invoke/MethodHandle" ∧ yX1_weeks.cls ≠ "java/lang/invoke/VarHandle" ∧ (parseMethodDescriptor yX1_weeks.desc).map (fun d => d.parameters.length) = some 2 := by decide +kernel
set_option maxHeartbeats 4000000 in
set_option maxRecDepth 100000 in
theorem mm_X1_weeks {o : Nat} {a0 : Int32} {a1 : Int32} {out : Int32 × AH × Nat × Nat} (hE : IfOK l G E fE lE) (hf : f_X1_weeks E h nx o a0 a1 = some out) : Met l yX1_weeks (ws_ yX1_weeks cX1_weeks 3 (some .int)) (rC (fE + 12) (lE + 3121) out.2.2.1 out.2.2.2) (bPc G E.1 hSites h nx [.ref o, .int a0, .int a1]) (bQ G (some (.int out.1)) True out.2.1 (nx + out.2.2.1) (AA h nx)) out.2.2.1 out.2.2.2 (AA h nx) := by
  refine bGo (by decide +kernel) (Nat.le_of_ble_eq_true rfl) (fun p e s m below meth c ls S hr hlocks hin hnm hS hB hl => ?_)
  have S : CallFix p m c cX1_weeks 3 s _ lw_all RX1 := S
  obtain ⟨hx, hb, hml, hown, hts⟩ := id S
  have hl : lv_has ls 3 [(0, .ref o), (1, .int a0), (2, .int a1)] := hl
  have w30 : ∀ (x0 : Nat) (x1 : Int32) (x2 : Int32) (y0 : Nat) (y1 : Int32) (hc : AH) (nc : Nat) (ls : Array Slot) (H : Heap) (locs : List Loc) (ce sl : Nat) (o1 : Int32 × AH × Nat × Nat), BI G (AA h nx) s.heap hc nc H locs → nc = nx + ce → TL out o1 ce sl → lv_has ls 3 [(0, .ref x0), (1, .int x1), (2, .int x2)] → f_X1_weeks_30 E x0 x1 x2 y0 y1 hc nc = some o1 → W p l e (rC (fE + 12) (lE + 3121) out.2.2.1 out.2.2.2) s m ([.ref o, .int a0, .int a1] : List Value).toArray below meth c H locs ce sl (MQ below (bQ G (some (.int out.1)) True out.2.1 (nx + out.2.2.1) (AA h nx)) ([.ref o, .int a0, .int a1] : List Value).toArray s out.2.2.1 out.2.2.2 (AA h nx)) (F0 m 30 ls [.int y1, .ref y0]) := by
    intro x0 x1 x2 y0 y1 hc nc ls H locs ce sl o1 hB hn hT hl hf
    rw [f_X1_weeks_30] at hf
    obtain ⟨g1, hf⟩ := gd_t hf
    obtain ⟨v2, hv2, hf⟩ := ob_s hf
    obtain ⟨o3, hf, hT⟩ := TL_c hT hf
    refine mc_X1_155 (fE := fE) (lE := lE) S hS hB g1 hv2 hl.1 ⟨(by show _ ≤ (fE + 12); omega), (by show _ ≤ (lE + 3121); omega)⟩ (Nat.le_of_ble_eq_true rfl) ⟨(TL_m hT).1, (TL_m hT).2⟩ dX1_weeks_30 (fun H locs hnv2 hB => ?_)
    refine lv_if_ne (tgt := 38) hx hb dX1_weeks_33 (by decide) (fun c4 => ?_) (fun c4 => ?_)
    · replace hf := it_f c4 hf
      refine lv_aload_n hx hb dX1_weeks_38 rfl (lv_at hl 0 rfl) ?_
      obtain ⟨v5, hv5, hf⟩ := ob_s hf
      refine bg_X1_74 S hS hB (vR_s hv5) dX1_weeks_39 ?_
      refine lv_aload_n hx hb dX1_weeks_42 rfl (lv_at hl 0 rfl) ?_
      obtain ⟨v6, hv6, hf⟩ := ob_s hf
      refine bg_X1_70 S hS hB (vR_s hv6) dX1_weeks_43 ?_
      obtain ⟨g7, hf⟩ := gd_t hf
      obtain ⟨v8, hv8, hf⟩ := ob_s hf
      obtain ⟨o9, hf, hT⟩ := TL_c hT hf
      refine mc_X1_396 (fE := fE) (lE := lE) S hS hB g7 hv8 hl.1 ⟨(by show _ ≤ (fE + 12); omega), (by show _ ≤ (lE + 3121); omega)⟩ (Nat.le_of_ble_eq_true rfl) ⟨(TL_m hT).1, (TL_m hT).2⟩ dX1_weeks_46 (fun H locs _ hB => ?_)
      refine lv_aload_n hx hb dX1_weeks_49 rfl (lv_at hl 0 rfl) ?_
      obtain ⟨v10, hv10, hf⟩ := ob_s hf
      refine bg_X1_74 S hS hB (vR_s hv10) dX1_weeks_50 ?_
      refine lv_iload_n hx hb dX1_weeks_53 rfl (lv_at hl 1 rfl) ?_
      obtain ⟨g11, hf⟩ := gd_t hf
      obtain ⟨v12, hv12, hf⟩ := ob_s hf
      obtain ⟨o13, hf, hT⟩ := TL_c hT hf
      refine mc_X1_400 (fE := fE) (lE := lE) S hE hS hB g11 hv12 hl.1 ⟨(by show _ ≤ (fE + 12); omega), (by show _ ≤ (lE + 3121); omega)⟩ (Nat.le_of_ble_eq_true rfl) ⟨(TL_m hT).1, (TL_m hT).2⟩ dX1_weeks_54 (fun H locs _ hB => ?_)
      refine lv_iload_n hx hb dX1_weeks_57 rfl (lv_at hl 2 rfl) ?_
      by_cases c14 : x2 = 0
      · replace hf := it_t c14 hf
        refine lv_tableIn (tgt := 92) (off := 34) hx hb dX1_weeks_58 (by rw [c14]; decide) (by rw [c14]; decide) (by rw [c14]; decide) (by decide) ?_
        refine lv_aload_n hx hb dX1_weeks_92 rfl (lv_at hl 0 rfl) ?_
        obtain ⟨v15, hv15, hf⟩ := ob_s hf
        refine bg_X1_74 S hS hB (vR_s hv15) dX1_weeks_93 ?_
        obtain ⟨v16, hv16, hf⟩ := ob_s hf
        refine bg_X1_204 S hS hB (vR_s hv16) dX1_weeks_96 ?_
        obtain ⟨g17, hf⟩ := gd_t hf
        obtain ⟨v18, hv18, hf⟩ := ob_s hf
        refine mc_X1_130 (fE := fE) (lE := lE) S hS hB g17 hv18 hl.1 ⟨(by show _ ≤ (fE + 12); omega), (by show _ ≤ (lE + 3121); omega)⟩ (Nat.le_of_ble_eq_true rfl) ⟨(TL_m hT).1, (TL_m hT).2⟩ dX1_weeks_99 (fun _ => ?_)
        refine lv_aload_n hx hb dX1_weeks_102 rfl (lv_at hl 0 rfl) ?_
        obtain ⟨v19, hv19, hf⟩ := ob_s hf
        refine bg_X1_70 S hS hB (vR_s hv19) dX1_weeks_103 ?_
        obtain ⟨v20, hv20, hf⟩ := ob_s hf
        refine bg_X1_204 S hS hB (vR_s hv20) dX1_weeks_106 ?_
        obtain ⟨g21, hf⟩ := gd_t hf
        obtain ⟨v22, hv22, hf⟩ := ob_s hf
        refine mc_X1_130 (fE := fE) (lE := lE) S hS hB g21 hv22 hl.1 ⟨(by show _ ≤ (fE + 12); omega), (by show _ ≤ (lE + 3121); omega)⟩ (Nat.le_of_ble_eq_true rfl) ⟨(TL_m hT).1, (TL_m hT).2⟩ dX1_weeks_109 (fun _ => ?_)
        refine lv_isub hx hb dX1_weeks_112 ?_
        have hE9 := TL_e hT hf
        subst hE9
        exact bt_i S hr hlocks hB (by omega) trivial dX1_weeks_113
      · replace hf := it_f c14 hf
        by_cases c23 : x2 = 1
        · replace hf := it_t c23 hf
          refine lv_tableIn (tgt := 114) (off := 56) hx hb dX1_weeks_58 (by rw [c23]; decide) (by rw [c23]; decide) (by rw [c23]; decide) (by decide) ?_
          refine lv_aload_n hx hb dX1_weeks_114 rfl (lv_at hl 0 rfl) ?_
          obtain ⟨v24, hv24, hf⟩ := ob_s hf
          refine bg_X1_74 S hS hB (vR_s hv24) dX1_weeks_115 ?_
          obtain ⟨v25, hv25, hf⟩ := ob_s hf
          refine bg_X1_226 S hS hB (vI_s hv25) dX1_weeks_118 ?_
          refine lv_aload_n hx hb dX1_weeks_121 rfl (lv_at hl 0 rfl) ?_
          obtain ⟨v26, hv26, hf⟩ := ob_s hf
          refine bg_X1_70 S hS hB (vR_s hv26) dX1_weeks_122 ?_
          obtain ⟨v27, hv27, hf⟩ := ob_s hf
          refine bg_X1_226 S hS hB (vI_s hv27) dX1_weeks_125 ?_
          refine lv_isub hx hb dX1_weeks_128 ?_
          have hE9 := TL_e hT hf
          subst hE9
          exact bt_i S hr hlocks hB (by omega) trivial dX1_weeks_129
        · replace hf := it_f c23 hf
          by_cases c28 : x2 = (nI 2)
          · replace hf := it_t c28 hf
            refine lv_tableIn (tgt := 130) (off := 72) hx hb dX1_weeks_58 (by rw [c28]; decide) (by rw [c28]; decide) (by rw [c28]; decide) (by decide) ?_
            refine lv_aload_n hx hb dX1_weeks_130 rfl (lv_at hl 0 rfl) ?_
            refine lv_aload_n hx hb dX1_weeks_131 rfl (lv_at hl 0 rfl) ?_
            obtain ⟨v29, hv29, hf⟩ := ob_s hf
            refine bg_X1_74 S hS hB (vR_s hv29) dX1_weeks_132 ?_
            obtain ⟨g30, hf⟩ := gd_t hf
            obtain ⟨v31, hv31, hf⟩ := ob_s hf
            obtain ⟨o32, hf, hT⟩ := TL_c hT hf
            refine mc_X1_219 (fE := fE) (lE := lE) S hE hS hB g30 hv31 hl.1 ⟨(by show _ ≤ (fE + 12); omega), (by show _ ≤ (lE + 3121); omega)⟩ (Nat.le_of_ble_eq_true rfl) ⟨(TL_m hT).1, (TL_m hT).2⟩ dX1_weeks_135 (fun H locs _ hB => ?_)
            have hE9 := TL_e hT hf
            subst hE9
            exact bt_i S hr hlocks hB (by omega) trivial dX1_weeks_138
          · replace hf := it_f c28 hf
            by_cases c33 : x2 = (nI 3)
            · replace hf := it_t c33 hf
              refine lv_tableIn (tgt := 139) (off := 81) hx hb dX1_weeks_58 (by rw [c33]; decide) (by rw [c33]; decide) (by rw [c33]; decide) (by decide) ?_
              refine lv_aload_n hx hb dX1_weeks_139 rfl (lv_at hl 0 rfl) ?_
              refine lv_aload_n hx hb dX1_weeks_140 rfl (lv_at hl 0 rfl) ?_
              obtain ⟨v34, hv34, hf⟩ := ob_s hf
              refine bg_X1_74 S hS hB (vR_s hv34) dX1_weeks_141 ?_
              obtain ⟨g35, hf⟩ := gd_t hf
              obtain ⟨v36, hv36, hf⟩ := ob_s hf
              obtain ⟨o37, hf, hT⟩ := TL_c hT hf
              refine mc_X1_223 (fE := fE) (lE := lE) S hE hS hB g35 hv36 hl.1 ⟨(by show _ ≤ (fE + 12); omega), (by show _ ≤ (lE + 3121); omega)⟩ (Nat.le_of_ble_eq_true rfl) ⟨(TL_m hT).1, (TL_m hT).2⟩ dX1_weeks_144 (fun H locs _ hB => ?_)
              have hE9 := TL_e hT hf
              subst hE9
              exact bt_i S hr hlocks hB (by omega) trivial dX1_weeks_147
            · replace hf := it_f c33 hf
              by_cases c38 : x2 = (nI 4)
              · replace hf := it_t c38 hf
                refine lv_tableIn (tgt := 148) (off := 90) hx hb dX1_weeks_58 (by rw [c38]; decide) (by rw [c38]; decide) (by rw [c38]; decide) (by decide) ?_
                refine lv_aload_n hx hb dX1_weeks_148 rfl (lv_at hl 0 rfl) ?_
                refine lv_aload_n hx hb dX1_weeks_149 rfl (lv_at hl 0 rfl) ?_
                obtain ⟨v39, hv39, hf⟩ := ob_s hf
                refine bg_X1_74 S hS hB (vR_s hv39) dX1_weeks_150 ?_
                obtain ⟨g40, hf⟩ := gd_t hf
                obtain ⟨v41, hv41, hf⟩ := ob_s hf
                obtain ⟨o42, hf, hT⟩ := TL_c hT hf
                refine mc_X1_379 (fE := fE) (lE := lE) S hE hS hB g40 hv41 hl.1 ⟨(by show _ ≤ (fE + 12); omega), (by show _ ≤ (lE + 3121); omega)⟩ (Nat.le_of_ble_eq_true rfl) ⟨(TL_m hT).1, (TL_m hT).2⟩ dX1_weeks_153 (fun H locs _ hB => ?_)
                have hE9 := TL_e hT hf
                subst hE9
                exact bt_i S hr hlocks hB (by omega) trivial dX1_weeks_156
              · replace hf := it_f c38 hf
                refine lv_tableOut (tgt := 157) hx hb dX1_weeks_58 (by have n0 := lv_neT (a := 0) c14 (by decide); have n1 := lv_neT (a := 1) c23 (by decide); have n2 := lv_neT (a := 2) c28 (by decide); have n3 := lv_neT (a := 3) c33 (by decide); have n4 := lv_neT (a := 4) c38 (by decide); omega) (by decide) ?_
                refine lv_aload_n hx hb dX1_weeks_157 rfl (lv_at hl 0 rfl) ?_
                refine lv_aload_n hx hb dX1_weeks_158 rfl (lv_at hl 0 rfl) ?_
                obtain ⟨v43, hv43, hf⟩ := ob_s hf
                refine bg_X1_74 S hS hB (vR_s hv43) dX1_weeks_159 ?_
                obtain ⟨g44, hf⟩ := gd_t hf
                obtain ⟨v45, hv45, hf⟩ := ob_s hf
                obtain ⟨o46, hf, hT⟩ := TL_c hT hf
                refine mc_X1_389 (fE := fE) (lE := lE) S hE hS hB g44 hv45 hl.1 ⟨(by show _ ≤ (fE + 12); omega), (by show _ ≤ (lE + 3121); omega)⟩ (Nat.le_of_ble_eq_true rfl) ⟨(TL_m hT).1, (TL_m hT).2⟩ dX1_weeks_162 (fun H locs _ hB => ?_)
                refine lv_aload_n hx hb dX1_weeks_165 rfl (lv_at hl 0 rfl) ?_
                refine lv_aload_n hx hb dX1_weeks_166 rfl (lv_at hl 0 rfl) ?_
                obtain ⟨v47, hv47, hf⟩ := ob_s hf
                refine bg_X1_70 S hS hB (vR_s hv47) dX1_weeks_167 ?_
                obtain ⟨g48, hf⟩ := gd_t hf
                obtain ⟨v49, hv49, hf⟩ := ob_s hf
                obtain ⟨o50, hf, hT⟩ := TL_c hT hf
                refine mc_X1_389 (fE := fE) (lE := lE) S hE hS hB g48 hv49 hl.1 ⟨(by show _ ≤ (fE + 12); omega), (by show _ ≤ (lE + 3121); omega)⟩ (Nat.le_of_ble_eq_true rfl) ⟨(TL_m hT).1, (TL_m hT).2⟩ dX1_weeks_170 (fun H locs _ hB => ?_)
                refine lv_isub hx hb dX1_weeks_173 ?_
                have hE9 := TL_e hT hf
                subst hE9
                exact bt_i S hr hlocks hB (by omega) trivial dX1_weeks_174
    · replace hf := it_t c4 hf
      refine lv_iconst hx hb dX1_weeks_36 kc_im1 ?_
      have hE9 := TL_e hT hf
      subst hE9
      exact bt_i S hr hlocks hB (by omega) trivial dX1_weeks_37
  have hT : TL out out 0 0 := TL_0
  rw [f_X1_weeks] at hf
  refine lv_aload_n hx hb dX1_weeks_0 rfl (lv_at hl 0 rfl) ?_
  refine lv_iload_n hx hb dX1_weeks_1 rfl (lv_at hl 1 rfl) ?_
  refine lv_i2l hx hb dX1_weeks_2 rfl ?_
  refine lv_lconst (v := 0) hx hb dX1_weeks_3 (by decide) ?_
  refine lv_ldc2 hx hb hown (hts _ q1371) dX1_weeks_4 ?_
  obtain ⟨v1, hv1, hf⟩ := ob_s hf
  refine mc_X1_134 S hS.1 hv1 hl.1 ⟨(by show _ ≤ (fE + 12); omega), (by show _ ≤ (lE + 3121); omega)⟩ (Nat.le_of_ble_eq_true rfl) ⟨(TL_m hT).1, (TL_m hT).2⟩ dX1_weeks_7 (fun hnv1 => ?_)
  refine lv_if_eq (tgt := 25) hx hb dX1_weeks_10 (by decide) (fun c2 => ?_) (fun c2 => ?_)
  · replace hf := it_t c2 hf
    refine lv_iconst hx hb dX1_weeks_25 kc_i1 ?_
    refine lv_goto (tgt := 30) hx hb dX1_weeks_26 (by decide) ?_
    exact (w30) o a0 a1 o 1 h nx ls s.heap [] 0 0 out hB (by omega) hT hl hf
  · replace hf := it_f c2 hf
    refine lv_iload_n hx hb dX1_weeks_13 rfl (lv_at hl 2 rfl) ?_
    refine lv_i2l hx hb dX1_weeks_14 rfl ?_
    refine lv_lconst (v := 0) hx hb dX1_weeks_15 (by decide) ?_
    refine lv_ldc2 hx hb hown (hts _ q1252) dX1_weeks_16 ?_
    obtain ⟨v3, hv3, hf⟩ := ob_s hf
    refine mc_X1_134 S hS.1 hv3 hl.1 ⟨(by show _ ≤ (fE + 12); omega), (by show _ ≤ (lE + 3121); omega)⟩ (Nat.le_of_ble_eq_true rfl) ⟨(TL_m hT).1, (TL_m hT).2⟩ dX1_weeks_19 (fun hnv3 => ?_)
    refine lv_if_ne (tgt := 29) hx hb dX1_weeks_22 (by decide) (fun c4 => ?_) (fun c4 => ?_)
    · replace hf := it_f c4 hf
      refine lv_iconst hx hb dX1_weeks_29 kc_i0 ?_
      exact (w30) o a0 a1 o 0 h nx ls s.heap [] 0 0 out hB (by omega) hT hl hf
    · replace hf := it_t c4 hf
      refine lv_iconst hx hb dX1_weeks_25 kc_i1 ?_
      refine lv_goto (tgt := 30) hx hb dX1_weeks_26 (by decide) ?_
      exact (w30) o a0 a1 o 1 h nx ls s.heap [] 0 0 out hB (by omega) hT hl hf
theorem hd_X1_when : yX1_when.cls = RX1 ∧ yX1_when.cls ≠ "java/lang/invoke/MethodHandle" ∧ yX1_when.cls ≠ "java/lang/invoke/VarHandle" ∧ (parseMethodDescriptor yX1_when.desc).map (fun d => d.parameters.length) = some 3 := by decide +kernel
set_option maxHeartbeats 4000000 in
set_option maxRecDepth 100000 in
theorem mm_X1_when {o : Nat} {a0 : Int32} {a1 : Int32} {a2 : Int32} {out : Int32 × AH × Nat × Nat} (hE : IfOK l G E fE lE) (hf : f_X1_when E h nx o a0 a1 a2 = some out) : Met l yX1_when (ws_ yX1_when cX1_when 6 (some .int)) (rC (fE + 12) (lE + 376) out.2.2.1 out.2.2.2) (bPc G E.1 hSites h nx [.ref o, .int a0, .int a1, .int a2]) (bQ G (some (.int out.1)) True out.2.1 (nx + out.2.2.1) (AA h nx)) out.2.2.1 out.2.2.2 (AA h nx) := by
  refine bGo (by decide +kernel) (Nat.le_of_ble_eq_true rfl) (fun p e s m below meth c ls S hr hlocks hin hnm hS hB hl => ?_)
  have S : CallFix p m c cX1_when 6 s _ lw_all RX1 := S
  obtain ⟨hx, hb, hml, hown, hts⟩ := id S
  have hl : lv_has ls 6 [(0, .ref o), (1, .int a0), (2, .int a1), (3, .int a2)] := hl
  have w85 : ∀ (n : Nat) , ∀ (x0 : Nat) (x1 : Int32) (x3 : Int32) (x4 : Nat) (hc : AH) (nc : Nat) (ls : Array Slot) (H : Heap) (locs : List Loc) (ce sl : Nat) (o1 : Int32 × AH × Nat × Nat), BI G (AA h nx) s.heap hc nc H locs → nc = nx + ce → TL out o1 ce sl → lv_has ls 6 [(0, .ref x0), (1, .int x1), (3, .int x3), (4, .ref x4)] → f_X1_when_85 n E x0 x1 x3 x4 hc nc = some o1 → W p l e (rC (fE + 12) (lE + 376) out.2.2.1 out.2.2.2) s m ([.ref o, .int a0, .int a1, .int a2] : List Value).toArray below meth c H locs ce sl (MQ below (bQ G (some (.int out.1)) True out.2.1 (nx + out.2.2.1) (AA h nx)) ([.ref o, .int a0, .int a1, .int a2] : List Value).toArray s out.2.2.1 out.2.2.2 (AA h nx)) (F0 m 85 ls []) := by
    intro n
    induction n with
    | zero =>
      intro x0 x1 x3 x4 hc nc ls H locs ce sl o1 hB hn hT hl hf
      exact absurd hf (by rw [f_X1_when_85]; exact nofun)
    | succ n ih =>
      intro x0 x1 x3 x4 hc nc ls H locs ce sl o1 hB hn hT hl hf
      rw [f_X1_when_85] at hf
      refine lv_aload hx hb dX1_when_85 (lv_at hl 3 rfl) ?_
      obtain ⟨g1, hf⟩ := gd_t hf
      obtain ⟨v2, hv2, hf⟩ := ob_s hf
      refine mc_X1_407 (fE := fE) (lE := lE) S hS hB g1 hv2 hl.1 ⟨(by show _ ≤ (fE + 12); omega), (by show _ ≤ (lE + 376); omega)⟩ (Nat.le_of_ble_eq_true rfl) ⟨(TL_m hT).1, (TL_m hT).2⟩ dX1_when_87 (fun hnv2 => ?_)
      refine lv_if_eq (tgt := 137) hx hb dX1_when_92 (by decide) (fun c3 => ?_) (fun c3 => ?_)
      · replace hf := it_t c3 hf
        refine lv_aload_n hx hb dX1_when_137 rfl (lv_at hl 0 rfl) ?_
        refine lv_iconst hx hb dX1_when_138 kc_i5 ?_
        obtain ⟨g4, hf⟩ := gd_t hf
        obtain ⟨v5, hv5, hf⟩ := ob_s hf
        obtain ⟨o6, hf, hT⟩ := TL_c hT hf
        refine mc_X1_174 (fE := fE) (lE := lE) S hS hB g4 hv5 hl.1 ⟨(by show _ ≤ (fE + 12); omega), (by show _ ≤ (lE + 376); omega)⟩ (Nat.le_of_ble_eq_true rfl) ⟨(TL_m hT).1, (TL_m hT).2⟩ dX1_when_139 (fun H locs _ hB => ?_)
        have hE9 := TL_e hT hf
        subst hE9
        exact bt_i S hr hlocks hB (by omega) trivial dX1_when_142
      · replace hf := it_f c3 hf
        refine lv_aload hx hb dX1_when_95 (lv_at hl 3 rfl) ?_
        obtain ⟨g7, hf⟩ := gd_t hf
        obtain ⟨v8, hv8, hf⟩ := ob_s hf
        obtain ⟨o9, hf, hT⟩ := TL_c hT hf
        refine mc_X1_412 (fE := fE) (lE := lE) S hS hB g7 hv8 hl.1 ⟨(by show _ ≤ (fE + 12); omega), (by show _ ≤ (lE + 376); omega)⟩ (Nat.le_of_ble_eq_true rfl) ⟨(TL_m hT).1, (TL_m hT).2⟩ dX1_when_97 (fun H locs _ hB => ?_)
        obtain ⟨g10, hf⟩ := gd_t hf
        refine b_castO S hS.1 hB (ci := 7) rfl (hts _ q1230) g10 dX1_when_102 ?_
        refine lv_astore (lv' := [(5, .ref v8.1), (0, .ref x0), (1, .int x1), (3, .int x3), (4, .ref x4)]) hx hb dX1_when_105 hl (by decide) rfl (fun ls hl => ?_)
        refine lv_aload hx hb dX1_when_107 (lv_at hl 0 rfl) ?_
        obtain ⟨v11, hv11, hf⟩ := ob_s hf
        refine bg_X1_356 S hS hB (vI_s hv11) dX1_when_109 ?_
        refine lv_iload_n hx hb dX1_when_112 rfl (lv_at hl 2 rfl) ?_
        refine lv_icmp_ne (tgt := 134) hx hb dX1_when_113 (by decide) (fun c12 => ?_) (fun c12 => ?_)
        · replace hf := it_f c12 hf
          refine lv_goto (tgt := 85) hx hb dX1_when_134 (by decide) ?_
          exact (ih) x0 x1 x3 x4 v8.2.1 (nc + v8.2.2.1) ls H locs (ce + v8.2.2.1) (sl + v8.2.2.2) o9 hB (by omega) hT (lv_sub (l' := [(0, .ref x0), (1, .int x1), (3, .int x3), (4, .ref x4)]) hl [1, 2, 3, 4] rfl) hf
        · replace hf := it_t c12 hf
          refine lv_iload_n hx hb dX1_when_116 rfl (lv_at hl 3 rfl) ?_
          refine lv_if_eq (tgt := 128) hx hb dX1_when_117 (by decide) (fun c13 => ?_) (fun c13 => ?_)
          · replace hf := it_t c13 hf
            refine lv_aload hx hb dX1_when_128 (lv_at hl 0 rfl) ?_
            obtain ⟨v14, hv14, hf⟩ := ob_s hf
            refine bg_X1_360 S hS hB (vI_s hv14) dX1_when_130 ?_
            have hE9 := TL_e hT hf
            subst hE9
            exact bt_i S hr hlocks hB (by omega) trivial dX1_when_133
          · replace hf := it_f c13 hf
            refine lv_aload hx hb dX1_when_120 (lv_at hl 0 rfl) ?_
            obtain ⟨v15, hv15, hf⟩ := ob_s hf
            refine bg_X1_358 S hS hB (vI_s hv15) dX1_when_122 ?_
            refine lv_goto (tgt := 133) hx hb dX1_when_125 (by decide) ?_
            have hE9 := TL_e hT hf
            subst hE9
            exact bt_i S hr hlocks hB (by omega) trivial dX1_when_133
  have w46 : ∀ (x0 : Nat) (x1 : Int32) (x2 : Int32) (x3 : Int32) (y0 : Nat) (y1 : Int32) (hc : AH) (nc : Nat) (ls : Array Slot) (H : Heap) (locs : List Loc) (ce sl : Nat) (o1 : Int32 × AH × Nat × Nat), BI G (AA h nx) s.heap hc nc H locs → nc = nx + ce → TL out o1 ce sl → lv_has ls 6 [(0, .ref x0), (1, .int x1), (2, .int x2), (3, .int x3)] → f_X1_when_46 E x0 x1 x2 x3 y0 y1 hc nc = some o1 → W p l e (rC (fE + 12) (lE + 376) out.2.2.1 out.2.2.2) s m ([.ref o, .int a0, .int a1, .int a2] : List Value).toArray below meth c H locs ce sl (MQ below (bQ G (some (.int out.1)) True out.2.1 (nx + out.2.2.1) (AA h nx)) ([.ref o, .int a0, .int a1, .int a2] : List Value).toArray s out.2.2.1 out.2.2.2 (AA h nx)) (F0 m 46 ls [.int y1, .ref y0]) := by
    intro x0 x1 x2 x3 y0 y1 hc nc ls H locs ce sl o1 hB hn hT hl hf
    rw [f_X1_when_46] at hf
    obtain ⟨g1, hf⟩ := gd_t hf
    obtain ⟨v2, hv2, hf⟩ := ob_s hf
    obtain ⟨o3, hf, hT⟩ := TL_c hT hf
    refine mc_X1_155 (fE := fE) (lE := lE) S hS hB g1 hv2 hl.1 ⟨(by show _ ≤ (fE + 12); omega), (by show _ ≤ (lE + 376); omega)⟩ (Nat.le_of_ble_eq_true rfl) ⟨(TL_m hT).1, (TL_m hT).2⟩ dX1_when_46 (fun H locs hnv2 hB => ?_)
    refine lv_if_ne (tgt := 54) hx hb dX1_when_49 (by decide) (fun c4 => ?_) (fun c4 => ?_)
    · replace hf := it_f c4 hf
      refine lv_aload_n hx hb dX1_when_54 rfl (lv_at hl 0 rfl) ?_
      obtain ⟨v5, hv5, hf⟩ := ob_s hf
      refine bg_X1_74 S hS hB (vR_s hv5) dX1_when_55 ?_
      refine lv_aload_n hx hb dX1_when_58 rfl (lv_at hl 0 rfl) ?_
      obtain ⟨v6, hv6, hf⟩ := ob_s hf
      refine bg_X1_70 S hS hB (vR_s hv6) dX1_when_59 ?_
      obtain ⟨g7, hf⟩ := gd_t hf
      obtain ⟨v8, hv8, hf⟩ := ob_s hf
      obtain ⟨o9, hf, hT⟩ := TL_c hT hf
      refine mc_X1_396 (fE := fE) (lE := lE) S hS hB g7 hv8 hl.1 ⟨(by show _ ≤ (fE + 12); omega), (by show _ ≤ (lE + 376); omega)⟩ (Nat.le_of_ble_eq_true rfl) ⟨(TL_m hT).1, (TL_m hT).2⟩ dX1_when_62 (fun H locs _ hB => ?_)
      refine lv_aload_n hx hb dX1_when_65 rfl (lv_at hl 0 rfl) ?_
      obtain ⟨v10, hv10, hf⟩ := ob_s hf
      refine bg_X1_74 S hS hB (vR_s hv10) dX1_when_66 ?_
      refine lv_iload_n hx hb dX1_when_69 rfl (lv_at hl 2 rfl) ?_
      obtain ⟨g11, hf⟩ := gd_t hf
      obtain ⟨v12, hv12, hf⟩ := ob_s hf
      obtain ⟨o13, hf, hT⟩ := TL_c hT hf
      refine mc_X1_400 (fE := fE) (lE := lE) S hE hS hB g11 hv12 hl.1 ⟨(by show _ ≤ (fE + 12); omega), (by show _ ≤ (lE + 376); omega)⟩ (Nat.le_of_ble_eq_true rfl) ⟨(TL_m hT).1, (TL_m hT).2⟩ dX1_when_70 (fun H locs _ hB => ?_)
      refine lv_aload_n hx hb dX1_when_73 rfl (lv_at hl 0 rfl) ?_
      obtain ⟨v14, hv14, hf⟩ := ob_s hf
      refine bg_X1_74 S hS hB (vR_s hv14) dX1_when_74 ?_
      obtain ⟨v15, hv15, hf⟩ := ob_s hf
      refine bg_X1_204 S hS hB (vR_s hv15) dX1_when_77 ?_
      obtain ⟨g16, hf⟩ := gd_t hf
      obtain ⟨v17, hv17, hf⟩ := ob_s hf
      obtain ⟨o18, hf, hT⟩ := TL_c hT hf
      refine mc_X1_403 (fE := fE) (lE := lE) S hS hB g16 hv17 hl.1 ⟨(by show _ ≤ (fE + 12); omega), (by show _ ≤ (lE + 376); omega)⟩ (Nat.le_of_ble_eq_true rfl) ⟨(TL_m hT).1, (TL_m hT).2⟩ dX1_when_80 (fun H locs _ hB => ?_)
      refine lv_astore (lv' := [(4, .ref v17.1), (0, .ref x0), (1, .int x1), (2, .int x2), (3, .int x3)]) hx hb dX1_when_83 hl (by decide) rfl (fun ls hl => ?_)
      exact (w85 FU) x0 x1 x3 v17.1 v17.2.1 ((((nc + v2.2.2.1) + v8.2.2.1) + v12.2.2.1) + v17.2.2.1) ls H locs ((((ce + v2.2.2.1) + v8.2.2.1) + v12.2.2.1) + v17.2.2.1) ((((sl + v2.2.2.2) + v8.2.2.2) + v12.2.2.2) + v17.2.2.2) o18 hB (by omega) hT (lv_sub (l' := [(0, .ref x0), (1, .int x1), (3, .int x3), (4, .ref v17.1)]) hl [1, 2, 4, 0] rfl) hf
    · replace hf := it_t c4 hf
      refine lv_iconst hx hb dX1_when_52 kc_im1 ?_
      have hE9 := TL_e hT hf
      subst hE9
      exact bt_i S hr hlocks hB (by omega) trivial dX1_when_53
  have hT : TL out out 0 0 := TL_0
  rw [f_X1_when] at hf
  refine lv_aload_n hx hb dX1_when_0 rfl (lv_at hl 0 rfl) ?_
  refine lv_iload_n hx hb dX1_when_1 rfl (lv_at hl 2 rfl) ?_
  refine lv_i2l hx hb dX1_when_2 rfl ?_
  refine lv_lconst (v := 1) hx hb dX1_when_3 (by decide) ?_
  refine lv_ldc2 hx hb hown (hts _ q1371) dX1_when_4 ?_
  obtain ⟨v1, hv1, hf⟩ := ob_s hf
  refine mc_X1_134 S hS.1 hv1 hl.1 ⟨(by show _ ≤ (fE + 12); omega), (by show _ ≤ (lE + 376); omega)⟩ (Nat.le_of_ble_eq_true rfl) ⟨(TL_m hT).1, (TL_m hT).2⟩ dX1_when_7 (fun hnv1 => ?_)
  refine lv_if_ne (tgt := 17) hx hb dX1_when_10 (by decide) (fun c2 => ?_) (fun c2 => ?_)
  · replace hf := it_f c2 hf
    refine lv_aload_n hx hb dX1_when_17 rfl (lv_at hl 0 rfl) ?_
    refine lv_iload_n hx hb dX1_when_18 rfl (lv_at hl 1 rfl) ?_
    obtain ⟨g3, hf⟩ := gd_t hf
    obtain ⟨v4, hv4, hf⟩ := ob_s hf
    refine mc_X1_138 (fE := fE) (lE := lE) S hS hB g3 hv4 hl.1 ⟨(by show _ ≤ (fE + 12); omega), (by show _ ≤ (lE + 376); omega)⟩ (Nat.le_of_ble_eq_true rfl) ⟨(TL_m hT).1, (TL_m hT).2⟩ dX1_when_19 (fun hnv4 => ?_)
    refine lv_if_ne (tgt := 29) hx hb dX1_when_22 (by decide) (fun c5 => ?_) (fun c5 => ?_)
    · replace hf := it_f c5 hf
      refine lv_aload_n hx hb dX1_when_29 rfl (lv_at hl 0 rfl) ?_
      obtain ⟨v6, hv6, hf⟩ := ob_s hf
      refine bg_X1_70 S hS hB (vR_s hv6) dX1_when_30 ?_
      obtain ⟨v7, hv7, hf⟩ := ob_s hf
      refine bg_X1_305 S hS hB (vR_s hv7) dX1_when_33 ?_
      refine lv_iload_n hx hb dX1_when_36 rfl (lv_at hl 1 rfl) ?_
      obtain ⟨v8, hv8, hf⟩ := ob_s hf
      refine b_zald S hS.1 hB hv8 dX1_when_37 ?_
      refine lv_if_eq (tgt := 45) hx hb dX1_when_38 (by decide) (fun c9 => ?_) (fun c9 => ?_)
      · replace hf := it_t c9 hf
        refine lv_iconst hx hb dX1_when_45 kc_i0 ?_
        exact (w46) o a0 a1 a2 o 0 h nx ls s.heap [] 0 0 out hB (by omega) hT hl hf
      · replace hf := it_f c9 hf
        refine lv_iconst hx hb dX1_when_41 kc_i4 ?_
        refine lv_goto (tgt := 46) hx hb dX1_when_42 (by decide) ?_
        exact (w46) o a0 a1 a2 o (nI 4) h nx ls s.heap [] 0 0 out hB (by omega) hT hl hf
    · replace hf := it_t c5 hf
      refine lv_iconst hx hb dX1_when_25 kc_i2 ?_
      refine lv_goto (tgt := 46) hx hb dX1_when_26 (by decide) ?_
      exact (w46) o a0 a1 a2 o (nI 2) h nx ls s.heap [] 0 0 out hB (by omega) hT hl hf
  · replace hf := it_t c2 hf
    refine lv_iconst hx hb dX1_when_13 kc_i1 ?_
    refine lv_goto (tgt := 46) hx hb dX1_when_14 (by decide) ?_
    exact (w46) o a0 a1 a2 o 1 h nx ls s.heap [] 0 0 out hB (by omega) hT hl hf
theorem hd_X1_tip : yX1_tip.cls = RX1 ∧ yX1_tip.cls ≠ "java/lang/invoke/MethodHandle" ∧ yX1_tip.cls ≠ "java/lang/invoke/VarHandle" ∧ (parseMethodDescriptor yX1_tip.desc).map (fun d => d.parameters.length) = some 1 := by decide +kernel
set_option maxHeartbeats 4000000 in
set_option maxRecDepth 100000 in
theorem mm_X1_tip {o : Nat} {a0 : Int32} {out : Int32 × AH × Nat × Nat} (hE : IfOK l G E fE lE) (hf : f_X1_tip E h nx o a0 = some out) : Met l yX1_tip (ws_ yX1_tip cX1_tip 3 (some .int)) (rC (fE + 2) (lE + 3120) out.2.2.1 out.2.2.2) (bPc G E.1 hSites h nx [.ref o, .int a0]) (bQ G (some (.int out.1)) True out.2.1 (nx + out.2.2.1) (AA h nx)) out.2.2.1 out.2.2.2 (AA h nx) := by
  refine bGo (by decide +kernel) (Nat.le_of_ble_eq_true rfl) (fun p e s m below meth c ls S hr hlocks hin hnm hS hB hl => ?_)
  have S : CallFix p m c cX1_tip 3 s _ lw_all RX1 := S
  obtain ⟨hx, hb, hml, hown, hts⟩ := id S
  have hl : lv_has ls 3 [(0, .ref o), (1, .int a0)] := hl
  have w14 : ∀ (x0 : Nat) (x1 : Int32) (y0 : Nat) (y1 : Int32) (hc : AH) (nc : Nat) (ls : Array Slot) (H : Heap) (locs : List Loc) (ce sl : Nat) (o1 : Int32 × AH × Nat × Nat), BI G (AA h nx) s.heap hc nc H locs → nc = nx + ce → TL out o1 ce sl → lv_has ls 3 [(0, .ref x0), (1, .int x1)] → f_X1_tip_14 E x0 x1 y0 y1 hc nc = some o1 → W p l e (rC (fE + 2) (lE + 3120) out.2.2.1 out.2.2.2) s m ([.ref o, .int a0] : List Value).toArray below meth c H locs ce sl (MQ below (bQ G (some (.int out.1)) True out.2.1 (nx + out.2.2.1) (AA h nx)) ([.ref o, .int a0] : List Value).toArray s out.2.2.1 out.2.2.2 (AA h nx)) (F0 m 14 ls [.int y1, .ref y0]) := by
    intro x0 x1 y0 y1 hc nc ls H locs ce sl o1 hB hn hT hl hf
    rw [f_X1_tip_14] at hf
    obtain ⟨g1, hf⟩ := gd_t hf
    obtain ⟨v2, hv2, hf⟩ := ob_s hf
    obtain ⟨o3, hf, hT⟩ := TL_c hT hf
    refine mc_X1_155 (fE := fE) (lE := lE) S hS hB g1 hv2 hl.1 ⟨(by show _ ≤ (fE + 2); omega), (by show _ ≤ (lE + 3120); omega)⟩ (Nat.le_of_ble_eq_true rfl) ⟨(TL_m hT).1, (TL_m hT).2⟩ dX1_tip_14 (fun H locs hnv2 hB => ?_)
    refine lv_if_ne (tgt := 22) hx hb dX1_tip_17 (by decide) (fun c4 => ?_) (fun c4 => ?_)
    · replace hf := it_f c4 hf
      refine lv_aload_n hx hb dX1_tip_22 rfl (lv_at hl 0 rfl) ?_
      refine lv_iload_n hx hb dX1_tip_23 rfl (lv_at hl 1 rfl) ?_
      obtain ⟨o5, hf, hT⟩ := TL_c hT hf
      refine b_lam S hS hB (k := 28) (vs := [.ref x0, .int x1]) hnm rfl lamL_28 (lamV_c rfl rfl (lamV_c rfl rfl lamV_n)) rfl hl.1 (by show _ ≤ (lE + 3120); simp only [List.map, List.sum_cons, List.sum_nil, Value.category]; omega) (TL_m hT).1 (TL_m hT).2 dX1_tip_24 (fun H hB => ?_)
      refine lv_astore_n (i := 2) (lv' := [(2, .ref (nc + v2.2.2.1)), (0, .ref x0), (1, .int x1)]) hx hb dX1_tip_29 rfl hl (by decide) rfl (fun ls hl => ?_)
      refine lv_aload_n hx hb dX1_tip_30 rfl (lv_at hl 1 rfl) ?_
      refine lv_aload_n hx hb dX1_tip_31 rfl (lv_at hl 1 rfl) ?_
      obtain ⟨v6, hv6, hf⟩ := ob_s hf
      refine bg_X1_39 S hS hB (vR_s hv6) dX1_tip_32 ?_
      obtain ⟨g7, hf⟩ := gd_t hf
      obtain ⟨v8, hv8, hf⟩ := ob_s hf
      refine mc_X1_130 (fE := fE) (lE := lE) S hS hB g7 hv8 hl.1 ⟨(by show _ ≤ (fE + 2); omega), (by show _ ≤ (lE + 3120); omega)⟩ (Nat.le_of_ble_eq_true rfl) ⟨(TL_m hT).1, (TL_m hT).2⟩ dX1_tip_35 (fun _ => ?_)
      refine lv_aload_n hx hb dX1_tip_38 rfl (lv_at hl 0 rfl) ?_
      refine lv_iconst hx hb dX1_tip_39 kc_i2 ?_
      obtain ⟨o9, hf, hT⟩ := TL_c hT hf
      refine b_anewN S hS hB 6 rfl (hts _ q1518) q331 kn_2 kna_2 (TL_m hT).1 (TL_m hT).2 dX1_tip_40 (fun H hB => ?_)
      obtain ⟨h10, eh10⟩ : ∃ z, z = (hu (hu v2.2.1 (nc + v2.2.2.1) (.inr (.inr (28, [.ref x0, .int x1])))) ((nc + v2.2.2.1) + 1) (.inl (6, 2, .inr (.inr (.inr (.inr (fun _ => none))))))) := ⟨_, rfl⟩
      replace hf := bd_e eh10 hf
      rw [← eh10] at hB
      refine lv_dup hx hb dX1_tip_43 rfl ?_
      refine lv_iconst hx hb dX1_tip_44 kc_i0 ?_
      refine lv_aload_n hx hb dX1_tip_45 rfl (lv_at hl 1 rfl) ?_
      refine lv_iload_n hx hb dX1_tip_46 rfl (lv_at hl 2 rfl) ?_
      obtain ⟨o11, hf, hT⟩ := TL_c hT hf
      refine b_lam S hS hB (k := 29) (vs := [.ref x0, .int x1]) hnm rfl lamL_29 (lamV_c rfl rfl (lamV_c rfl rfl lamV_n)) rfl hl.1 (by show _ ≤ (lE + 3120); simp only [List.map, List.sum_cons, List.sum_nil, Value.category]; omega) (TL_m hT).1 (TL_m hT).2 dX1_tip_47 (fun H hB => ?_)
      obtain ⟨h12, eh12⟩ : ∃ z, z = (hu h10 (((nc + v2.2.2.1) + 1) + 1) (.inr (.inr (29, [.ref x0, .int x1])))) := ⟨_, rfl⟩
      replace hf := bd_e eh12 hf
      rw [← eh12] at hB
      obtain ⟨v13, hv13, hf⟩ := ob_s hf
      obtain ⟨o14, hf, hT⟩ := TL_c hT hf
      refine mc_X1_421 (fE := fE) (lE := lE) S hS hB hv13 hl.1 ⟨(by show _ ≤ (fE + 2); omega), (by show _ ≤ (lE + 3120); omega)⟩ (Nat.le_of_ble_eq_true rfl) ⟨(TL_m hT).1, (TL_m hT).2⟩ dX1_tip_52 (fun H locs _ hB => ?_)
      obtain ⟨g15, hf⟩ := gd_t hf
      obtain ⟨h16, hh16, hf⟩ := ob_s hf
      refine b_aast S hS hB 6 rfl g15 hh16 dX1_tip_55 (fun H locs hB => ?_)
      refine lv_dup hx hb dX1_tip_56 rfl ?_
      refine lv_iconst hx hb dX1_tip_57 kc_i1 ?_
      refine lv_aload_n hx hb dX1_tip_58 rfl (lv_at hl 1 rfl) ?_
      refine lv_iload_n hx hb dX1_tip_59 rfl (lv_at hl 2 rfl) ?_
      obtain ⟨o17, hf, hT⟩ := TL_c hT hf
      refine b_lam S hS hB (k := 31) (vs := [.ref x0, .int x1]) hnm rfl lamL_31 (lamV_c rfl rfl (lamV_c rfl rfl lamV_n)) rfl hl.1 (by show _ ≤ (lE + 3120); simp only [List.map, List.sum_cons, List.sum_nil, Value.category]; omega) (TL_m hT).1 (TL_m hT).2 dX1_tip_60 (fun H hB => ?_)
      obtain ⟨h18, eh18⟩ : ∃ z, z = (hu h16 (((((nc + v2.2.2.1) + 1) + 1) + 1) + v13.2.2.1) (.inr (.inr (31, [.ref x0, .int x1])))) := ⟨_, rfl⟩
      replace hf := bd_e eh18 hf
      rw [← eh18] at hB
      obtain ⟨v19, hv19, hf⟩ := ob_s hf
      obtain ⟨o20, hf, hT⟩ := TL_c hT hf
      refine mc_X1_421 (fE := fE) (lE := lE) S hS hB hv19 hl.1 ⟨(by show _ ≤ (fE + 2); omega), (by show _ ≤ (lE + 3120); omega)⟩ (Nat.le_of_ble_eq_true rfl) ⟨(TL_m hT).1, (TL_m hT).2⟩ dX1_tip_65 (fun H locs _ hB => ?_)
      obtain ⟨g21, hf⟩ := gd_t hf
      obtain ⟨h22, hh22, hf⟩ := ob_s hf
      refine b_aast S hS hB 6 rfl g21 hh22 dX1_tip_68 (fun H locs hB => ?_)
      obtain ⟨v23, hv23, hf⟩ := ob_s hf
      obtain ⟨o24, hf, hT⟩ := TL_c hT hf
      refine mc_X1_425 (fE := fE) (lE := lE) S hS hB hv23 hl.1 ⟨(by show _ ≤ (fE + 2); omega), (by show _ ≤ (lE + 3120); omega)⟩ (Nat.le_of_ble_eq_true rfl) ⟨(TL_m hT).1, (TL_m hT).2⟩ dX1_tip_69 (fun H locs _ hB => ?_)
      obtain ⟨v25, hv25, hf⟩ := ob_s hf
      obtain ⟨o26, hf, hT⟩ := TL_c hT hf
      refine mc_X1_428 (fE := fE) (lE := lE) S hE hS hB hv25 hl.1 ⟨(by show _ ≤ (fE + 2); omega), (by show _ ≤ (lE + 3120); omega)⟩ (Nat.le_of_ble_eq_true rfl) ⟨(TL_m hT).1, (TL_m hT).2⟩ dX1_tip_72 (fun H locs _ hB => ?_)
      obtain ⟨g27, hf⟩ := gd_t hf
      obtain ⟨v28, hv28, hf⟩ := ob_s hf
      obtain ⟨o29, hf, hT⟩ := TL_c hT hf
      refine mc_X1_247 (fE := fE) (lE := lE) S hS hB g27 hv28 hl.1 ⟨(by show _ ≤ (fE + 2); omega), (by show _ ≤ (lE + 3120); omega)⟩ (Nat.le_of_ble_eq_true rfl) ⟨(TL_m hT).1, (TL_m hT).2⟩ dX1_tip_75 (fun H locs _ hB => ?_)
      have hE9 := TL_e hT hf
      subst hE9
      exact bt_i S hr hlocks hB (by omega) trivial dX1_tip_78
    · replace hf := it_t c4 hf
      refine lv_iconst hx hb dX1_tip_20 kc_im1 ?_
      have hE9 := TL_e hT hf
      subst hE9
      exact bt_i S hr hlocks hB (by omega) trivial dX1_tip_21
  have hT : TL out out 0 0 := TL_0
  rw [f_X1_tip] at hf
  refine lv_aload_n hx hb dX1_tip_0 rfl (lv_at hl 0 rfl) ?_
  refine lv_aload_n hx hb dX1_tip_1 rfl (lv_at hl 0 rfl) ?_
  refine lv_iload_n hx hb dX1_tip_2 rfl (lv_at hl 1 rfl) ?_
  obtain ⟨g1, hf⟩ := gd_t hf
  obtain ⟨v2, hv2, hf⟩ := ob_s hf
  refine mc_X1_138 (fE := fE) (lE := lE) S hS hB g1 hv2 hl.1 ⟨(by show _ ≤ (fE + 2); omega), (by show _ ≤ (lE + 3120); omega)⟩ (Nat.le_of_ble_eq_true rfl) ⟨(TL_m hT).1, (TL_m hT).2⟩ dX1_tip_3 (fun hnv2 => ?_)
  refine lv_if_eq (tgt := 13) hx hb dX1_tip_6 (by decide) (fun c3 => ?_) (fun c3 => ?_)
  · replace hf := it_t c3 hf
    refine lv_iconst hx hb dX1_tip_13 kc_i2 ?_
    exact (w14) o a0 o (nI 2) h nx ls s.heap [] 0 0 out hB (by omega) hT hl hf
  · replace hf := it_f c3 hf
    refine lv_iconst hx hb dX1_tip_9 kc_i0 ?_
    refine lv_goto (tgt := 14) hx hb dX1_tip_10 (by decide) ?_
    exact (w14) o a0 o 0 h nx ls s.heap [] 0 0 out hB (by omega) hT hl hf
theorem hd_X1_lambda_tip_17 : yX1_lambda_tip_17.cls = RX1 ∧ yX1_lambda_tip_17.cls ≠ "java/lang/invoke/MethodHandle" ∧ yX1_lambda_tip_17.cls ≠ "java/lang/invoke/VarHandle" ∧ (parseMethodDescriptor yX1_lambda_tip_17.desc).map (fun d => d.parameters.length) = some 2 := by decide +kernel
set_option maxHeartbeats 4000000 in
set_option maxRecDepth 100000 in
theorem mm_X1_lambda_tip_17 {o : Nat} {a0 : Int32} {a1 : Int32} {out : Int32 × AH × Nat × Nat} (hE : IfOK l G E fE lE) (hf : f_X1_lambda_tip_17 E h nx o a0 a1 = some out) : Met l yX1_lambda_tip_17 (ws_ yX1_lambda_tip_17 cX1_lambda_tip_17 3 (some .boolean)) (rC (fE + 6) (lE + 129) out.2.2.1 out.2.2.2) (bPc G E.1 hSites h nx [.ref o, .int a0, .int a1]) (bQ G (some (.int out.1)) (narrow .boolean (.int out.1) = .int out.1) out.2.1 (nx + out.2.2.1) (AA h nx)) out.2.2.1 out.2.2.2 (AA h nx) := by
  refine bGo (by decide +kernel) (Nat.le_of_ble_eq_true rfl) (fun p e s m below meth c ls S hr hlocks hin hnm hS hB hl => ?_)
  have S : CallFix p m c cX1_lambda_tip_17 3 s _ lw_all RX1 := S
  obtain ⟨hx, hb, hml, hown, hts⟩ := id S
  have hl : lv_has ls 3 [(0, .ref o), (1, .int a0), (2, .int a1)] := hl
  have hT : TL out out 0 0 := TL_0
  rw [f_X1_lambda_tip_17] at hf
  refine lv_aload_n hx hb dX1_lambda_tip_17_0 rfl (lv_at hl 0 rfl) ?_
  obtain ⟨v1, hv1, hf⟩ := ob_s hf
  refine bg_X1_70 S hS hB (vR_s hv1) dX1_lambda_tip_17_1 ?_
  refine lv_iload_n hx hb dX1_lambda_tip_17_4 rfl (lv_at hl 1 rfl) ?_
  refine lv_iload_n hx hb dX1_lambda_tip_17_5 rfl (lv_at hl 2 rfl) ?_
  obtain ⟨g2, hf⟩ := gd_t hf
  obtain ⟨v3, hv3, hf⟩ := ob_s hf
  refine mc_X1_439 (fE := fE) (lE := lE) S hS hB g2 hv3 hl.1 ⟨(by show _ ≤ (fE + 6); omega), (by show _ ≤ (lE + 129); omega)⟩ (Nat.le_of_ble_eq_true rfl) ⟨(TL_m hT).1, (TL_m hT).2⟩ dX1_lambda_tip_17_6 (fun hnv3 => ?_)
  refine lv_if_eq (tgt := 40) hx hb dX1_lambda_tip_17_9 (by decide) (fun c4 => ?_) (fun c4 => ?_)
  · replace hf := it_t c4 hf
    refine lv_iconst hx hb dX1_lambda_tip_17_40 kc_i0 ?_
    have hE9 := TL_e hT hf
    subst hE9
    exact bt_z S hr hlocks hB (by omega) nb0 dX1_lambda_tip_17_41
  · replace hf := it_f c4 hf
    refine lv_aload_n hx hb dX1_lambda_tip_17_12 rfl (lv_at hl 0 rfl) ?_
    obtain ⟨v5, hv5, hf⟩ := ob_s hf
    refine bg_X1_70 S hS hB (vR_s hv5) dX1_lambda_tip_17_13 ?_
    refine lv_iload_n hx hb dX1_lambda_tip_17_16 rfl (lv_at hl 1 rfl) ?_
    refine lv_iload_n hx hb dX1_lambda_tip_17_17 rfl (lv_at hl 2 rfl) ?_
    obtain ⟨g6, hf⟩ := gd_t hf
    obtain ⟨v7, hv7, hf⟩ := ob_s hf
    refine mc_X1_325 (fE := fE) (lE := lE) S hS hB g6 hv7 hl.1 ⟨(by show _ ≤ (fE + 6); omega), (by show _ ≤ (lE + 129); omega)⟩ (Nat.le_of_ble_eq_true rfl) ⟨(TL_m hT).1, (TL_m hT).2⟩ dX1_lambda_tip_17_18 (fun hnv7 => ?_)
    refine lv_if_ne (tgt := 36) hx hb dX1_lambda_tip_17_21 (by decide) (fun c8 => ?_) (fun c8 => ?_)
    · replace hf := it_f c8 hf
      refine lv_iconst hx hb dX1_lambda_tip_17_36 kc_i1 ?_
      refine lv_goto (tgt := 41) hx hb dX1_lambda_tip_17_37 (by decide) ?_
      have hE9 := TL_e hT hf
      subst hE9
      exact bt_z S hr hlocks hB (by omega) nb1 dX1_lambda_tip_17_41
    · replace hf := it_t c8 hf
      refine lv_aload_n hx hb dX1_lambda_tip_17_24 rfl (lv_at hl 0 rfl) ?_
      obtain ⟨v9, hv9, hf⟩ := ob_s hf
      refine bg_X1_70 S hS hB (vR_s hv9) dX1_lambda_tip_17_25 ?_
      refine lv_iload_n hx hb dX1_lambda_tip_17_28 rfl (lv_at hl 1 rfl) ?_
      refine lv_iload_n hx hb dX1_lambda_tip_17_29 rfl (lv_at hl 2 rfl) ?_
      obtain ⟨g10, hf⟩ := gd_t hf
      obtain ⟨v11, hv11, hf⟩ := ob_s hf
      obtain ⟨o12, hf, hT⟩ := TL_c hT hf
      refine mc_X1_322 (fE := fE) (lE := lE) S hE hS hB g10 hv11 hl.1 ⟨(by show _ ≤ (fE + 6); omega), (by show _ ≤ (lE + 129); omega)⟩ (Nat.le_of_ble_eq_true rfl) ⟨(TL_m hT).1, (TL_m hT).2⟩ dX1_lambda_tip_17_30 (fun H locs _ hB => ?_)
      refine lv_if_ne (tgt := 40) hx hb dX1_lambda_tip_17_33 (by decide) (fun c13 => ?_) (fun c13 => ?_)
      · replace hf := it_f c13 hf
        refine lv_iconst hx hb dX1_lambda_tip_17_40 kc_i0 ?_
        have hE9 := TL_e hT hf
        subst hE9
        exact bt_z S hr hlocks hB (by omega) nb0 dX1_lambda_tip_17_41
      · replace hf := it_t c13 hf
        refine lv_iconst hx hb dX1_lambda_tip_17_36 kc_i1 ?_
        refine lv_goto (tgt := 41) hx hb dX1_lambda_tip_17_37 (by decide) ?_
        have hE9 := TL_e hT hf
        subst hE9
        exact bt_z S hr hlocks hB (by omega) nb1 dX1_lambda_tip_17_41
theorem hd_X1_aheadOf : yX1_aheadOf.cls = RX1 ∧ yX1_aheadOf.cls ≠ "java/lang/invoke/MethodHandle" ∧ yX1_aheadOf.cls ≠ "java/lang/invoke/VarHandle" ∧ (parseMethodDescriptor yX1_aheadOf.desc).map (fun d => d.parameters.length) = some 2 := by decide +kernel
set_option maxHeartbeats 4000000 in
set_option maxRecDepth 100000 in
theorem mm_X1_aheadOf {o : Nat} {a0 : Int32} {a1 : Int32} {out : Int32 × AH × Nat × Nat} (hE : IfOK l G E fE lE) (hf : f_X1_aheadOf E h nx o a0 a1 = some out) : Met l yX1_aheadOf (ws_ yX1_aheadOf cX1_aheadOf 3 (some .int)) (rC (fE + 2) (lE + 3100) out.2.2.1 out.2.2.2) (bPc G E.1 hSites h nx [.ref o, .int a0, .int a1]) (bQ G (some (.int out.1)) True out.2.1 (nx + out.2.2.1) (AA h nx)) out.2.2.1 out.2.2.2 (AA h nx) := by
  refine bGo (by decide +kernel) (Nat.le_of_ble_eq_true rfl) (fun p e s m below meth c ls S hr hlocks hin hnm hS hB hl => ?_)
  have S : CallFix p m c cX1_aheadOf 3 s _ lw_all RX1 := S
  obtain ⟨hx, hb, hml, hown, hts⟩ := id S
  have hl : lv_has ls 3 [(0, .ref o), (1, .int a0), (2, .int a1)] := hl
  have hT : TL out out 0 0 := TL_0
  rw [f_X1_aheadOf] at hf
  refine lv_aload_n hx hb dX1_aheadOf_0 rfl (lv_at hl 0 rfl) ?_
  obtain ⟨v1, hv1, hf⟩ := ob_s hf
  refine bg_X1_51 S hS hB (vR_s hv1) dX1_aheadOf_1 ?_
  obtain ⟨g2, hf⟩ := gd_t hf
  obtain ⟨v3, hv3, hf⟩ := ob_s hf
  refine mc_X1_130 (fE := fE) (lE := lE) S hS hB g2 hv3 hl.1 ⟨(by show _ ≤ (fE + 2); omega), (by show _ ≤ (lE + 3100); omega)⟩ (Nat.le_of_ble_eq_true rfl) ⟨(TL_m hT).1, (TL_m hT).2⟩ dX1_aheadOf_4 (fun _ => ?_)
  refine lv_aload_n hx hb dX1_aheadOf_7 rfl (lv_at hl 0 rfl) ?_
  refine lv_iload_n hx hb dX1_aheadOf_8 rfl (lv_at hl 1 rfl) ?_
  refine lv_iload_n hx hb dX1_aheadOf_9 rfl (lv_at hl 2 rfl) ?_
  obtain ⟨o4, hf, hT⟩ := TL_c hT hf
  refine b_lam S hS hB (k := 30) (vs := [.ref o, .int a0, .int a1]) hnm rfl lamL_30 (lamV_c rfl rfl (lamV_c rfl rfl (lamV_c rfl rfl lamV_n))) rfl hl.1 (by show _ ≤ (lE + 3100); simp only [List.map, List.sum_cons, List.sum_nil, Value.category]; omega) (TL_m hT).1 (TL_m hT).2 dX1_aheadOf_10 (fun H hB => ?_)
  obtain ⟨v5, hv5, hf⟩ := ob_s hf
  obtain ⟨o6, hf, hT⟩ := TL_c hT hf
  refine mc_X1_192 (fE := fE) (lE := lE) S hE hS hB hv5 hl.1 ⟨(by show _ ≤ (fE + 2); omega), (by show _ ≤ (lE + 3100); omega)⟩ (Nat.le_of_ble_eq_true rfl) ⟨(TL_m hT).1, (TL_m hT).2⟩ dX1_aheadOf_15 (fun H locs _ hB => ?_)
  have hE9 := TL_e hT hf
  subst hE9
  exact bt_i S hr hlocks hB (by omega) trivial dX1_aheadOf_18
set_option maxRecDepth 100000 in
theorem mc_X1_625 {o : Nat} {a0 : Int32} {a1 : Int32} {out : Int32 × AH × Nat × Nat} (S : CallFix p m c cc nL s args lw_all RX1) (hE : IfOK l G E fE lE) (hS : SK G E.1 hSites A s) (hB : BI G A s.heap h nx H locs) (ho : isO h o 0 = true) (hf : f_X1_aheadOf E h nx o a0 a1 = some out) (hsz : ls.size = nL) (hR : (fE + 2) + 1 ≤ R.frames ∧ 8 + (3 + 11) + (lE + 3100) ≤ R.locals) (hW : (rest.map fun v => v.category).sum ≤ 8) (hcs : cells + out.2.2.1 ≤ R.cells ∧ slots + out.2.2.2 ≤ R.slots) (hdg : decode cc pc = .ok (.invokevirtual 625, 3))  (kk : ∀ (H1 : Heap) (locs1 : List Loc), True → BI G A s.heap out.2.1 (nx + out.2.2.1) H1 locs1 → W p l e R s m args below meth c H1 locs1 (cells + out.2.2.1) (slots + out.2.2.2) Q (F0 m (pc + 3) ls (.int out.1 :: rest))) : W p l e R s m args below meth c H locs cells slots Q (F0 m pc ls (.int a1 :: .int a0 :: .ref o :: rest)) := by
  have hN := hS.2.1
  obtain ⟨fs, he⟩ := isO_s ho
  exact br_w (va_runV (As := [.int a0, .int a1]) S (mm_X1_aheadOf hE hf) (cwV 2 S.2.2.2.2 (lw_V q1522 q1524 qs61 q174 q1525) rfl rfl rfl hd_X1_aheadOf hR) (bPreV hS hB (ci := 0) rfl he) rfl rfl hsz rfl (lv_room hW) hdg hcs) hB kk
theorem hd_X1_lambda_tip_18 : yX1_lambda_tip_18.cls = RX1 ∧ yX1_lambda_tip_18.cls ≠ "java/lang/invoke/MethodHandle" ∧ yX1_lambda_tip_18.cls ≠ "java/lang/invoke/VarHandle" ∧ (parseMethodDescriptor yX1_lambda_tip_18.desc).map (fun d => d.parameters.length) = some 2 := by decide +kernel
set_option maxHeartbeats 4000000 in
set_option maxRecDepth 100000 in
theorem mm_X1_lambda_tip_18 {o : Nat} {a0 : Int32} {a1 : Int32} {out : Int32 × AH × Nat × Nat} (hE : IfOK l G E fE lE) (hf : f_X1_lambda_tip_18 E h nx o a0 a1 = some out) : Met l yX1_lambda_tip_18 (ws_ yX1_lambda_tip_18 cX1_lambda_tip_18 3 (some .int)) (rC (fE + 3) (lE + 3122) out.2.2.1 out.2.2.2) (bPc G E.1 hSites h nx [.ref o, .int a0, .int a1]) (bQ G (some (.int out.1)) True out.2.1 (nx + out.2.2.1) (AA h nx)) out.2.2.1 out.2.2.2 (AA h nx) := by
  refine bGo (by decide +kernel) (Nat.le_of_ble_eq_true rfl) (fun p e s m below meth c ls S hr hlocks hin hnm hS hB hl => ?_)
  have S : CallFix p m c cX1_lambda_tip_18 3 s _ lw_all RX1 := S
  obtain ⟨hx, hb, hml, hown, hts⟩ := id S
  have hl : lv_has ls 3 [(0, .ref o), (1, .int a0), (2, .int a1)] := hl
  have hT : TL out out 0 0 := TL_0
  rw [f_X1_lambda_tip_18] at hf
  refine lv_aload_n hx hb dX1_lambda_tip_18_0 rfl (lv_at hl 0 rfl) ?_
  refine lv_iload_n hx hb dX1_lambda_tip_18_1 rfl (lv_at hl 1 rfl) ?_
  refine lv_iload_n hx hb dX1_lambda_tip_18_2 rfl (lv_at hl 2 rfl) ?_
  obtain ⟨g1, hf⟩ := gd_t hf
  obtain ⟨v2, hv2, hf⟩ := ob_s hf
  obtain ⟨o3, hf, hT⟩ := TL_c hT hf
  refine mc_X1_625 (fE := fE) (lE := lE) S hE hS hB g1 hv2 hl.1 ⟨(by show _ ≤ (fE + 3); omega), (by show _ ≤ (lE + 3122); omega)⟩ (Nat.le_of_ble_eq_true rfl) ⟨(TL_m hT).1, (TL_m hT).2⟩ dX1_lambda_tip_18_3 (fun H locs _ hB => ?_)
  have hE9 := TL_e hT hf
  subst hE9
  exact bt_i S hr hlocks hB (by omega) trivial dX1_lambda_tip_18_6
theorem hd_X1_lambda_aheadOf_16 : yX1_lambda_aheadOf_16.cls = RX1 ∧ yX1_lambda_aheadOf_16.cls ≠ "java/lang/invoke/MethodHandle" ∧ yX1_lambda_aheadOf_16.cls ≠ "java/lang/invoke/VarHandle" ∧ (parseMethodDescriptor yX1_lambda_aheadOf_16.desc).map (fun d => d.parameters.length) = some 3 := by decide +kernel
set_option maxHeartbeats 4000000 in
set_option maxRecDepth 100000 in
theorem mm_X1_lambda_aheadOf_16 {o : Nat} {a0 : Int32} {a1 : Int32} {a2 : Int32} {out : Int32 × AH × Nat × Nat} (hE : IfOK l G E fE lE) (hf : f_X1_lambda_aheadOf_16 E h nx o a0 a1 a2 = some out) : Met l yX1_lambda_aheadOf_16 (ws_ yX1_lambda_aheadOf_16 cX1_lambda_aheadOf_16 4 (some .boolean)) (rC (fE + 2) (lE + 63) out.2.2.1 out.2.2.2) (bPc G E.1 hSites h nx [.ref o, .int a0, .int a1, .int a2]) (bQ G (some (.int out.1)) (narrow .boolean (.int out.1) = .int out.1) out.2.1 (nx + out.2.2.1) (AA h nx)) out.2.2.1 out.2.2.2 (AA h nx) := by
  refine bGo (by decide +kernel) (Nat.le_of_ble_eq_true rfl) (fun p e s m below meth c ls S hr hlocks hin hnm hS hB hl => ?_)
  have S : CallFix p m c cX1_lambda_aheadOf_16 4 s _ lw_all RX1 := S
  obtain ⟨hx, hb, hml, hown, hts⟩ := id S
  have hl : lv_has ls 4 [(0, .ref o), (1, .int a0), (2, .int a1), (3, .int a2)] := hl
  have hT : TL out out 0 0 := TL_0
  rw [f_X1_lambda_aheadOf_16] at hf
  refine lv_iload_n hx hb dX1_lambda_aheadOf_16_0 rfl (lv_at hl 3 rfl) ?_
  refine lv_iload_n hx hb dX1_lambda_aheadOf_16_1 rfl (lv_at hl 1 rfl) ?_
  refine lv_icmp_eq (tgt := 34) hx hb dX1_lambda_aheadOf_16_2 (by decide) (fun c1 => ?_) (fun c1 => ?_)
  · replace hf := it_t c1 hf
    refine lv_iconst hx hb dX1_lambda_aheadOf_16_34 kc_i0 ?_
    have hE9 := TL_e hT hf
    subst hE9
    exact bt_z S hr hlocks hB (by omega) nb0 dX1_lambda_aheadOf_16_35
  · replace hf := it_f c1 hf
    refine lv_aload_n hx hb dX1_lambda_aheadOf_16_5 rfl (lv_at hl 0 rfl) ?_
    obtain ⟨v2, hv2, hf⟩ := ob_s hf
    refine bg_X1_70 S hS hB (vR_s hv2) dX1_lambda_aheadOf_16_6 ?_
    refine lv_iload_n hx hb dX1_lambda_aheadOf_16_9 rfl (lv_at hl 3 rfl) ?_
    refine lv_iload_n hx hb dX1_lambda_aheadOf_16_10 rfl (lv_at hl 2 rfl) ?_
    obtain ⟨g3, hf⟩ := gd_t hf
    obtain ⟨v4, hv4, hf⟩ := ob_s hf
    refine mc_X1_325 (fE := fE) (lE := lE) S hS hB g3 hv4 hl.1 ⟨(by show _ ≤ (fE + 2); omega), (by show _ ≤ (lE + 63); omega)⟩ (Nat.le_of_ble_eq_true rfl) ⟨(TL_m hT).1, (TL_m hT).2⟩ dX1_lambda_aheadOf_16_11 (fun hnv4 => ?_)
    refine lv_if_eq (tgt := 34) hx hb dX1_lambda_aheadOf_16_14 (by decide) (fun c5 => ?_) (fun c5 => ?_)
    · replace hf := it_t c5 hf
      refine lv_iconst hx hb dX1_lambda_aheadOf_16_34 kc_i0 ?_
      have hE9 := TL_e hT hf
      subst hE9
      exact bt_z S hr hlocks hB (by omega) nb0 dX1_lambda_aheadOf_16_35
    · replace hf := it_f c5 hf
      refine lv_aload_n hx hb dX1_lambda_aheadOf_16_17 rfl (lv_at hl 0 rfl) ?_
      obtain ⟨v6, hv6, hf⟩ := ob_s hf
      refine bg_X1_70 S hS hB (vR_s hv6) dX1_lambda_aheadOf_16_18 ?_
      refine lv_iload_n hx hb dX1_lambda_aheadOf_16_21 rfl (lv_at hl 2 rfl) ?_
      refine lv_iload_n hx hb dX1_lambda_aheadOf_16_22 rfl (lv_at hl 3 rfl) ?_
      refine lv_iload_n hx hb dX1_lambda_aheadOf_16_23 rfl (lv_at hl 1 rfl) ?_
      obtain ⟨g7, hf⟩ := gd_t hf
      obtain ⟨v8, hv8, hf⟩ := ob_s hf
      obtain ⟨o9, hf, hT⟩ := TL_c hT hf
      refine mc_X1_628 (fE := fE) (lE := lE) S hE hS hB g7 hv8 hl.1 ⟨(by show _ ≤ (fE + 2); omega), (by show _ ≤ (lE + 63); omega)⟩ (Nat.le_of_ble_eq_true rfl) ⟨(TL_m hT).1, (TL_m hT).2⟩ dX1_lambda_aheadOf_16_24 (fun H locs _ hB => ?_)
      refine lv_if_ge (tgt := 34) hx hb dX1_lambda_aheadOf_16_27 (by decide) (fun c10 => ?_) (fun c10 => ?_)
      · replace hf := it_t c10 hf
        refine lv_iconst hx hb dX1_lambda_aheadOf_16_34 kc_i0 ?_
        have hE9 := TL_e hT hf
        subst hE9
        exact bt_z S hr hlocks hB (by omega) nb0 dX1_lambda_aheadOf_16_35
      · replace hf := it_f c10 hf
        refine lv_iconst hx hb dX1_lambda_aheadOf_16_30 kc_i1 ?_
        refine lv_goto (tgt := 35) hx hb dX1_lambda_aheadOf_16_31 (by decide) ?_
        have hE9 := TL_e hT hf
        subst hE9
        exact bt_z S hr hlocks hB (by omega) nb1 dX1_lambda_aheadOf_16_35
theorem hd_X1_dearness : yX1_dearness.cls = RX1 ∧ yX1_dearness.cls ≠ "java/lang/invoke/MethodHandle" ∧ yX1_dearness.cls ≠ "java/lang/invoke/VarHandle" ∧ (parseMethodDescriptor yX1_dearness.desc).map (fun d => d.parameters.length) = some 2 := by decide +kernel
set_option maxHeartbeats 4000000 in
set_option maxRecDepth 100000 in
theorem mm_X1_dearness {o : Nat} {a0 : Int32} {a1 : Int32} {out : Int32} (hf : f_X1_dearness E h o a0 a1 = some out) : Met l yX1_dearness (ws_ yX1_dearness cX1_dearness 4 (some .int)) (rM (fE + 1) (lE + 22)) (bPc G E.1 hSites h nx [.ref o, .int a0, .int a1]) (gR (some (.int out)) True) 0 0 (fun _ => False) := by
  refine bGo (by decide +kernel) (Nat.le_of_ble_eq_true rfl) (fun p e s m below meth c ls S hr hlocks hin hnm hS hB hl => ?_)
  have S : CallFix p m c cX1_dearness 4 s _ lw_all RX1 := S
  obtain ⟨hx, hb, hml, hown, hts⟩ := id S
  have hl : lv_has ls 4 [(0, .ref o), (1, .int a0), (2, .int a1)] := hl
  have w2 : ∀ (n : Nat) , ∀ (x0 : Nat) (x1 : Int32) (x2 : Int32) (x3 : Int32) (ls : Array Slot), lv_has ls 4 [(0, .ref x0), (1, .int x1), (2, .int x2), (3, .int x3)] → f_X1_dearness_2 n E h x0 x1 x2 x3 = some out → W p l e (rM (fE + 1) (lE + 22)) s m ([.ref o, .int a0, .int a1] : List Value).toArray below meth c s.heap [] 0 0 (MQ below (gR (some (.int out)) True) ([.ref o, .int a0, .int a1] : List Value).toArray s 0 0 (fun _ => False)) (F0 m 2 ls []) := by
    intro n
    induction n with
    | zero =>
      intro x0 x1 x2 x3 ls hl hf
      exact absurd hf (by rw [f_X1_dearness_2]; exact nofun)
    | succ n ih =>
      intro x0 x1 x2 x3 ls hl hf
      rw [f_X1_dearness_2] at hf
      refine lv_iload_n hx hb dX1_dearness_2 rfl (lv_at hl 3 rfl) ?_
      refine lv_aload_n hx hb dX1_dearness_3 rfl (lv_at hl 0 rfl) ?_
      obtain ⟨v1, hv1, hf⟩ := ob_s hf
      refine bg_X1_70 S hS hB (vR_s hv1) dX1_dearness_4 ?_
      obtain ⟨v2, hv2, hf⟩ := ob_s hf
      refine bg_X1_271 S hS hB (vR_s hv2) dX1_dearness_7 ?_
      refine lv_iload_n hx hb dX1_dearness_10 rfl (lv_at hl 1 rfl) ?_
      obtain ⟨v3, hv3, hf⟩ := ob_s hf
      refine b_iald S hS.1 hB hv3 dX1_dearness_11 ?_
      refine lv_icmp_ge (tgt := 36) hx hb dX1_dearness_12 (by decide) (fun c4 => ?_) (fun c4 => ?_)
      · replace hf := it_t c4 hf
        refine lv_iload_n hx hb dX1_dearness_36 rfl (lv_at hl 2 rfl) ?_
        have hE9 := Option.some.inj hf
        subst hE9
        exact gt_ri S hr hlocks trivial dX1_dearness_37
      · replace hf := it_f c4 hf
        refine lv_aload_n hx hb dX1_dearness_15 rfl (lv_at hl 0 rfl) ?_
        obtain ⟨v5, hv5, hf⟩ := ob_s hf
        refine bg_X1_70 S hS hB (vR_s hv5) dX1_dearness_16 ?_
        refine lv_iload_n hx hb dX1_dearness_19 rfl (lv_at hl 1 rfl) ?_
        refine lv_iload_n hx hb dX1_dearness_20 rfl (lv_at hl 3 rfl) ?_
        obtain ⟨g6, hf⟩ := gd_t hf
        obtain ⟨v7, hv7, hf⟩ := ob_s hf
        refine mc_X1_274 (fE := fE) (lE := lE) S hS hB g6 hv7 hl.1 ⟨(by show _ ≤ (fE + 1); omega), (by show _ ≤ (lE + 22); omega)⟩ (Nat.le_of_ble_eq_true rfl) ⟨Nat.zero_le _, Nat.zero_le _⟩ dX1_dearness_21 (fun _ => ?_)
        refine lv_iload_n hx hb dX1_dearness_24 rfl (lv_at hl 2 rfl) ?_
        refine lv_icmp_ne (tgt := 30) hx hb dX1_dearness_25 (by decide) (fun c8 => ?_) (fun c8 => ?_)
        · replace hf := it_f c8 hf
          refine lv_iinc (v := (x3 + 1)) (lv' := [(3, .int (x3 + 1)), (0, .ref x0), (1, .int x1), (2, .int x2)]) hx hb dX1_dearness_30 hl (k := 3) rfl rfl (by decide) rfl (fun ls hl => ?_)
          refine lv_goto (tgt := 2) hx hb dX1_dearness_33 (by decide) ?_
          exact (ih) x0 x1 x2 (x3 + 1) ls (lv_sub (l' := [(0, .ref x0), (1, .int x1), (2, .int x2), (3, .int (x3 + 1))]) hl [1, 2, 3, 0] rfl) hf
        · replace hf := it_t c8 hf
          refine lv_iload_n hx hb dX1_dearness_28 rfl (lv_at hl 3 rfl) ?_
          have hE9 := Option.some.inj hf
          subst hE9
          exact gt_ri S hr hlocks trivial dX1_dearness_29
  rw [f_X1_dearness] at hf
  refine lv_iconst hx hb dX1_dearness_0 kc_i0 ?_
  refine lv_istore_n (i := 3) (lv' := [(3, .int 0), (0, .ref o), (1, .int a0), (2, .int a1)]) hx hb dX1_dearness_1 rfl hl (by decide) rfl (fun ls hl => ?_)
  exact (w2 FU) o a0 a1 0 ls (lv_sub (l' := [(0, .ref o), (1, .int a0), (2, .int a1), (3, .int 0)]) hl [1, 2, 3, 0] rfl) hf
set_option maxRecDepth 100000 in
theorem mc_X1_472 {o : Nat} {a0 : Int32} {a1 : Int32} {out : Int32} (S : CallFix p m c cc nL s args lw_all RX1) (hS : SK G E.1 hSites A s) (hB : BI G A s.heap h nx H locs) (ho : isO h o 0 = true) (hf : f_X1_dearness E h o a0 a1 = some out) (hsz : ls.size = nL) (hR : (fE + 1) + 1 ≤ R.frames ∧ 8 + (4 + 11) + (lE + 22) ≤ R.locals) (hW : (rest.map fun v => v.category).sum ≤ 8) (hcs : cells ≤ R.cells ∧ slots ≤ R.slots) (hdg : decode cc pc = .ok (.invokevirtual 472, 3))  (kk : True → W p l e R s m args below meth c H locs cells slots Q (F0 m (pc + 3) ls (.int out :: rest))) : W p l e R s m args below meth c H locs cells slots Q (F0 m pc ls (.int a1 :: .int a0 :: .ref o :: rest)) := by
  have hN := hS.2.1
  obtain ⟨fs, he⟩ := isO_s ho
  exact br_r (va_runV (As := [.int a0, .int a1]) S (mm_X1_dearness (l := l) (G := G) (nx := nx) (fE := fE) (lE := lE) hf) (cwV 2 S.2.2.2.2 (lw_V q1533 q1535 qs64 q174 q1536) rfl rfl rfl hd_X1_dearness hR) (bPreV hS hB (ci := 0) rfl he) rfl rfl hsz rfl (lv_room hW) hdg hcs) kk
theorem hd_X1_lambda_tip_19 : yX1_lambda_tip_19.cls = RX1 ∧ yX1_lambda_tip_19.cls ≠ "java/lang/invoke/MethodHandle" ∧ yX1_lambda_tip_19.cls ≠ "java/lang/invoke/VarHandle" ∧ (parseMethodDescriptor yX1_lambda_tip_19.desc).map (fun d => d.parameters.length) = some 2 := by decide +kernel
set_option maxHeartbeats 4000000 in
set_option maxRecDepth 100000 in
theorem mm_X1_lambda_tip_19 {o : Nat} {a0 : Int32} {a1 : Int32} {out : Int32} (hf : f_X1_lambda_tip_19 E h o a0 a1 = some out) : Met l yX1_lambda_tip_19 (ws_ yX1_lambda_tip_19 cX1_lambda_tip_19 3 (some .int)) (rM (fE + 2) (lE + 45)) (bPc G E.1 hSites h nx [.ref o, .int a0, .int a1]) (gR (some (.int out)) True) 0 0 (fun _ => False) := by
  refine bGo (by decide +kernel) (Nat.le_of_ble_eq_true rfl) (fun p e s m below meth c ls S hr hlocks hin hnm hS hB hl => ?_)
  have S : CallFix p m c cX1_lambda_tip_19 3 s _ lw_all RX1 := S
  obtain ⟨hx, hb, hml, hown, hts⟩ := id S
  have hl : lv_has ls 3 [(0, .ref o), (1, .int a0), (2, .int a1)] := hl
  rw [f_X1_lambda_tip_19] at hf
  refine lv_aload_n hx hb dX1_lambda_tip_19_0 rfl (lv_at hl 0 rfl) ?_
  refine lv_iload_n hx hb dX1_lambda_tip_19_1 rfl (lv_at hl 1 rfl) ?_
  refine lv_iload_n hx hb dX1_lambda_tip_19_2 rfl (lv_at hl 2 rfl) ?_
  obtain ⟨g1, hf⟩ := gd_t hf
  obtain ⟨v2, hv2, hf⟩ := ob_s hf
  refine mc_X1_472 (fE := fE) (lE := lE) S hS hB g1 hv2 hl.1 ⟨(by show _ ≤ (fE + 2); omega), (by show _ ≤ (lE + 45); omega)⟩ (Nat.le_of_ble_eq_true rfl) ⟨Nat.zero_le _, Nat.zero_le _⟩ dX1_lambda_tip_19_3 (fun _ => ?_)
  have hE9 := Option.some.inj hf
  subst hE9
  exact gt_ri S hr hlocks trivial dX1_lambda_tip_19_6
theorem hd_X1_would : yX1_would.cls = RX1 ∧ yX1_would.cls ≠ "java/lang/invoke/MethodHandle" ∧ yX1_would.cls ≠ "java/lang/invoke/VarHandle" ∧ (parseMethodDescriptor yX1_would.desc).map (fun d => d.parameters.length) = some 2 := by decide +kernel
set_option maxHeartbeats 4000000 in
set_option maxRecDepth 100000 in
theorem mm_X1_would {o : Nat} {a0 : Int32} {a1 : Int32} {out : Int32 × AH × Nat × Nat} (hE : IfOK l G E fE lE) (hf : f_X1_would E h nx o a0 a1 = some out) : Met l yX1_would (ws_ yX1_would cX1_would 6 (some .int)) (rC (fE + 11) (lE + 354) out.2.2.1 out.2.2.2) (bPc G E.1 hSites h nx [.ref o, .int a0, .int a1]) (bQ G (some (.int out.1)) True out.2.1 (nx + out.2.2.1) (AA h nx)) out.2.2.1 out.2.2.2 (AA h nx) := by
  refine bGo (by decide +kernel) (Nat.le_of_ble_eq_true rfl) (fun p e s m below meth c ls S hr hlocks hin hnm hS hB hl => ?_)
  have S : CallFix p m c cX1_would 6 s _ lw_all RX1 := S
  obtain ⟨hx, hb, hml, hown, hts⟩ := id S
  have hl : lv_has ls 6 [(0, .ref o), (1, .int a0), (2, .int a1)] := hl
  have w88 : ∀ (n : Nat) , ∀ (x1 : Int32) (x2 : Int32) (x4 : Nat) (hc : AH) (nc : Nat) (ls : Array Slot) (H : Heap) (locs : List Loc) (ce sl : Nat) (o1 : Int32 × AH × Nat × Nat), BI G (AA h nx) s.heap hc nc H locs → nc = nx + ce → TL out o1 ce sl → lv_has ls 6 [(1, .int x1), (2, .int x2), (4, .ref x4)] → f_X1_would_88 n E x1 x2 x4 hc nc = some o1 → W p l e (rC (fE + 11) (lE + 354) out.2.2.1 out.2.2.2) s m ([.ref o, .int a0, .int a1] : List Value).toArray below meth c H locs ce sl (MQ below (bQ G (some (.int out.1)) True out.2.1 (nx + out.2.2.1) (AA h nx)) ([.ref o, .int a0, .int a1] : List Value).toArray s out.2.2.1 out.2.2.2 (AA h nx)) (F0 m 88 ls []) := by
    intro n
    induction n with
    | zero =>
      intro x1 x2 x4 hc nc ls H locs ce sl o1 hB hn hT hl hf
      exact absurd hf (by rw [f_X1_would_88]; exact nofun)
    | succ n ih =>
      intro x1 x2 x4 hc nc ls H locs ce sl o1 hB hn hT hl hf
      rw [f_X1_would_88] at hf
      refine lv_aload hx hb dX1_would_88 (lv_at hl 2 rfl) ?_
      obtain ⟨g1, hf⟩ := gd_t hf
      obtain ⟨v2, hv2, hf⟩ := ob_s hf
      refine mc_X1_407 (fE := fE) (lE := lE) S hS hB g1 hv2 hl.1 ⟨(by show _ ≤ (fE + 11); omega), (by show _ ≤ (lE + 354); omega)⟩ (Nat.le_of_ble_eq_true rfl) ⟨(TL_m hT).1, (TL_m hT).2⟩ dX1_would_90 (fun hnv2 => ?_)
      refine lv_if_eq (tgt := 136) hx hb dX1_would_95 (by decide) (fun c3 => ?_) (fun c3 => ?_)
      · replace hf := it_t c3 hf
        refine lv_iconst hx hb dX1_would_136 kc_i0 ?_
        have hE9 := TL_e hT hf
        subst hE9
        exact bt_i S hr hlocks hB (by omega) trivial dX1_would_137
      · replace hf := it_f c3 hf
        refine lv_aload hx hb dX1_would_98 (lv_at hl 2 rfl) ?_
        obtain ⟨g4, hf⟩ := gd_t hf
        obtain ⟨v5, hv5, hf⟩ := ob_s hf
        obtain ⟨o6, hf, hT⟩ := TL_c hT hf
        refine mc_X1_412 (fE := fE) (lE := lE) S hS hB g4 hv5 hl.1 ⟨(by show _ ≤ (fE + 11); omega), (by show _ ≤ (lE + 354); omega)⟩ (Nat.le_of_ble_eq_true rfl) ⟨(TL_m hT).1, (TL_m hT).2⟩ dX1_would_100 (fun H locs _ hB => ?_)
        obtain ⟨g7, hf⟩ := gd_t hf
        refine b_castA S hB 0 rfl (hS.1.2 0 _ rfl).2 (hts _ q1326) g7 dX1_would_105 ?_
        refine lv_astore (lv' := [(5, .ref v5.1), (1, .int x1), (2, .int x2), (4, .ref x4)]) hx hb dX1_would_108 hl (by decide) rfl (fun ls hl => ?_)
        refine lv_aload hx hb dX1_would_110 (lv_at hl 0 rfl) ?_
        refine lv_iconst hx hb dX1_would_112 kc_i0 ?_
        obtain ⟨v8, hv8, hf⟩ := ob_s hf
        refine b_iald S hS.1 hB hv8 dX1_would_113 ?_
        refine lv_iload_n hx hb dX1_would_114 rfl (lv_at hl 1 rfl) ?_
        refine lv_icmp_ne (tgt := 133) hx hb dX1_would_115 (by decide) (fun c9 => ?_) (fun c9 => ?_)
        · replace hf := it_f c9 hf
          refine lv_goto (tgt := 88) hx hb dX1_would_133 (by decide) ?_
          exact (ih) x1 x2 x4 v5.2.1 (nc + v5.2.2.1) ls H locs (ce + v5.2.2.1) (sl + v5.2.2.2) o6 hB (by omega) hT (lv_sub (l' := [(1, .int x1), (2, .int x2), (4, .ref x4)]) hl [1, 2, 3] rfl) hf
        · replace hf := it_t c9 hf
          refine lv_aload hx hb dX1_would_118 (lv_at hl 0 rfl) ?_
          refine lv_iconst hx hb dX1_would_120 kc_i1 ?_
          obtain ⟨v10, hv10, hf⟩ := ob_s hf
          refine b_iald S hS.1 hB hv10 dX1_would_121 ?_
          refine lv_iload_n hx hb dX1_would_122 rfl (lv_at hl 2 rfl) ?_
          refine lv_icmp_ne (tgt := 133) hx hb dX1_would_123 (by decide) (fun c11 => ?_) (fun c11 => ?_)
          · replace hf := it_f c11 hf
            refine lv_goto (tgt := 88) hx hb dX1_would_133 (by decide) ?_
            exact (ih) x1 x2 x4 v5.2.1 (nc + v5.2.2.1) ls H locs (ce + v5.2.2.1) (sl + v5.2.2.2) o6 hB (by omega) hT (lv_sub (l' := [(1, .int x1), (2, .int x2), (4, .ref x4)]) hl [1, 2, 3] rfl) hf
          · replace hf := it_t c11 hf
            refine lv_iconst hx hb dX1_would_126 kc_i2 ?_
            refine lv_aload hx hb dX1_would_127 (lv_at hl 0 rfl) ?_
            refine lv_iconst hx hb dX1_would_129 kc_i2 ?_
            obtain ⟨v12, hv12, hf⟩ := ob_s hf
            refine b_iald S hS.1 hB hv12 dX1_would_130 ?_
            refine lv_isub hx hb dX1_would_131 ?_
            have hE9 := TL_e hT hf
            subst hE9
            exact bt_i S hr hlocks hB (by omega) trivial dX1_would_132
  have w37 : ∀ (x0 : Nat) (x1 : Int32) (x2 : Int32) (y0 : Nat) (y1 : Int32) (hc : AH) (nc : Nat) (ls : Array Slot) (H : Heap) (locs : List Loc) (ce sl : Nat) (o1 : Int32 × AH × Nat × Nat), BI G (AA h nx) s.heap hc nc H locs → nc = nx + ce → TL out o1 ce sl → lv_has ls 6 [(0, .ref x0), (1, .int x1), (2, .int x2)] → f_X1_would_37 E x0 x1 x2 y0 y1 hc nc = some o1 → W p l e (rC (fE + 11) (lE + 354) out.2.2.1 out.2.2.2) s m ([.ref o, .int a0, .int a1] : List Value).toArray below meth c H locs ce sl (MQ below (bQ G (some (.int out.1)) True out.2.1 (nx + out.2.2.1) (AA h nx)) ([.ref o, .int a0, .int a1] : List Value).toArray s out.2.2.1 out.2.2.2 (AA h nx)) (F0 m 37 ls [.int y1, .ref y0]) := by
    intro x0 x1 x2 y0 y1 hc nc ls H locs ce sl o1 hB hn hT hl hf
    rw [f_X1_would_37] at hf
    obtain ⟨g1, hf⟩ := gd_t hf
    obtain ⟨v2, hv2, hf⟩ := ob_s hf
    obtain ⟨o3, hf, hT⟩ := TL_c hT hf
    refine mc_X1_155 (fE := fE) (lE := lE) S hS hB g1 hv2 hl.1 ⟨(by show _ ≤ (fE + 11); omega), (by show _ ≤ (lE + 354); omega)⟩ (Nat.le_of_ble_eq_true rfl) ⟨(TL_m hT).1, (TL_m hT).2⟩ dX1_would_37 (fun H locs hnv2 hB => ?_)
    refine lv_if_ne (tgt := 45) hx hb dX1_would_40 (by decide) (fun c4 => ?_) (fun c4 => ?_)
    · replace hf := it_f c4 hf
      refine lv_aload_n hx hb dX1_would_45 rfl (lv_at hl 0 rfl) ?_
      obtain ⟨v5, hv5, hf⟩ := ob_s hf
      refine bg_X1_74 S hS hB (vR_s hv5) dX1_would_46 ?_
      refine lv_aload_n hx hb dX1_would_49 rfl (lv_at hl 0 rfl) ?_
      obtain ⟨v6, hv6, hf⟩ := ob_s hf
      refine bg_X1_70 S hS hB (vR_s hv6) dX1_would_50 ?_
      obtain ⟨g7, hf⟩ := gd_t hf
      obtain ⟨v8, hv8, hf⟩ := ob_s hf
      obtain ⟨o9, hf, hT⟩ := TL_c hT hf
      refine mc_X1_396 (fE := fE) (lE := lE) S hS hB g7 hv8 hl.1 ⟨(by show _ ≤ (fE + 11); omega), (by show _ ≤ (lE + 354); omega)⟩ (Nat.le_of_ble_eq_true rfl) ⟨(TL_m hT).1, (TL_m hT).2⟩ dX1_would_53 (fun H locs _ hB => ?_)
      refine lv_aload_n hx hb dX1_would_56 rfl (lv_at hl 0 rfl) ?_
      obtain ⟨v10, hv10, hf⟩ := ob_s hf
      refine bg_X1_74 S hS hB (vR_s hv10) dX1_would_57 ?_
      obtain ⟨v11, hv11, hf⟩ := ob_s hf
      refine bg_X1_432 S hS hB (vR_s hv11) dX1_would_60 ?_
      refine lv_iload_n hx hb dX1_would_63 rfl (lv_at hl 1 rfl) ?_
      refine lv_iconst hx hb dX1_would_64 kc_i1 ?_
      refine lv_iload_n hx hb dX1_would_65 rfl (lv_at hl 2 rfl) ?_
      refine lv_ishl hx hb dX1_would_66 ?_
      obtain ⟨h12, hh12, hf⟩ := ob_s hf
      refine b_iast S hS.1 hB hh12 dX1_would_67 (fun H locs hB => ?_)
      refine lv_aload_n hx hb dX1_would_68 rfl (lv_at hl 0 rfl) ?_
      obtain ⟨v13, hv13, hf⟩ := ob_s hf
      refine bg_X1_74 S hS hB (vR_s hv13) dX1_would_69 ?_
      obtain ⟨g14, hf⟩ := gd_t hf
      obtain ⟨v15, hv15, hf⟩ := ob_s hf
      obtain ⟨o16, hf, hT⟩ := TL_c hT hf
      refine mc_X1_435 (fE := fE) (lE := lE) S hE hS hB g14 hv15 hl.1 ⟨(by show _ ≤ (fE + 11); omega), (by show _ ≤ (lE + 354); omega)⟩ (Nat.le_of_ble_eq_true rfl) ⟨(TL_m hT).1, (TL_m hT).2⟩ dX1_would_72 (fun H locs _ hB => ?_)
      refine lv_pop hx hb dX1_would_75 rfl ?_
      refine lv_aload_n hx hb dX1_would_76 rfl (lv_at hl 0 rfl) ?_
      obtain ⟨v17, hv17, hf⟩ := ob_s hf
      refine bg_X1_74 S hS hB (vR_s hv17) dX1_would_77 ?_
      obtain ⟨v18, hv18, hf⟩ := ob_s hf
      refine bg_X1_229 S hS hB (vR_s hv18) dX1_would_80 ?_
      obtain ⟨g19, hf⟩ := gd_t hf
      obtain ⟨v20, hv20, hf⟩ := ob_s hf
      obtain ⟨o21, hf, hT⟩ := TL_c hT hf
      refine mc_X1_403 (fE := fE) (lE := lE) S hS hB g19 hv20 hl.1 ⟨(by show _ ≤ (fE + 11); omega), (by show _ ≤ (lE + 354); omega)⟩ (Nat.le_of_ble_eq_true rfl) ⟨(TL_m hT).1, (TL_m hT).2⟩ dX1_would_83 (fun H locs _ hB => ?_)
      refine lv_astore (lv' := [(4, .ref v20.1), (0, .ref x0), (1, .int x1), (2, .int x2)]) hx hb dX1_would_86 hl (by decide) rfl (fun ls hl => ?_)
      exact (w88 FU) x1 x2 v20.1 v20.2.1 ((((nc + v2.2.2.1) + v8.2.2.1) + v15.2.2.1) + v20.2.2.1) ls H locs ((((ce + v2.2.2.1) + v8.2.2.1) + v15.2.2.1) + v20.2.2.1) ((((sl + v2.2.2.2) + v8.2.2.2) + v15.2.2.2) + v20.2.2.2) o21 hB (by omega) hT (lv_sub (l' := [(1, .int x1), (2, .int x2), (4, .ref v20.1)]) hl [2, 3, 0] rfl) hf
    · replace hf := it_t c4 hf
      refine lv_iconst hx hb dX1_would_43 kc_im1 ?_
      have hE9 := TL_e hT hf
      subst hE9
      exact bt_i S hr hlocks hB (by omega) trivial dX1_would_44
  have hT : TL out out 0 0 := TL_0
  rw [f_X1_would] at hf
  refine lv_aload_n hx hb dX1_would_0 rfl (lv_at hl 0 rfl) ?_
  refine lv_iload_n hx hb dX1_would_1 rfl (lv_at hl 1 rfl) ?_
  refine lv_iload_n hx hb dX1_would_2 rfl (lv_at hl 2 rfl) ?_
  obtain ⟨g1, hf⟩ := gd_t hf
  obtain ⟨v2, hv2, hf⟩ := ob_s hf
  refine mc_X1_319 (fE := fE) (lE := lE) S hS hB g1 hv2 hl.1 ⟨(by show _ ≤ (fE + 11); omega), (by show _ ≤ (lE + 354); omega)⟩ (Nat.le_of_ble_eq_true rfl) ⟨(TL_m hT).1, (TL_m hT).2⟩ dX1_would_3 (fun _ => ?_)
  refine lv_istore_n (i := 3) (lv' := [(3, .int v2), (0, .ref o), (1, .int a0), (2, .int a1)]) hx hb dX1_would_6 rfl hl (by decide) rfl (fun ls hl => ?_)
  refine lv_aload_n hx hb dX1_would_7 rfl (lv_at hl 1 rfl) ?_
  refine lv_iload_n hx hb dX1_would_8 rfl (lv_at hl 0 rfl) ?_
  refine lv_if_ne (tgt := 36) hx hb dX1_would_9 (by decide) (fun c3 => ?_) (fun c3 => ?_)
  · replace hf := it_f c3 hf
    refine lv_iload_n hx hb dX1_would_36 rfl (lv_at hl 0 rfl) ?_
    exact (w37) o a0 a1 o v2 h nx ls s.heap [] 0 0 out hB (by omega) hT (lv_sub (l' := [(0, .ref o), (1, .int a0), (2, .int a1)]) hl [1, 2, 3] rfl) hf
  · replace hf := it_t c3 hf
    refine lv_aload_n hx hb dX1_would_12 rfl (lv_at hl 1 rfl) ?_
    refine lv_iload_n hx hb dX1_would_13 rfl (lv_at hl 2 rfl) ?_
    refine lv_iload_n hx hb dX1_would_14 rfl (lv_at hl 3 rfl) ?_
    obtain ⟨g4, hf⟩ := gd_t hf
    obtain ⟨v5, hv5, hf⟩ := ob_s hf
    refine mc_X1_341 (fE := fE) (lE := lE) S hS hB g4 hv5 hl.1 ⟨(by show _ ≤ (fE + 11); omega), (by show _ ≤ (lE + 354); omega)⟩ (Nat.le_of_ble_eq_true rfl) ⟨(TL_m hT).1, (TL_m hT).2⟩ dX1_would_15 (fun hnv5 => ?_)
    refine lv_if_eq (tgt := 32) hx hb dX1_would_18 (by decide) (fun c6 => ?_) (fun c6 => ?_)
    · replace hf := it_t c6 hf
      refine lv_iconst hx hb dX1_would_32 kc_i5 ?_
      refine lv_goto (tgt := 37) hx hb dX1_would_33 (by decide) ?_
      exact (w37) o a0 a1 o (nI 5) h nx ls s.heap [] 0 0 out hB (by omega) hT (lv_sub (l' := [(0, .ref o), (1, .int a0), (2, .int a1)]) hl [1, 2, 3] rfl) hf
    · replace hf := it_f c6 hf
      refine lv_aload_n hx hb dX1_would_21 rfl (lv_at hl 1 rfl) ?_
      obtain ⟨v7, hv7, hf⟩ := ob_s hf
      refine bg_X1_70 S hS hB (vR_s hv7) dX1_would_22 ?_
      refine lv_iload_n hx hb dX1_would_25 rfl (lv_at hl 3 rfl) ?_
      obtain ⟨g8, hf⟩ := gd_t hf
      obtain ⟨v9, hv9, hf⟩ := ob_s hf
      refine mc_X1_250 (fE := fE) (lE := lE) S hS hB g8 hv9 hl.1 ⟨(by show _ ≤ (fE + 11); omega), (by show _ ≤ (lE + 354); omega)⟩ (Nat.le_of_ble_eq_true rfl) ⟨(TL_m hT).1, (TL_m hT).2⟩ dX1_would_26 (fun hnv9 => ?_)
      refine lv_if_ne (tgt := 36) hx hb dX1_would_29 (by decide) (fun c10 => ?_) (fun c10 => ?_)
      · replace hf := it_f c10 hf
        refine lv_iload_n hx hb dX1_would_36 rfl (lv_at hl 0 rfl) ?_
        exact (w37) o a0 a1 o v2 h nx ls s.heap [] 0 0 out hB (by omega) hT (lv_sub (l' := [(0, .ref o), (1, .int a0), (2, .int a1)]) hl [1, 2, 3] rfl) hf
      · replace hf := it_t c10 hf
        refine lv_iconst hx hb dX1_would_32 kc_i5 ?_
        refine lv_goto (tgt := 37) hx hb dX1_would_33 (by decide) ?_
        exact (w37) o a0 a1 o (nI 5) h nx ls s.heap [] 0 0 out hB (by omega) hT (lv_sub (l' := [(0, .ref o), (1, .int a0), (2, .int a1)]) hl [1, 2, 3] rfl) hf
theorem hd_X1_top : yX1_top.cls = RX1 ∧ yX1_top.cls ≠ "java/lang/invoke/MethodHandle" ∧ yX1_top.cls ≠ "java/lang/invoke/VarHandle" ∧ (parseMethodDescriptor yX1_top.desc).map (fun d => d.parameters.length) = some 1 := by decide +kernel
set_option maxHeartbeats 4000000 in
set_option maxRecDepth 100000 in
theorem mm_X1_top {o : Nat} {a0 : Int32} {out : Int32 × AH × Nat × Nat} (hE : IfOK l G E fE lE) (hf : f_X1_top E h nx o a0 = some out) : Met l yX1_top (ws_ yX1_top cX1_top 2 (some .int)) (rC (fE + 3) (lE + 3122) out.2.2.1 out.2.2.2) (bPc G E.1 hSites h nx [.ref o, .int a0]) (bQ G (some (.int out.1)) True out.2.1 (nx + out.2.2.1) (AA h nx)) out.2.2.1 out.2.2.2 (AA h nx) := by
  refine bGo (by decide +kernel) (Nat.le_of_ble_eq_true rfl) (fun p e s m below meth c ls S hr hlocks hin hnm hS hB hl => ?_)
  have S : CallFix p m c cX1_top 2 s _ lw_all RX1 := S
  obtain ⟨hx, hb, hml, hown, hts⟩ := id S
  have hl : lv_has ls 2 [(0, .ref o), (1, .int a0)] := hl
  have w14 : ∀ (x0 : Nat) (x1 : Int32) (y0 : Nat) (y1 : Int32) (hc : AH) (nc : Nat) (ls : Array Slot) (H : Heap) (locs : List Loc) (ce sl : Nat) (o1 : Int32 × AH × Nat × Nat), BI G (AA h nx) s.heap hc nc H locs → nc = nx + ce → TL out o1 ce sl → lv_has ls 2 [(0, .ref x0), (1, .int x1)] → f_X1_top_14 E x0 x1 y0 y1 hc nc = some o1 → W p l e (rC (fE + 3) (lE + 3122) out.2.2.1 out.2.2.2) s m ([.ref o, .int a0] : List Value).toArray below meth c H locs ce sl (MQ below (bQ G (some (.int out.1)) True out.2.1 (nx + out.2.2.1) (AA h nx)) ([.ref o, .int a0] : List Value).toArray s out.2.2.1 out.2.2.2 (AA h nx)) (F0 m 14 ls [.int y1, .ref y0]) := by
    intro x0 x1 y0 y1 hc nc ls H locs ce sl o1 hB hn hT hl hf
    rw [f_X1_top_14] at hf
    obtain ⟨g1, hf⟩ := gd_t hf
    obtain ⟨v2, hv2, hf⟩ := ob_s hf
    obtain ⟨o3, hf, hT⟩ := TL_c hT hf
    refine mc_X1_155 (fE := fE) (lE := lE) S hS hB g1 hv2 hl.1 ⟨(by show _ ≤ (fE + 3); omega), (by show _ ≤ (lE + 3122); omega)⟩ (Nat.le_of_ble_eq_true rfl) ⟨(TL_m hT).1, (TL_m hT).2⟩ dX1_top_14 (fun H locs hnv2 hB => ?_)
    refine lv_if_eq (tgt := 42) hx hb dX1_top_17 (by decide) (fun c4 => ?_) (fun c4 => ?_)
    · replace hf := it_t c4 hf
      refine lv_iconst hx hb dX1_top_42 kc_im1 ?_
      have hE9 := TL_e hT hf
      subst hE9
      exact bt_i S hr hlocks hB (by omega) trivial dX1_top_43
    · replace hf := it_f c4 hf
      refine lv_aload_n hx hb dX1_top_20 rfl (lv_at hl 0 rfl) ?_
      refine lv_aload_n hx hb dX1_top_21 rfl (lv_at hl 0 rfl) ?_
      obtain ⟨v5, hv5, hf⟩ := ob_s hf
      refine bg_X1_70 S hS hB (vR_s hv5) dX1_top_22 ?_
      refine lv_iload_n hx hb dX1_top_25 rfl (lv_at hl 1 rfl) ?_
      refine lv_aload_n hx hb dX1_top_26 rfl (lv_at hl 0 rfl) ?_
      refine lv_iload_n hx hb dX1_top_27 rfl (lv_at hl 1 rfl) ?_
      obtain ⟨o6, hf, hT⟩ := TL_c hT hf
      refine b_lam S hS hB (k := 32) (vs := [.ref x0, .int x1]) hnm rfl lamL_32 (lamV_c rfl rfl (lamV_c rfl rfl lamV_n)) rfl hl.1 (by show _ ≤ (lE + 3122); simp only [List.map, List.sum_cons, List.sum_nil, Value.category]; omega) (TL_m hT).1 (TL_m hT).2 dX1_top_28 (fun H hB => ?_)
      obtain ⟨g7, hf⟩ := gd_t hf
      obtain ⟨v8, hv8, hf⟩ := ob_s hf
      obtain ⟨o9, hf, hT⟩ := TL_c hT hf
      refine mc_X1_332 (fE := fE) (lE := lE) S hE hS hB g7 hv8 hl.1 ⟨(by show _ ≤ (fE + 3); omega), (by show _ ≤ (lE + 3122); omega)⟩ (Nat.le_of_ble_eq_true rfl) ⟨(TL_m hT).1, (TL_m hT).2⟩ dX1_top_33 (fun H locs _ hB => ?_)
      obtain ⟨g10, hf⟩ := gd_t hf
      obtain ⟨v11, hv11, hf⟩ := ob_s hf
      obtain ⟨o12, hf, hT⟩ := TL_c hT hf
      refine mc_X1_247 (fE := fE) (lE := lE) S hS hB g10 hv11 hl.1 ⟨(by show _ ≤ (fE + 3); omega), (by show _ ≤ (lE + 3122); omega)⟩ (Nat.le_of_ble_eq_true rfl) ⟨(TL_m hT).1, (TL_m hT).2⟩ dX1_top_36 (fun H locs _ hB => ?_)
      refine lv_goto (tgt := 43) hx hb dX1_top_39 (by decide) ?_
      have hE9 := TL_e hT hf
      subst hE9
      exact bt_i S hr hlocks hB (by omega) trivial dX1_top_43
  have hT : TL out out 0 0 := TL_0
  rw [f_X1_top] at hf
  refine lv_aload_n hx hb dX1_top_0 rfl (lv_at hl 0 rfl) ?_
  refine lv_aload_n hx hb dX1_top_1 rfl (lv_at hl 0 rfl) ?_
  refine lv_iload_n hx hb dX1_top_2 rfl (lv_at hl 1 rfl) ?_
  obtain ⟨g1, hf⟩ := gd_t hf
  obtain ⟨v2, hv2, hf⟩ := ob_s hf
  refine mc_X1_141 (fE := fE) (lE := lE) S hS hB g1 hv2 hl.1 ⟨(by show _ ≤ (fE + 3); omega), (by show _ ≤ (lE + 3122); omega)⟩ (Nat.le_of_ble_eq_true rfl) ⟨(TL_m hT).1, (TL_m hT).2⟩ dX1_top_3 (fun hnv2 => ?_)
  refine lv_if_eq (tgt := 13) hx hb dX1_top_6 (by decide) (fun c3 => ?_) (fun c3 => ?_)
  · replace hf := it_t c3 hf
    refine lv_iconst hx hb dX1_top_13 kc_i2 ?_
    exact (w14) o a0 o (nI 2) h nx ls s.heap [] 0 0 out hB (by omega) hT hl hf
  · replace hf := it_f c3 hf
    refine lv_iconst hx hb dX1_top_9 kc_i0 ?_
    refine lv_goto (tgt := 14) hx hb dX1_top_10 (by decide) ?_
    exact (w14) o a0 o 0 h nx ls s.heap [] 0 0 out hB (by omega) hT hl hf
theorem hd_X1_lambda_top_20 : yX1_lambda_top_20.cls = RX1 ∧ yX1_lambda_top_20.cls ≠ "java/lang/invoke/MethodHandle" ∧ yX1_lambda_top_20.cls ≠ "java/lang/invoke/VarHandle" ∧ (parseMethodDescriptor yX1_lambda_top_20.desc).map (fun d => d.parameters.length) = some 2 := by decide +kernel
set_option maxHeartbeats 4000000 in
set_option maxRecDepth 100000 in
theorem mm_X1_lambda_top_20 {o : Nat} {a0 : Int32} {a1 : Int32} {out : Int32} (hf : f_X1_lambda_top_20 E h o a0 a1 = some out) : Met l yX1_lambda_top_20 (ws_ yX1_lambda_top_20 cX1_lambda_top_20 3 (some .boolean)) (rM (fE + 6) (lE + 129)) (bPc G E.1 hSites h nx [.ref o, .int a0, .int a1]) (gR (some (.int out)) (narrow .boolean (.int out) = .int out)) 0 0 (fun _ => False) := by
  refine bGo (by decide +kernel) (Nat.le_of_ble_eq_true rfl) (fun p e s m below meth c ls S hr hlocks hin hnm hS hB hl => ?_)
  have S : CallFix p m c cX1_lambda_top_20 3 s _ lw_all RX1 := S
  obtain ⟨hx, hb, hml, hown, hts⟩ := id S
  have hl : lv_has ls 3 [(0, .ref o), (1, .int a0), (2, .int a1)] := hl
  rw [f_X1_lambda_top_20] at hf
  refine lv_aload_n hx hb dX1_lambda_top_20_0 rfl (lv_at hl 0 rfl) ?_
  obtain ⟨v1, hv1, hf⟩ := ob_s hf
  refine bg_X1_70 S hS hB (vR_s hv1) dX1_lambda_top_20_1 ?_
  refine lv_iload_n hx hb dX1_lambda_top_20_4 rfl (lv_at hl 2 rfl) ?_
  refine lv_iload_n hx hb dX1_lambda_top_20_5 rfl (lv_at hl 1 rfl) ?_
  obtain ⟨g2, hf⟩ := gd_t hf
  obtain ⟨v3, hv3, hf⟩ := ob_s hf
  refine mc_X1_439 (fE := fE) (lE := lE) S hS hB g2 hv3 hl.1 ⟨(by show _ ≤ (fE + 6); omega), (by show _ ≤ (lE + 129); omega)⟩ (Nat.le_of_ble_eq_true rfl) ⟨Nat.zero_le _, Nat.zero_le _⟩ dX1_lambda_top_20_6 (fun hnv3 => ?_)
  have hE9 := Option.some.inj hf
  subst hE9
  exact gt_rz S hr hlocks hnv3 dX1_lambda_top_20_9
theorem hd_X1_lotsOf : yX1_lotsOf.cls = RX1 ∧ yX1_lotsOf.cls ≠ "java/lang/invoke/MethodHandle" ∧ yX1_lotsOf.cls ≠ "java/lang/invoke/VarHandle" ∧ (parseMethodDescriptor yX1_lotsOf.desc).map (fun d => d.parameters.length) = some 2 := by decide +kernel
set_option maxHeartbeats 4000000 in
set_option maxRecDepth 100000 in
theorem mm_X1_lotsOf {o : Nat} {a0 : Int32} {a1 : Int32} {out : Int32} (hf : f_X1_lotsOf E h o a0 a1 = some out) : Met l yX1_lotsOf (ws_ yX1_lotsOf cX1_lotsOf 3 (some .int)) (rM (fE + 6) (lE + 129)) (bPc G E.1 hSites h nx [.ref o, .int a0, .int a1]) (gR (some (.int out)) True) 0 0 (fun _ => False) := by
  refine bGo (by decide +kernel) (Nat.le_of_ble_eq_true rfl) (fun p e s m below meth c ls S hr hlocks hin hnm hS hB hl => ?_)
  have S : CallFix p m c cX1_lotsOf 3 s _ lw_all RX1 := S
  obtain ⟨hx, hb, hml, hown, hts⟩ := id S
  have hl : lv_has ls 3 [(0, .ref o), (1, .int a0), (2, .int a1)] := hl
  rw [f_X1_lotsOf] at hf
  refine lv_aload_n hx hb dX1_lotsOf_0 rfl (lv_at hl 0 rfl) ?_
  obtain ⟨v1, hv1, hf⟩ := ob_s hf
  refine bg_X1_70 S hS hB (vR_s hv1) dX1_lotsOf_1 ?_
  refine lv_iload_n hx hb dX1_lotsOf_4 rfl (lv_at hl 1 rfl) ?_
  refine lv_iload_n hx hb dX1_lotsOf_5 rfl (lv_at hl 2 rfl) ?_
  obtain ⟨g2, hf⟩ := gd_t hf
  obtain ⟨v3, hv3, hf⟩ := ob_s hf
  refine mc_X1_439 (fE := fE) (lE := lE) S hS hB g2 hv3 hl.1 ⟨(by show _ ≤ (fE + 6); omega), (by show _ ≤ (lE + 129); omega)⟩ (Nat.le_of_ble_eq_true rfl) ⟨Nat.zero_le _, Nat.zero_le _⟩ dX1_lotsOf_6 (fun hnv3 => ?_)
  refine lv_if_eq (tgt := 30) hx hb dX1_lotsOf_9 (by decide) (fun c4 => ?_) (fun c4 => ?_)
  · replace hf := it_t c4 hf
    refine lv_iconst hx hb dX1_lotsOf_30 kc_i0 ?_
    have hE9 := Option.some.inj hf
    subst hE9
    exact gt_ri S hr hlocks trivial dX1_lotsOf_31
  · replace hf := it_f c4 hf
    refine lv_iconst hx hb dX1_lotsOf_12 kc_i1 ?_
    refine lv_aload_n hx hb dX1_lotsOf_13 rfl (lv_at hl 0 rfl) ?_
    obtain ⟨v5, hv5, hf⟩ := ob_s hf
    refine bg_X1_70 S hS hB (vR_s hv5) dX1_lotsOf_14 ?_
    refine lv_iload_n hx hb dX1_lotsOf_17 rfl (lv_at hl 1 rfl) ?_
    obtain ⟨g6, hf⟩ := gd_t hf
    obtain ⟨v7, hv7, hf⟩ := ob_s hf
    refine mc_X1_442 (fE := fE) (lE := lE) S hS hB g6 hv7 hl.1 ⟨(by show _ ≤ (fE + 6); omega), (by show _ ≤ (lE + 129); omega)⟩ (Nat.le_of_ble_eq_true rfl) ⟨Nat.zero_le _, Nat.zero_le _⟩ dX1_lotsOf_18 (fun _ => ?_)
    refine lv_bipush hx hb dX1_lotsOf_21 kc_b7 ?_
    obtain ⟨g8, hf⟩ := gd_t hf
    refine lv_idiv hx hb dX1_lotsOf_23 (nz32_t g8) ?_
    obtain ⟨v9, hv9, hf⟩ := ob_s hf
    refine mc_X1_19 S hS.1 hv9 hl.1 ⟨(by show _ ≤ (fE + 6); omega), (by show _ ≤ (lE + 129); omega)⟩ (Nat.le_of_ble_eq_true rfl) ⟨Nat.zero_le _, Nat.zero_le _⟩ dX1_lotsOf_24 (fun _ => ?_)
    refine lv_goto (tgt := 31) hx hb dX1_lotsOf_27 (by decide) ?_
    have hE9 := Option.some.inj hf
    subst hE9
    exact gt_ri S hr hlocks trivial dX1_lotsOf_31
set_option maxRecDepth 100000 in
theorem mc_X1_454 {o : Nat} {a0 : Int32} {a1 : Int32} {out : Int32} (S : CallFix p m c cc nL s args lw_all RX1) (hS : SK G E.1 hSites A s) (hB : BI G A s.heap h nx H locs) (ho : isO h o 0 = true) (hf : f_X1_lotsOf E h o a0 a1 = some out) (hsz : ls.size = nL) (hR : (fE + 6) + 1 ≤ R.frames ∧ 8 + (3 + 11) + (lE + 129) ≤ R.locals) (hW : (rest.map fun v => v.category).sum ≤ 8) (hcs : cells ≤ R.cells ∧ slots ≤ R.slots) (hdg : decode cc pc = .ok (.invokevirtual 454, 3))  (kk : True → W p l e R s m args below meth c H locs cells slots Q (F0 m (pc + 3) ls (.int out :: rest))) : W p l e R s m args below meth c H locs cells slots Q (F0 m pc ls (.int a1 :: .int a0 :: .ref o :: rest)) := by
  have hN := hS.2.1
  obtain ⟨fs, he⟩ := isO_s ho
  exact br_r (va_runV (As := [.int a0, .int a1]) S (mm_X1_lotsOf (l := l) (G := G) (nx := nx) (fE := fE) (lE := lE) hf) (cwV 2 S.2.2.2.2 (lw_V q1559 q1561 qs67 q174 q1562) rfl rfl rfl hd_X1_lotsOf hR) (bPreV hS hB (ci := 0) rfl he) rfl rfl hsz rfl (lv_room hW) hdg hcs) kk
theorem hd_X1_lot : yX1_lot.cls = RX1 ∧ yX1_lot.cls ≠ "java/lang/invoke/MethodHandle" ∧ yX1_lot.cls ≠ "java/lang/invoke/VarHandle" ∧ (parseMethodDescriptor yX1_lot.desc).map (fun d => d.parameters.length) = some 2 := by decide +kernel
set_option maxHeartbeats 4000000 in
set_option maxRecDepth 100000 in
theorem mm_X1_lot {o : Nat} {a0 : Int32} {a1 : Int32} {out : Int32 × AH × Nat × Nat} (hE : IfOK l G E fE lE) (hf : f_X1_lot E h nx o a0 a1 = some out) : Met l yX1_lot (ws_ yX1_lot cX1_lot 6 (some .int)) (rC (fE + 7) (lE + 3100) out.2.2.1 out.2.2.2) (bPc G E.1 hSites h nx [.ref o, .int a0, .int a1]) (bQ G (some (.int out.1)) True out.2.1 (nx + out.2.2.1) (AA h nx)) out.2.2.1 out.2.2.2 (AA h nx) := by
  refine bGo (by decide +kernel) (Nat.le_of_ble_eq_true rfl) (fun p e s m below meth c ls S hr hlocks hin hnm hS hB hl => ?_)
  have S : CallFix p m c cX1_lot 6 s _ lw_all RX1 := S
  obtain ⟨hx, hb, hml, hown, hts⟩ := id S
  have hl : lv_has ls 6 [(0, .ref o), (1, .int a0), (2, .int a1)] := hl
  have w89 : ∀ (n : Nat) , ∀ (x0 : Nat) (x1 : Int32) (x4 : Int32) (x5 : Int32) (hc : AH) (nc : Nat) (ls : Array Slot) (H : Heap) (locs : List Loc) (ce sl : Nat) (o1 : Int32 × AH × Nat × Nat), BI G (AA h nx) s.heap hc nc H locs → nc = nx + ce → TL out o1 ce sl → lv_has ls 6 [(0, .ref x0), (1, .int x1), (4, .int x4), (5, .int x5)] → f_X1_lot_89 n E x0 x1 x4 x5 hc nc = some o1 → W p l e (rC (fE + 7) (lE + 3100) out.2.2.1 out.2.2.2) s m ([.ref o, .int a0, .int a1] : List Value).toArray below meth c H locs ce sl (MQ below (bQ G (some (.int out.1)) True out.2.1 (nx + out.2.2.1) (AA h nx)) ([.ref o, .int a0, .int a1] : List Value).toArray s out.2.2.1 out.2.2.2 (AA h nx)) (F0 m 89 ls []) := by
    intro n
    induction n with
    | zero =>
      intro x0 x1 x4 x5 hc nc ls H locs ce sl o1 hB hn hT hl hf
      exact absurd hf (by rw [f_X1_lot_89]; exact nofun)
    | succ n ih =>
      intro x0 x1 x4 x5 hc nc ls H locs ce sl o1 hB hn hT hl hf
      rw [f_X1_lot_89] at hf
      refine lv_iload hx hb dX1_lot_89 (lv_at hl 2 rfl) ?_
      refine lv_aload_n hx hb dX1_lot_91 rfl (lv_at hl 0 rfl) ?_
      refine lv_iload hx hb dX1_lot_92 (lv_at hl 3 rfl) ?_
      refine lv_iload_n hx hb dX1_lot_94 rfl (lv_at hl 1 rfl) ?_
      obtain ⟨g1, hf⟩ := gd_t hf
      obtain ⟨v2, hv2, hf⟩ := ob_s hf
      refine mc_X1_454 (fE := fE) (lE := lE) S hS hB g1 hv2 hl.1 ⟨(by show _ ≤ (fE + 7); omega), (by show _ ≤ (lE + 3100); omega)⟩ (Nat.le_of_ble_eq_true rfl) ⟨(TL_m hT).1, (TL_m hT).2⟩ dX1_lot_95 (fun _ => ?_)
      refine lv_icmp_lt (tgt := 119) hx hb dX1_lot_98 (by decide) (fun c3 => ?_) (fun c3 => ?_)
      · replace hf := it_t c3 hf
        refine lv_iload hx hb dX1_lot_119 (lv_at hl 3 rfl) ?_
        have hE9 := TL_e hT hf
        subst hE9
        exact bt_i S hr hlocks hB (by omega) trivial dX1_lot_121
      · replace hf := it_f c3 hf
        refine lv_iload hx hb dX1_lot_101 (lv_at hl 2 rfl) ?_
        refine lv_aload_n hx hb dX1_lot_103 rfl (lv_at hl 0 rfl) ?_
        refine lv_iload hx hb dX1_lot_104 (lv_at hl 3 rfl) ?_
        refine lv_iload_n hx hb dX1_lot_106 rfl (lv_at hl 1 rfl) ?_
        obtain ⟨g4, hf⟩ := gd_t hf
        obtain ⟨v5, hv5, hf⟩ := ob_s hf
        refine mc_X1_454 (fE := fE) (lE := lE) S hS hB g4 hv5 hl.1 ⟨(by show _ ≤ (fE + 7); omega), (by show _ ≤ (lE + 3100); omega)⟩ (Nat.le_of_ble_eq_true rfl) ⟨(TL_m hT).1, (TL_m hT).2⟩ dX1_lot_107 (fun _ => ?_)
        refine lv_isub hx hb dX1_lot_110 ?_
        refine lv_istore (lv' := [(4, .int (x4 - v5)), (0, .ref x0), (1, .int x1), (5, .int x5)]) hx hb dX1_lot_111 hl (by decide) rfl (fun ls hl => ?_)
        refine lv_iinc (v := (x5 + 1)) (lv' := [(5, .int (x5 + 1)), (4, .int (x4 - v5)), (0, .ref x0), (1, .int x1)]) hx hb dX1_lot_113 hl (k := 3) rfl rfl (by decide) rfl (fun ls hl => ?_)
        refine lv_goto (tgt := 89) hx hb dX1_lot_116 (by decide) ?_
        exact (ih) x0 x1 (x4 - v5) (x5 + 1) hc nc ls H locs ce sl o1 hB (by omega) hT (lv_sub (l' := [(0, .ref x0), (1, .int x1), (4, .int (x4 - v5)), (5, .int (x5 + 1))]) hl [2, 3, 1, 0] rfl) hf
  have w30 : ∀ (x0 : Nat) (x1 : Int32) (x2 : Int32) (y0 : Nat) (y1 : Int32) (hc : AH) (nc : Nat) (ls : Array Slot) (H : Heap) (locs : List Loc) (ce sl : Nat) (o1 : Int32 × AH × Nat × Nat), BI G (AA h nx) s.heap hc nc H locs → nc = nx + ce → TL out o1 ce sl → lv_has ls 6 [(0, .ref x0), (1, .int x1), (2, .int x2)] → f_X1_lot_30 E x0 x1 x2 y0 y1 hc nc = some o1 → W p l e (rC (fE + 7) (lE + 3100) out.2.2.1 out.2.2.2) s m ([.ref o, .int a0, .int a1] : List Value).toArray below meth c H locs ce sl (MQ below (bQ G (some (.int out.1)) True out.2.1 (nx + out.2.2.1) (AA h nx)) ([.ref o, .int a0, .int a1] : List Value).toArray s out.2.2.1 out.2.2.2 (AA h nx)) (F0 m 30 ls [.int y1, .ref y0]) := by
    intro x0 x1 x2 y0 y1 hc nc ls H locs ce sl o1 hB hn hT hl hf
    rw [f_X1_lot_30] at hf
    obtain ⟨g1, hf⟩ := gd_t hf
    obtain ⟨v2, hv2, hf⟩ := ob_s hf
    obtain ⟨o3, hf, hT⟩ := TL_c hT hf
    refine mc_X1_155 (fE := fE) (lE := lE) S hS hB g1 hv2 hl.1 ⟨(by show _ ≤ (fE + 7); omega), (by show _ ≤ (lE + 3100); omega)⟩ (Nat.le_of_ble_eq_true rfl) ⟨(TL_m hT).1, (TL_m hT).2⟩ dX1_lot_30 (fun H locs hnv2 hB => ?_)
    refine lv_if_ne (tgt := 38) hx hb dX1_lot_33 (by decide) (fun c4 => ?_) (fun c4 => ?_)
    · replace hf := it_f c4 hf
      refine lv_aload_n hx hb dX1_lot_38 rfl (lv_at hl 0 rfl) ?_
      obtain ⟨v5, hv5, hf⟩ := ob_s hf
      refine bg_X1_51 S hS hB (vR_s hv5) dX1_lot_39 ?_
      obtain ⟨g6, hf⟩ := gd_t hf
      obtain ⟨v7, hv7, hf⟩ := ob_s hf
      refine mc_X1_130 (fE := fE) (lE := lE) S hS hB g6 hv7 hl.1 ⟨(by show _ ≤ (fE + 7); omega), (by show _ ≤ (lE + 3100); omega)⟩ (Nat.le_of_ble_eq_true rfl) ⟨(TL_m hT).1, (TL_m hT).2⟩ dX1_lot_42 (fun _ => ?_)
      refine lv_aload_n hx hb dX1_lot_45 rfl (lv_at hl 0 rfl) ?_
      refine lv_iload_n hx hb dX1_lot_46 rfl (lv_at hl 1 rfl) ?_
      obtain ⟨o8, hf, hT⟩ := TL_c hT hf
      refine b_lam S hS hB (k := 33) (vs := [.ref x0, .int x1]) hnm rfl lamL_33 (lamV_c rfl rfl (lamV_c rfl rfl lamV_n)) rfl hl.1 (by show _ ≤ (lE + 3100); simp only [List.map, List.sum_cons, List.sum_nil, Value.category]; omega) (TL_m hT).1 (TL_m hT).2 dX1_lot_47 (fun H hB => ?_)
      obtain ⟨v9, hv9, hf⟩ := ob_s hf
      obtain ⟨o10, hf, hT⟩ := TL_c hT hf
      refine mc_X1_200 (fE := fE) (lE := lE) S hE hS hB hv9 hl.1 ⟨(by show _ ≤ (fE + 7); omega), (by show _ ≤ (lE + 3100); omega)⟩ (Nat.le_of_ble_eq_true rfl) ⟨(TL_m hT).1, (TL_m hT).2⟩ dX1_lot_52 (fun H locs _ hB => ?_)
      refine lv_istore_n (i := 3) (lv' := [(3, .int v9.1), (0, .ref x0), (1, .int x1), (2, .int x2)]) hx hb dX1_lot_55 rfl hl (by decide) rfl (fun ls hl => ?_)
      refine lv_iload_n hx hb dX1_lot_56 rfl (lv_at hl 0 rfl) ?_
      refine lv_if_ne (tgt := 66) hx hb dX1_lot_57 (by decide) (fun c11 => ?_) (fun c11 => ?_)
      · replace hf := it_f c11 hf
        refine lv_ldc2 hx hb hown (hts _ q1564) dX1_lot_66 ?_
        refine lv_iload_n hx hb dX1_lot_69 rfl (lv_at hl 3 rfl) ?_
        refine lv_i2l hx hb dX1_lot_70 rfl ?_
        refine lv_lmul hx hb dX1_lot_71 ?_
        refine lv_ldc2 hx hb hown (hts _ q1565) dX1_lot_72 ?_
        refine lv_ladd hx hb dX1_lot_75 ?_
        refine lv_ldc2 hx hb hown (hts _ q1566) dX1_lot_76 ?_
        obtain ⟨g12, hf⟩ := gd_t hf
        refine lv_lrem hx hb dX1_lot_79 (nz64_t g12) ?_
        refine lv_iload_n hx hb dX1_lot_80 rfl (lv_at hl 0 rfl) ?_
        refine lv_i2l hx hb dX1_lot_81 rfl ?_
        obtain ⟨g13, hf⟩ := gd_t hf
        refine lv_lrem hx hb dX1_lot_82 (nz64_t g13) ?_
        refine lv_l2i hx hb dX1_lot_83 rfl ?_
        refine lv_topi (fun x14 ex14 => ?_)
        replace hf := bd_e ex14 hf
        refine lv_istore (lv' := [(4, .int x14), (3, .int v9.1), (0, .ref x0), (1, .int x1), (2, .int x2)]) hx hb dX1_lot_84 hl (by decide) rfl (fun ls hl => ?_)
        refine lv_iconst hx hb dX1_lot_86 kc_i0 ?_
        refine lv_istore (lv' := [(5, .int 0), (4, .int x14), (3, .int v9.1), (0, .ref x0), (1, .int x1), (2, .int x2)]) hx hb dX1_lot_87 hl (by decide) rfl (fun ls hl => ?_)
        exact (w89 FU) x0 x1 x14 0 v9.2.1 (((nc + v2.2.2.1) + 1) + v9.2.2.1) ls H locs (((ce + v2.2.2.1) + 1) + v9.2.2.1) (((sl + v2.2.2.2) + 2) + v9.2.2.2) o10 hB (by omega) hT (lv_sub (l' := [(0, .ref x0), (1, .int x1), (4, .int x14), (5, .int 0)]) hl [3, 4, 1, 0] rfl) hf
      · replace hf := it_t c11 hf
        refine lv_aload_n hx hb dX1_lot_60 rfl (lv_at hl 1 rfl) ?_
        refine lv_iconst hx hb dX1_lot_61 kc_i5 ?_
        obtain ⟨g15, hf⟩ := gd_t hf
        obtain ⟨v16, hv16, hf⟩ := ob_s hf
        obtain ⟨o17, hf, hT⟩ := TL_c hT hf
        refine mc_X1_174 (fE := fE) (lE := lE) S hS hB g15 hv16 hl.1 ⟨(by show _ ≤ (fE + 7); omega), (by show _ ≤ (lE + 3100); omega)⟩ (Nat.le_of_ble_eq_true rfl) ⟨(TL_m hT).1, (TL_m hT).2⟩ dX1_lot_62 (fun H locs _ hB => ?_)
        have hE9 := TL_e hT hf
        subst hE9
        exact bt_i S hr hlocks hB (by omega) trivial dX1_lot_65
    · replace hf := it_t c4 hf
      refine lv_iconst hx hb dX1_lot_36 kc_im1 ?_
      have hE9 := TL_e hT hf
      subst hE9
      exact bt_i S hr hlocks hB (by omega) trivial dX1_lot_37
  have hT : TL out out 0 0 := TL_0
  rw [f_X1_lot] at hf
  refine lv_aload_n hx hb dX1_lot_0 rfl (lv_at hl 0 rfl) ?_
  refine lv_iload_n hx hb dX1_lot_1 rfl (lv_at hl 2 rfl) ?_
  refine lv_i2l hx hb dX1_lot_2 rfl ?_
  refine lv_lconst (v := 0) hx hb dX1_lot_3 (by decide) ?_
  refine lv_ldc2 hx hb hown (hts _ q1555) dX1_lot_4 ?_
  obtain ⟨v1, hv1, hf⟩ := ob_s hf
  refine mc_X1_134 S hS.1 hv1 hl.1 ⟨(by show _ ≤ (fE + 7); omega), (by show _ ≤ (lE + 3100); omega)⟩ (Nat.le_of_ble_eq_true rfl) ⟨(TL_m hT).1, (TL_m hT).2⟩ dX1_lot_7 (fun hnv1 => ?_)
  refine lv_if_ne (tgt := 17) hx hb dX1_lot_10 (by decide) (fun c2 => ?_) (fun c2 => ?_)
  · replace hf := it_f c2 hf
    refine lv_aload_n hx hb dX1_lot_17 rfl (lv_at hl 0 rfl) ?_
    refine lv_iload_n hx hb dX1_lot_18 rfl (lv_at hl 1 rfl) ?_
    obtain ⟨g3, hf⟩ := gd_t hf
    obtain ⟨v4, hv4, hf⟩ := ob_s hf
    refine mc_X1_141 (fE := fE) (lE := lE) S hS hB g3 hv4 hl.1 ⟨(by show _ ≤ (fE + 7); omega), (by show _ ≤ (lE + 3100); omega)⟩ (Nat.le_of_ble_eq_true rfl) ⟨(TL_m hT).1, (TL_m hT).2⟩ dX1_lot_19 (fun hnv4 => ?_)
    refine lv_if_eq (tgt := 29) hx hb dX1_lot_22 (by decide) (fun c5 => ?_) (fun c5 => ?_)
    · replace hf := it_t c5 hf
      refine lv_iconst hx hb dX1_lot_29 kc_i2 ?_
      exact (w30) o a0 a1 o (nI 2) h nx ls s.heap [] 0 0 out hB (by omega) hT hl hf
    · replace hf := it_f c5 hf
      refine lv_iconst hx hb dX1_lot_25 kc_i0 ?_
      refine lv_goto (tgt := 30) hx hb dX1_lot_26 (by decide) ?_
      exact (w30) o a0 a1 o 0 h nx ls s.heap [] 0 0 out hB (by omega) hT hl hf
  · replace hf := it_t c2 hf
    refine lv_iconst hx hb dX1_lot_13 kc_i1 ?_
    refine lv_goto (tgt := 30) hx hb dX1_lot_14 (by decide) ?_
    exact (w30) o a0 a1 o 1 h nx ls s.heap [] 0 0 out hB (by omega) hT hl hf
theorem hd_X1_lambda_lot_21 : yX1_lambda_lot_21.cls = RX1 ∧ yX1_lambda_lot_21.cls ≠ "java/lang/invoke/MethodHandle" ∧ yX1_lambda_lot_21.cls ≠ "java/lang/invoke/VarHandle" ∧ (parseMethodDescriptor yX1_lambda_lot_21.desc).map (fun d => d.parameters.length) = some 2 := by decide +kernel
set_option maxHeartbeats 4000000 in
set_option maxRecDepth 100000 in
theorem mm_X1_lambda_lot_21 {o : Nat} {a0 : Int32} {a1 : Int32} {out : Int32} (hf : f_X1_lambda_lot_21 E h o a0 a1 = some out) : Met l yX1_lambda_lot_21 (ws_ yX1_lambda_lot_21 cX1_lambda_lot_21 3 (some .int)) (rM (fE + 7) (lE + 151)) (bPc G E.1 hSites h nx [.ref o, .int a0, .int a1]) (gR (some (.int out)) True) 0 0 (fun _ => False) := by
  refine bGo (by decide +kernel) (Nat.le_of_ble_eq_true rfl) (fun p e s m below meth c ls S hr hlocks hin hnm hS hB hl => ?_)
  have S : CallFix p m c cX1_lambda_lot_21 3 s _ lw_all RX1 := S
  obtain ⟨hx, hb, hml, hown, hts⟩ := id S
  have hl : lv_has ls 3 [(0, .ref o), (1, .int a0), (2, .int a1)] := hl
  rw [f_X1_lambda_lot_21] at hf
  refine lv_aload_n hx hb dX1_lambda_lot_21_0 rfl (lv_at hl 0 rfl) ?_
  refine lv_iload_n hx hb dX1_lambda_lot_21_1 rfl (lv_at hl 2 rfl) ?_
  refine lv_iload_n hx hb dX1_lambda_lot_21_2 rfl (lv_at hl 1 rfl) ?_
  obtain ⟨g1, hf⟩ := gd_t hf
  obtain ⟨v2, hv2, hf⟩ := ob_s hf
  refine mc_X1_454 (fE := fE) (lE := lE) S hS hB g1 hv2 hl.1 ⟨(by show _ ≤ (fE + 7); omega), (by show _ ≤ (lE + 151); omega)⟩ (Nat.le_of_ble_eq_true rfl) ⟨Nat.zero_le _, Nat.zero_le _⟩ dX1_lambda_lot_21_3 (fun _ => ?_)
  have hE9 := Option.some.inj hf
  subst hE9
  exact gt_ri S hr hlocks trivial dX1_lambda_lot_21_6
theorem hd_X1_fits : yX1_fits.cls = RX1 ∧ yX1_fits.cls ≠ "java/lang/invoke/MethodHandle" ∧ yX1_fits.cls ≠ "java/lang/invoke/VarHandle" ∧ (parseMethodDescriptor yX1_fits.desc).map (fun d => d.parameters.length) = some 2 := by decide +kernel
set_option maxHeartbeats 4000000 in
set_option maxRecDepth 100000 in
theorem mm_X1_fits {o : Nat} {a0 : Int32} {a1 : Int32} {out : Int32 × AH × Nat × Nat} (hE : IfOK l G E fE lE) (hf : f_X1_fits E h nx o a0 a1 = some out) : Met l yX1_fits (ws_ yX1_fits cX1_fits 3 (some .int)) (rC (fE + 2) (lE + 3100) out.2.2.1 out.2.2.2) (bPc G E.1 hSites h nx [.ref o, .int a0, .int a1]) (bQ G (some (.int out.1)) True out.2.1 (nx + out.2.2.1) (AA h nx)) out.2.2.1 out.2.2.2 (AA h nx) := by
  refine bGo (by decide +kernel) (Nat.le_of_ble_eq_true rfl) (fun p e s m below meth c ls S hr hlocks hin hnm hS hB hl => ?_)
  have S : CallFix p m c cX1_fits 3 s _ lw_all RX1 := S
  obtain ⟨hx, hb, hml, hown, hts⟩ := id S
  have hl : lv_has ls 3 [(0, .ref o), (1, .int a0), (2, .int a1)] := hl
  have w30 : ∀ (x0 : Nat) (x1 : Int32) (x2 : Int32) (y0 : Nat) (y1 : Int32) (hc : AH) (nc : Nat) (ls : Array Slot) (H : Heap) (locs : List Loc) (ce sl : Nat) (o1 : Int32 × AH × Nat × Nat), BI G (AA h nx) s.heap hc nc H locs → nc = nx + ce → TL out o1 ce sl → lv_has ls 3 [(0, .ref x0), (1, .int x1), (2, .int x2)] → f_X1_fits_30 E x0 x1 x2 y0 y1 hc nc = some o1 → W p l e (rC (fE + 2) (lE + 3100) out.2.2.1 out.2.2.2) s m ([.ref o, .int a0, .int a1] : List Value).toArray below meth c H locs ce sl (MQ below (bQ G (some (.int out.1)) True out.2.1 (nx + out.2.2.1) (AA h nx)) ([.ref o, .int a0, .int a1] : List Value).toArray s out.2.2.1 out.2.2.2 (AA h nx)) (F0 m 30 ls [.int y1, .ref y0]) := by
    intro x0 x1 x2 y0 y1 hc nc ls H locs ce sl o1 hB hn hT hl hf
    rw [f_X1_fits_30] at hf
    obtain ⟨g1, hf⟩ := gd_t hf
    obtain ⟨v2, hv2, hf⟩ := ob_s hf
    obtain ⟨o3, hf, hT⟩ := TL_c hT hf
    refine mc_X1_155 (fE := fE) (lE := lE) S hS hB g1 hv2 hl.1 ⟨(by show _ ≤ (fE + 2); omega), (by show _ ≤ (lE + 3100); omega)⟩ (Nat.le_of_ble_eq_true rfl) ⟨(TL_m hT).1, (TL_m hT).2⟩ dX1_fits_30 (fun H locs hnv2 hB => ?_)
    refine lv_if_ne (tgt := 38) hx hb dX1_fits_33 (by decide) (fun c4 => ?_) (fun c4 => ?_)
    · replace hf := it_f c4 hf
      refine lv_aload_n hx hb dX1_fits_38 rfl (lv_at hl 0 rfl) ?_
      obtain ⟨v5, hv5, hf⟩ := ob_s hf
      refine bg_X1_39 S hS hB (vR_s hv5) dX1_fits_39 ?_
      obtain ⟨g6, hf⟩ := gd_t hf
      obtain ⟨v7, hv7, hf⟩ := ob_s hf
      refine mc_X1_130 (fE := fE) (lE := lE) S hS hB g6 hv7 hl.1 ⟨(by show _ ≤ (fE + 2); omega), (by show _ ≤ (lE + 3100); omega)⟩ (Nat.le_of_ble_eq_true rfl) ⟨(TL_m hT).1, (TL_m hT).2⟩ dX1_fits_42 (fun _ => ?_)
      refine lv_aload_n hx hb dX1_fits_45 rfl (lv_at hl 0 rfl) ?_
      refine lv_iload_n hx hb dX1_fits_46 rfl (lv_at hl 1 rfl) ?_
      refine lv_iload_n hx hb dX1_fits_47 rfl (lv_at hl 2 rfl) ?_
      obtain ⟨o8, hf, hT⟩ := TL_c hT hf
      refine b_lam S hS hB (k := 34) (vs := [.ref x0, .int x1, .int x2]) hnm rfl lamL_34 (lamV_c rfl rfl (lamV_c rfl rfl (lamV_c rfl rfl lamV_n))) rfl hl.1 (by show _ ≤ (lE + 3100); simp only [List.map, List.sum_cons, List.sum_nil, Value.category]; omega) (TL_m hT).1 (TL_m hT).2 dX1_fits_48 (fun H hB => ?_)
      obtain ⟨h9, eh9⟩ : ∃ z, z = (hu v2.2.1 (nc + v2.2.2.1) (.inr (.inr (34, [.ref x0, .int x1, .int x2])))) := ⟨_, rfl⟩
      replace hf := bd_e eh9 hf
      rw [← eh9] at hB
      obtain ⟨v10, hv10, hf⟩ := ob_s hf
      obtain ⟨o11, hf, hT⟩ := TL_c hT hf
      refine mc_X1_200 (fE := fE) (lE := lE) S hE hS hB hv10 hl.1 ⟨(by show _ ≤ (fE + 2); omega), (by show _ ≤ (lE + 3100); omega)⟩ (Nat.le_of_ble_eq_true rfl) ⟨(TL_m hT).1, (TL_m hT).2⟩ dX1_fits_53 (fun H locs _ hB => ?_)
      have hE9 := TL_e hT hf
      subst hE9
      exact bt_i S hr hlocks hB (by omega) trivial dX1_fits_56
    · replace hf := it_t c4 hf
      refine lv_iconst hx hb dX1_fits_36 kc_im1 ?_
      have hE9 := TL_e hT hf
      subst hE9
      exact bt_i S hr hlocks hB (by omega) trivial dX1_fits_37
  have hT : TL out out 0 0 := TL_0
  rw [f_X1_fits] at hf
  refine lv_aload_n hx hb dX1_fits_0 rfl (lv_at hl 0 rfl) ?_
  refine lv_iload_n hx hb dX1_fits_1 rfl (lv_at hl 2 rfl) ?_
  refine lv_i2l hx hb dX1_fits_2 rfl ?_
  refine lv_lconst (v := 0) hx hb dX1_fits_3 (by decide) ?_
  refine lv_ldc2 hx hb hown (hts _ q1325) dX1_fits_4 ?_
  obtain ⟨v1, hv1, hf⟩ := ob_s hf
  refine mc_X1_134 S hS.1 hv1 hl.1 ⟨(by show _ ≤ (fE + 2); omega), (by show _ ≤ (lE + 3100); omega)⟩ (Nat.le_of_ble_eq_true rfl) ⟨(TL_m hT).1, (TL_m hT).2⟩ dX1_fits_7 (fun hnv1 => ?_)
  refine lv_if_ne (tgt := 17) hx hb dX1_fits_10 (by decide) (fun c2 => ?_) (fun c2 => ?_)
  · replace hf := it_f c2 hf
    refine lv_aload_n hx hb dX1_fits_17 rfl (lv_at hl 0 rfl) ?_
    refine lv_iload_n hx hb dX1_fits_18 rfl (lv_at hl 1 rfl) ?_
    obtain ⟨g3, hf⟩ := gd_t hf
    obtain ⟨v4, hv4, hf⟩ := ob_s hf
    refine mc_X1_138 (fE := fE) (lE := lE) S hS hB g3 hv4 hl.1 ⟨(by show _ ≤ (fE + 2); omega), (by show _ ≤ (lE + 3100); omega)⟩ (Nat.le_of_ble_eq_true rfl) ⟨(TL_m hT).1, (TL_m hT).2⟩ dX1_fits_19 (fun hnv4 => ?_)
    refine lv_if_eq (tgt := 29) hx hb dX1_fits_22 (by decide) (fun c5 => ?_) (fun c5 => ?_)
    · replace hf := it_t c5 hf
      refine lv_iconst hx hb dX1_fits_29 kc_i2 ?_
      exact (w30) o a0 a1 o (nI 2) h nx ls s.heap [] 0 0 out hB (by omega) hT hl hf
    · replace hf := it_f c5 hf
      refine lv_iconst hx hb dX1_fits_25 kc_i0 ?_
      refine lv_goto (tgt := 30) hx hb dX1_fits_26 (by decide) ?_
      exact (w30) o a0 a1 o 0 h nx ls s.heap [] 0 0 out hB (by omega) hT hl hf
  · replace hf := it_t c2 hf
    refine lv_iconst hx hb dX1_fits_13 kc_i1 ?_
    refine lv_goto (tgt := 30) hx hb dX1_fits_14 (by decide) ?_
    exact (w30) o a0 a1 o 1 h nx ls s.heap [] 0 0 out hB (by omega) hT hl hf
end
