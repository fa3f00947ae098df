section
variable {l : Launch} {D : va_G} {cl : List vw_C} {tys : List (ClassId × FieldType)} {G : hG} {E : bE} {fE lE : Nat} {h : AH} {nx : Nat} {A : Nat → Prop}
variable {p : Program} {e : Env} {R : Room} {s : State} {m : MethodId} {args : Array Value} {below : List Frame} {meth : Method} {c : Code} {H H0 : Heap} {locs : List Loc} {cells slots : Nat} {Q : State → Prop} {cc : ByteArray} {nL pc : Nat} {ls : Array Slot} {rest : List Value}
theorem hd_X1_lambda_freeHomes_3 : yX1_lambda_freeHomes_3.cls ≠ "java/lang/invoke/MethodHandle" ∧ yX1_lambda_freeHomes_3.cls ≠ "java/lang/invoke/VarHandle" ∧ (parseMethodDescriptor yX1_lambda_freeHomes_3.desc).map (fun d => d.parameters.length) = some 2 := by decide +kernel
set_option maxHeartbeats 4000000 in
set_option maxRecDepth 100000 in
theorem mm_X1_lambda_freeHomes_3 {a0 : Nat} {a1 : Int32} {out : Int32} (hf : f_X1_lambda_freeHomes_3 E h a0 a1 = some out) : Met l yX1_lambda_freeHomes_3 (ws_ yX1_lambda_freeHomes_3 cX1_lambda_freeHomes_3 2 (some .boolean)) (rM (fE + 3) (lE + 63)) (bPc G E.1 hSites h nx [.ref a0, .int a1]) (gR (some (.int out)) (narrow .boolean (.int out) = .int out)) 0 0 (fun _ => False) := by
  refine bGo (by decide +kernel) (Nat.le_of_ble_eq_true rfl) (fun p e s m below meth c ls S hr hlocks hin hnm hS hB hl => ?_)
  have S : CallFix p m c cX1_lambda_freeHomes_3 2 s _ lw_all RX1 := S
  obtain ⟨hx, hb, hml, hown, hts⟩ := id S
  have hl : lv_has ls 2 [(0, .ref a0), (1, .int a1)] := hl
  rw [f_X1_lambda_freeHomes_3] at hf
  refine lv_aload_n hx hb dX1_lambda_freeHomes_3_0 rfl (lv_at hl 0 rfl) ?_
  refine lv_iload_n hx hb dX1_lambda_freeHomes_3_1 rfl (lv_at hl 1 rfl) ?_
  obtain ⟨g1, hf⟩ := gd_t hf
  obtain ⟨v2, hv2, hf⟩ := ob_s hf
  refine mc_X1_250 (fE := fE) (lE := lE) S hS hB g1 hv2 hl.1 ⟨(by show _ ≤ (fE + 3); omega), (by show _ ≤ (lE + 63); omega)⟩ (Nat.le_of_ble_eq_true rfl) ⟨Nat.zero_le _, Nat.zero_le _⟩ dX1_lambda_freeHomes_3_2 (fun hnv2 => ?_)
  have hE9 := Option.some.inj hf
  subst hE9
  exact gt_rz S hr hlocks hnv2 dX1_lambda_freeHomes_3_5
theorem hd_X1_lambda_inQueue_4 : yX1_lambda_inQueue_4.cls ≠ "java/lang/invoke/MethodHandle" ∧ yX1_lambda_inQueue_4.cls ≠ "java/lang/invoke/VarHandle" ∧ (parseMethodDescriptor yX1_lambda_inQueue_4.desc).map (fun d => d.parameters.length) = some 2 := by decide +kernel
set_option maxHeartbeats 4000000 in
set_option maxRecDepth 100000 in
theorem mm_X1_lambda_inQueue_4 {a0 : Nat} {a1 : Int32} {out : Int32} (hf : f_X1_lambda_inQueue_4 E h a0 a1 = some out) : Met l yX1_lambda_inQueue_4 (ws_ yX1_lambda_inQueue_4 cX1_lambda_inQueue_4 2 (some .boolean)) (rM (fE + 0) (lE + 0)) (bPc G E.1 hSites h nx [.ref a0, .int a1]) (gR (some (.int out)) (narrow .boolean (.int out) = .int out)) 0 0 (fun _ => False) := by
  refine bGo (by decide +kernel) (Nat.le_of_ble_eq_true rfl) (fun p e s m below meth c ls S hr hlocks hin hnm hS hB hl => ?_)
  have S : CallFix p m c cX1_lambda_inQueue_4 2 s _ lw_all RX1 := S
  obtain ⟨hx, hb, hml, hown, hts⟩ := id S
  have hl : lv_has ls 2 [(0, .ref a0), (1, .int a1)] := hl
  rw [f_X1_lambda_inQueue_4] at hf
  refine lv_aload_n hx hb dX1_lambda_inQueue_4_0 rfl (lv_at hl 0 rfl) ?_
  obtain ⟨v1, hv1, hf⟩ := ob_s hf
  refine bg_X1_305 S hS hB (vR_s hv1) dX1_lambda_inQueue_4_1 ?_
  refine lv_iload_n hx hb dX1_lambda_inQueue_4_4 rfl (lv_at hl 1 rfl) ?_
  obtain ⟨v2, hv2, hf⟩ := ob_s hf
  refine b_zald S hS.1 hB hv2 dX1_lambda_inQueue_4_5 ?_
  refine lv_if_ne (tgt := 13) hx hb dX1_lambda_inQueue_4_6 (by decide) (fun c3 => ?_) (fun c3 => ?_)
  · replace hf := it_f c3 hf
    refine lv_iconst hx hb dX1_lambda_inQueue_4_13 kc_i0 ?_
    have hE9 := Option.some.inj hf
    subst hE9
    exact gt_rz S hr hlocks nb0 dX1_lambda_inQueue_4_14
  · replace hf := it_t c3 hf
    refine lv_iconst hx hb dX1_lambda_inQueue_4_9 kc_i1 ?_
    refine lv_goto (tgt := 14) hx hb dX1_lambda_inQueue_4_10 (by decide) ?_
    have hE9 := Option.some.inj hf
    subst hE9
    exact gt_rz S hr hlocks nb1 dX1_lambda_inQueue_4_14
theorem hd_X1_isHome : yX1_isHome.cls = RX1 ∧ yX1_isHome.cls ≠ "java/lang/invoke/MethodHandle" ∧ yX1_isHome.cls ≠ "java/lang/invoke/VarHandle" ∧ (parseMethodDescriptor yX1_isHome.desc).map (fun d => d.parameters.length) = some 1 := by decide +kernel
set_option maxHeartbeats 4000000 in
set_option maxRecDepth 100000 in
theorem mm_X1_isHome {o : Nat} {a0 : Int32} {out : Int32} (hf : f_X1_isHome E h o a0 = some out) : Met l yX1_isHome (ws_ yX1_isHome cX1_isHome 2 (some .boolean)) (rM (fE + 1) (lE + 25)) (bPc G E.1 hSites h nx [.ref o, .int a0]) (gR (some (.int out)) (narrow .boolean (.int out) = .int out)) 0 0 (fun _ => False) := by
  refine bGo (by decide +kernel) (Nat.le_of_ble_eq_true rfl) (fun p e s m below meth c ls S hr hlocks hin hnm hS hB hl => ?_)
  have S : CallFix p m c cX1_isHome 2 s _ lw_all RX1 := S
  obtain ⟨hx, hb, hml, hown, hts⟩ := id S
  have hl : lv_has ls 2 [(0, .ref o), (1, .int a0)] := hl
  rw [f_X1_isHome] at hf
  refine lv_iload_n hx hb dX1_isHome_0 rfl (lv_at hl 1 rfl) ?_
  refine lv_i2l hx hb dX1_isHome_1 rfl ?_
  refine lv_lconst (v := 0) hx hb dX1_isHome_2 (by decide) ?_
  refine lv_aload_n hx hb dX1_isHome_3 rfl (lv_at hl 0 rfl) ?_
  obtain ⟨v1, hv1, hf⟩ := ob_s hf
  refine bg_X1_39 S hS hB (vR_s hv1) dX1_isHome_4 ?_
  obtain ⟨g2, hf⟩ := gd_t hf
  obtain ⟨v3, hv3, hf⟩ := ob_s hf
  refine mc_X1_130 (fE := fE) (lE := lE) S hS hB g2 hv3 hl.1 ⟨(by show _ ≤ (fE + 1); omega), (by show _ ≤ (lE + 25); omega)⟩ (Nat.le_of_ble_eq_true rfl) ⟨Nat.zero_le _, Nat.zero_le _⟩ dX1_isHome_7 (fun _ => ?_)
  refine lv_iconst hx hb dX1_isHome_10 kc_i1 ?_
  refine lv_isub hx hb dX1_isHome_11 ?_
  refine lv_i2l hx hb dX1_isHome_12 rfl ?_
  obtain ⟨v4, hv4, hf⟩ := ob_s hf
  refine mc_X1_134 S hS.1 hv4 hl.1 ⟨(by show _ ≤ (fE + 1); omega), (by show _ ≤ (lE + 25); omega)⟩ (Nat.le_of_ble_eq_true rfl) ⟨Nat.zero_le _, Nat.zero_le _⟩ dX1_isHome_13 (fun hnv4 => ?_)
  have hE9 := Option.some.inj hf
  subst hE9
  exact gt_rz S hr hlocks hnv4 dX1_isHome_16
set_option maxRecDepth 100000 in
theorem mc_X1_141 {o : Nat} {a0 : Int32} {out : Int32} (S : CallFix p m c cc nL s args lw_all RX1) (hS : SK G E.1 hSites A s) (hB : BI G A s.heap h nx H locs) (ho : isO h o 0 = true) (hf : f_X1_isHome E h o a0 = some out) (hsz : ls.size = nL) (hR : (fE + 1) + 1 ≤ R.frames ∧ 8 + (2 + 11) + (lE + 25) ≤ R.locals) (hW : (rest.map fun v => v.category).sum ≤ 8) (hcs : cells ≤ R.cells ∧ slots ≤ R.slots) (hdg : decode cc pc = .ok (.invokevirtual 141, 3))  (kk : (narrow .boolean (.int out) = .int out) → W p l e R s m args below meth c H locs cells slots Q (F0 m (pc + 3) ls (.int out :: rest))) : W p l e R s m args below meth c H locs cells slots Q (F0 m pc ls (.int a0 :: .ref o :: rest)) := by
  have hN := hS.2.1
  obtain ⟨fs, he⟩ := isO_s ho
  exact br_r (va_runV (As := [.int a0]) S (mm_X1_isHome (l := l) (G := G) (nx := nx) (fE := fE) (lE := lE) hf) (cwV 1 S.2.2.2.2 (lw_V q1213 q1215 qs37 q174 q1216) rfl rfl rfl hd_X1_isHome hR) (bPreV hS hB (ci := 0) rfl he) rfl rfl hsz rfl (lv_room hW) hdg hcs) kk
theorem hd_X1_toldOr : yX1_toldOr.cls = RX1 ∧ yX1_toldOr.cls ≠ "java/lang/invoke/MethodHandle" ∧ yX1_toldOr.cls ≠ "java/lang/invoke/VarHandle" ∧ (parseMethodDescriptor yX1_toldOr.desc).map (fun d => d.parameters.length) = some 1 := by decide +kernel
set_option maxHeartbeats 4000000 in
set_option maxRecDepth 100000 in
theorem mm_X1_toldOr {o : Nat} {a0 : Int32} {out : Int32 × AH × Nat × Nat} (hf : f_X1_toldOr E h nx o a0 = some out) : Met l yX1_toldOr (ws_ yX1_toldOr cX1_toldOr 2 (some .int)) (rC (fE + 1) (lE + 21) out.2.2.1 out.2.2.2) (bPc G E.1 hSites h nx [.ref o, .int a0]) (bQ G (some (.int out.1)) True out.2.1 (nx + out.2.2.1) (AA h nx)) out.2.2.1 out.2.2.2 (AA h nx) := by
  refine bGo (by decide +kernel) (Nat.le_of_ble_eq_true rfl) (fun p e s m below meth c ls S hr hlocks hin hnm hS hB hl => ?_)
  have S : CallFix p m c cX1_toldOr 2 s _ lw_all RX1 := S
  obtain ⟨hx, hb, hml, hown, hts⟩ := id S
  have hl : lv_has ls 2 [(0, .ref o), (1, .int a0)] := hl
  have hT : TL out out 0 0 := TL_0
  rw [f_X1_toldOr] at hf
  refine lv_iload_n hx hb dX1_toldOr_0 rfl (lv_at hl 1 rfl) ?_
  refine lv_if_ge (tgt := 12) hx hb dX1_toldOr_1 (by decide) (fun c1 => ?_) (fun c1 => ?_)
  · replace hf := it_t c1 hf
    refine lv_iload_n hx hb dX1_toldOr_12 rfl (lv_at hl 1 rfl) ?_
    have hE9 := TL_e hT hf
    subst hE9
    exact bt_i S hr hlocks hB (by omega) trivial dX1_toldOr_13
  · replace hf := it_f c1 hf
    refine lv_aload_n hx hb dX1_toldOr_4 rfl (lv_at hl 0 rfl) ?_
    refine lv_iconst hx hb dX1_toldOr_5 kc_i5 ?_
    obtain ⟨g2, hf⟩ := gd_t hf
    obtain ⟨v3, hv3, hf⟩ := ob_s hf
    obtain ⟨o4, hf, hT⟩ := TL_c hT hf
    refine mc_X1_174 (fE := fE) (lE := lE) S hS hB g2 hv3 hl.1 ⟨(by show _ ≤ (fE + 1); omega), (by show _ ≤ (lE + 21); omega)⟩ (Nat.le_of_ble_eq_true rfl) ⟨(TL_m hT).1, (TL_m hT).2⟩ dX1_toldOr_6 (fun H locs _ hB => ?_)
    refine lv_goto (tgt := 13) hx hb dX1_toldOr_9 (by decide) ?_
    have hE9 := TL_e hT hf
    subst hE9
    exact bt_i S hr hlocks hB (by omega) trivial dX1_toldOr_13
set_option maxRecDepth 100000 in
theorem mc_X1_247 {o : Nat} {a0 : Int32} {out : Int32 × AH × Nat × Nat} (S : CallFix p m c cc nL s args lw_all RX1) (hS : SK G E.1 hSites A s) (hB : BI G A s.heap h nx H locs) (ho : isO h o 0 = true) (hf : f_X1_toldOr E h nx o a0 = some out) (hsz : ls.size = nL) (hR : (fE + 1) + 1 ≤ R.frames ∧ 8 + (2 + 11) + (lE + 21) ≤ R.locals) (hW : (rest.map fun v => v.category).sum ≤ 8) (hcs : cells + out.2.2.1 ≤ R.cells ∧ slots + out.2.2.2 ≤ R.slots) (hdg : decode cc pc = .ok (.invokevirtual 247, 3))  (kk : ∀ (H1 : Heap) (locs1 : List Loc), True → BI G A s.heap out.2.1 (nx + out.2.2.1) H1 locs1 → W p l e R s m args below meth c H1 locs1 (cells + out.2.2.1) (slots + out.2.2.2) Q (F0 m (pc + 3) ls (.int out.1 :: rest))) : W p l e R s m args below meth c H locs cells slots Q (F0 m pc ls (.int a0 :: .ref o :: rest)) := by
  have hN := hS.2.1
  obtain ⟨fs, he⟩ := isO_s ho
  exact br_w (va_runV (As := [.int a0]) S (mm_X1_toldOr (l := l) (G := G) (fE := fE) (lE := lE) hf) (cwV 1 S.2.2.2.2 (lw_V q1219 q1221 qs38 q174 q1222) rfl rfl rfl hd_X1_toldOr hR) (bPreV hS hB (ci := 0) rfl he) rfl rfl hsz rfl (lv_room hW) hdg hcs) hB kk
theorem hd_X1_home : yX1_home.cls = RX1 ∧ yX1_home.cls ≠ "java/lang/invoke/MethodHandle" ∧ yX1_home.cls ≠ "java/lang/invoke/VarHandle" ∧ (parseMethodDescriptor yX1_home.desc).map (fun d => d.parameters.length) = some 2 := by decide +kernel
set_option maxHeartbeats 4000000 in
set_option maxRecDepth 100000 in
theorem mm_X1_home {o : Nat} {a0 : Int32} {a1 : Int32} {out : Int32 × AH × Nat × Nat} (hE : IfOK l G E fE lE) (hf : f_X1_home E h nx o a0 a1 = some out) : Met l yX1_home (ws_ yX1_home cX1_home 3 (some .int)) (rC (fE + 4) (lE + 3100) out.2.2.1 out.2.2.2) (bPc G E.1 hSites h nx [.ref o, .int a0, .int a1]) (bQ G (some (.int out.1)) True out.2.1 (nx + out.2.2.1) (AA h nx)) out.2.2.1 out.2.2.2 (AA h nx) := by
  refine bGo (by decide +kernel) (Nat.le_of_ble_eq_true rfl) (fun p e s m below meth c ls S hr hlocks hin hnm hS hB hl => ?_)
  have S : CallFix p m c cX1_home 3 s _ lw_all RX1 := S
  obtain ⟨hx, hb, hml, hown, hts⟩ := id S
  have hl : lv_has ls 3 [(0, .ref o), (1, .int a0), (2, .int a1)] := hl
  have w30 : ∀ (x0 : Nat) (x1 : Int32) (x2 : Int32) (y0 : Nat) (y1 : Int32) (hc : AH) (nc : Nat) (ls : Array Slot) (H : Heap) (locs : List Loc) (ce sl : Nat) (o1 : Int32 × AH × Nat × Nat), BI G (AA h nx) s.heap hc nc H locs → nc = nx + ce → TL out o1 ce sl → lv_has ls 3 [(0, .ref x0), (1, .int x1), (2, .int x2)] → f_X1_home_30 E x0 x1 x2 y0 y1 hc nc = some o1 → W p l e (rC (fE + 4) (lE + 3100) out.2.2.1 out.2.2.2) s m ([.ref o, .int a0, .int a1] : List Value).toArray below meth c H locs ce sl (MQ below (bQ G (some (.int out.1)) True out.2.1 (nx + out.2.2.1) (AA h nx)) ([.ref o, .int a0, .int a1] : List Value).toArray s out.2.2.1 out.2.2.2 (AA h nx)) (F0 m 30 ls [.int y1, .ref y0]) := by
    intro x0 x1 x2 y0 y1 hc nc ls H locs ce sl o1 hB hn hT hl hf
    rw [f_X1_home_30] at hf
    obtain ⟨g1, hf⟩ := gd_t hf
    obtain ⟨v2, hv2, hf⟩ := ob_s hf
    obtain ⟨o3, hf, hT⟩ := TL_c hT hf
    refine mc_X1_155 (fE := fE) (lE := lE) S hS hB g1 hv2 hl.1 ⟨(by show _ ≤ (fE + 4); omega), (by show _ ≤ (lE + 3100); omega)⟩ (Nat.le_of_ble_eq_true rfl) ⟨(TL_m hT).1, (TL_m hT).2⟩ dX1_home_30 (fun H locs hnv2 hB => ?_)
    refine lv_if_ne (tgt := 38) hx hb dX1_home_33 (by decide) (fun c4 => ?_) (fun c4 => ?_)
    · replace hf := it_f c4 hf
      refine lv_iload_n hx hb dX1_home_38 rfl (lv_at hl 2 rfl) ?_
      by_cases c5 : x2 = 0
      · replace hf := it_t c5 hf
        refine lv_tableIn (tgt := 80) (off := 41) hx hb dX1_home_39 (by rw [c5]; decide) (by rw [c5]; decide) (by rw [c5]; decide) (by decide) ?_
        refine lv_aload_n hx hb dX1_home_80 rfl (lv_at hl 0 rfl) ?_
        refine lv_iload_n hx hb dX1_home_81 rfl (lv_at hl 1 rfl) ?_
        obtain ⟨g6, hf⟩ := gd_t hf
        obtain ⟨v7, hv7, hf⟩ := ob_s hf
        refine mc_X1_234 (fE := fE) (lE := lE) S hS hB g6 hv7 hl.1 ⟨(by show _ ≤ (fE + 4); omega), (by show _ ≤ (lE + 3100); omega)⟩ (Nat.le_of_ble_eq_true rfl) ⟨(TL_m hT).1, (TL_m hT).2⟩ dX1_home_82 (fun _ => ?_)
        obtain ⟨v8, hv8, hf⟩ := ob_s hf
        refine bg_X1_238 S hS hB (vI_s hv8) dX1_home_85 ?_
        have hE9 := TL_e hT hf
        subst hE9
        exact bt_i S hr hlocks hB (by omega) trivial dX1_home_88
      · replace hf := it_f c5 hf
        by_cases c9 : x2 = 1
        · replace hf := it_t c9 hf
          refine lv_tableIn (tgt := 89) (off := 50) hx hb dX1_home_39 (by rw [c9]; decide) (by rw [c9]; decide) (by rw [c9]; decide) (by decide) ?_
          refine lv_aload_n hx hb dX1_home_89 rfl (lv_at hl 0 rfl) ?_
          refine lv_iload_n hx hb dX1_home_90 rfl (lv_at hl 1 rfl) ?_
          obtain ⟨g10, hf⟩ := gd_t hf
          obtain ⟨v11, hv11, hf⟩ := ob_s hf
          refine mc_X1_234 (fE := fE) (lE := lE) S hS hB g10 hv11 hl.1 ⟨(by show _ ≤ (fE + 4); omega), (by show _ ≤ (lE + 3100); omega)⟩ (Nat.le_of_ble_eq_true rfl) ⟨(TL_m hT).1, (TL_m hT).2⟩ dX1_home_91 (fun _ => ?_)
          obtain ⟨v12, hv12, hf⟩ := ob_s hf
          refine bg_X1_241 S hS hB (vI_s hv12) dX1_home_94 ?_
          have hE9 := TL_e hT hf
          subst hE9
          exact bt_i S hr hlocks hB (by omega) trivial dX1_home_97
        · replace hf := it_f c9 hf
          by_cases c13 : x2 = (nI 2)
          · replace hf := it_t c13 hf
            refine lv_tableIn (tgt := 98) (off := 59) hx hb dX1_home_39 (by rw [c13]; decide) (by rw [c13]; decide) (by rw [c13]; decide) (by decide) ?_
            refine lv_aload_n hx hb dX1_home_98 rfl (lv_at hl 0 rfl) ?_
            refine lv_aload_n hx hb dX1_home_99 rfl (lv_at hl 0 rfl) ?_
            obtain ⟨v14, hv14, hf⟩ := ob_s hf
            refine bg_X1_70 S hS hB (vR_s hv14) dX1_home_100 ?_
            refine lv_iload_n hx hb dX1_home_103 rfl (lv_at hl 1 rfl) ?_
            obtain ⟨g15, hf⟩ := gd_t hf
            obtain ⟨v16, hv16, hf⟩ := ob_s hf
            refine mc_X1_244 (fE := fE) (lE := lE) S hS hB g15 hv16 hl.1 ⟨(by show _ ≤ (fE + 4); omega), (by show _ ≤ (lE + 3100); omega)⟩ (Nat.le_of_ble_eq_true rfl) ⟨(TL_m hT).1, (TL_m hT).2⟩ dX1_home_104 (fun _ => ?_)
            obtain ⟨g17, hf⟩ := gd_t hf
            obtain ⟨v18, hv18, hf⟩ := ob_s hf
            obtain ⟨o19, hf, hT⟩ := TL_c hT hf
            refine mc_X1_247 (fE := fE) (lE := lE) S hS hB g17 hv18 hl.1 ⟨(by show _ ≤ (fE + 4); omega), (by show _ ≤ (lE + 3100); omega)⟩ (Nat.le_of_ble_eq_true rfl) ⟨(TL_m hT).1, (TL_m hT).2⟩ dX1_home_107 (fun H locs _ hB => ?_)
            have hE9 := TL_e hT hf
            subst hE9
            exact bt_i S hr hlocks hB (by omega) trivial dX1_home_110
          · replace hf := it_f c13 hf
            by_cases c20 : x2 = (nI 3)
            · replace hf := it_t c20 hf
              refine lv_tableIn (tgt := 111) (off := 72) hx hb dX1_home_39 (by rw [c20]; decide) (by rw [c20]; decide) (by rw [c20]; decide) (by decide) ?_
              refine lv_aload_n hx hb dX1_home_111 rfl (lv_at hl 0 rfl) ?_
              obtain ⟨v21, hv21, hf⟩ := ob_s hf
              refine bg_X1_70 S hS hB (vR_s hv21) dX1_home_112 ?_
              refine lv_iload_n hx hb dX1_home_115 rfl (lv_at hl 1 rfl) ?_
              obtain ⟨g22, hf⟩ := gd_t hf
              obtain ⟨v23, hv23, hf⟩ := ob_s hf
              refine mc_X1_250 (fE := fE) (lE := lE) S hS hB g22 hv23 hl.1 ⟨(by show _ ≤ (fE + 4); omega), (by show _ ≤ (lE + 3100); omega)⟩ (Nat.le_of_ble_eq_true rfl) ⟨(TL_m hT).1, (TL_m hT).2⟩ dX1_home_116 (fun hnv23 => ?_)
              obtain ⟨v24, hv24, hf⟩ := ob_s hf
              refine mc_X1_7 S hS.1 hv24 hl.1 ⟨(by show _ ≤ (fE + 4); omega), (by show _ ≤ (lE + 3100); omega)⟩ (Nat.le_of_ble_eq_true rfl) ⟨(TL_m hT).1, (TL_m hT).2⟩ dX1_home_119 (fun _ => ?_)
              have hE9 := TL_e hT hf
              subst hE9
              exact bt_i S hr hlocks hB (by omega) trivial dX1_home_122
            · replace hf := it_f c20 hf
              by_cases c25 : x2 = (nI 4)
              · replace hf := it_t c25 hf
                refine lv_tableIn (tgt := 123) (off := 84) hx hb dX1_home_39 (by rw [c25]; decide) (by rw [c25]; decide) (by rw [c25]; decide) (by decide) ?_
                refine lv_aload_n hx hb dX1_home_123 rfl (lv_at hl 0 rfl) ?_
                obtain ⟨v26, hv26, hf⟩ := ob_s hf
                refine bg_X1_51 S hS hB (vR_s hv26) dX1_home_124 ?_
                obtain ⟨g27, hf⟩ := gd_t hf
                obtain ⟨v28, hv28, hf⟩ := ob_s hf
                refine mc_X1_130 (fE := fE) (lE := lE) S hS hB g27 hv28 hl.1 ⟨(by show _ ≤ (fE + 4); omega), (by show _ ≤ (lE + 3100); omega)⟩ (Nat.le_of_ble_eq_true rfl) ⟨(TL_m hT).1, (TL_m hT).2⟩ dX1_home_127 (fun _ => ?_)
                refine lv_aload_n hx hb dX1_home_130 rfl (lv_at hl 0 rfl) ?_
                refine lv_iload_n hx hb dX1_home_131 rfl (lv_at hl 1 rfl) ?_
                obtain ⟨o29, hf, hT⟩ := TL_c hT hf
                refine b_lam S hS hB (k := 17) (vs := [.ref x0, .int x1]) hnm rfl lamL_17 (lamV_c rfl rfl (lamV_c rfl rfl lamV_n)) rfl hl.1 (by show _ ≤ (lE + 3100); simp only [List.map, List.sum_cons, List.sum_nil, Value.category]; omega) (TL_m hT).1 (TL_m hT).2 dX1_home_132 (fun H hB => ?_)
                obtain ⟨v30, hv30, hf⟩ := ob_s hf
                obtain ⟨o31, hf, hT⟩ := TL_c hT hf
                refine mc_X1_192 (fE := fE) (lE := lE) S hE hS hB hv30 hl.1 ⟨(by show _ ≤ (fE + 4); omega), (by show _ ≤ (lE + 3100); omega)⟩ (Nat.le_of_ble_eq_true rfl) ⟨(TL_m hT).1, (TL_m hT).2⟩ dX1_home_137 (fun H locs _ hB => ?_)
                have hE9 := TL_e hT hf
                subst hE9
                exact bt_i S hr hlocks hB (by omega) trivial dX1_home_140
              · replace hf := it_f c25 hf
                by_cases c32 : x2 = (nI 5)
                · replace hf := it_t c32 hf
                  refine lv_tableIn (tgt := 141) (off := 102) hx hb dX1_home_39 (by rw [c32]; decide) (by rw [c32]; decide) (by rw [c32]; decide) (by decide) ?_
                  refine lv_aload_n hx hb dX1_home_141 rfl (lv_at hl 0 rfl) ?_
                  obtain ⟨v33, hv33, hf⟩ := ob_s hf
                  refine bg_X1_70 S hS hB (vR_s hv33) dX1_home_142 ?_
                  obtain ⟨v34, hv34, hf⟩ := ob_s hf
                  refine bg_X1_204 S hS hB (vR_s hv34) dX1_home_145 ?_
                  obtain ⟨g35, hf⟩ := gd_t hf
                  obtain ⟨v36, hv36, hf⟩ := ob_s hf
                  refine mc_X1_130 (fE := fE) (lE := lE) S hS hB g35 hv36 hl.1 ⟨(by show _ ≤ (fE + 4); omega), (by show _ ≤ (lE + 3100); omega)⟩ (Nat.le_of_ble_eq_true rfl) ⟨(TL_m hT).1, (TL_m hT).2⟩ dX1_home_148 (fun _ => ?_)
                  refine lv_aload_n hx hb dX1_home_151 rfl (lv_at hl 0 rfl) ?_
                  refine lv_iload_n hx hb dX1_home_152 rfl (lv_at hl 1 rfl) ?_
                  obtain ⟨o37, hf, hT⟩ := TL_c hT hf
                  refine b_lam S hS hB (k := 18) (vs := [.ref x0, .int x1]) hnm rfl lamL_18 (lamV_c rfl rfl (lamV_c rfl rfl lamV_n)) rfl hl.1 (by show _ ≤ (lE + 3100); simp only [List.map, List.sum_cons, List.sum_nil, Value.category]; omega) (TL_m hT).1 (TL_m hT).2 dX1_home_153 (fun H hB => ?_)
                  obtain ⟨v38, hv38, hf⟩ := ob_s hf
                  obtain ⟨o39, hf, hT⟩ := TL_c hT hf
                  refine mc_X1_192 (fE := fE) (lE := lE) S hE hS hB hv38 hl.1 ⟨(by show _ ≤ (fE + 4); omega), (by show _ ≤ (lE + 3100); omega)⟩ (Nat.le_of_ble_eq_true rfl) ⟨(TL_m hT).1, (TL_m hT).2⟩ dX1_home_158 (fun H locs _ hB => ?_)
                  have hE9 := TL_e hT hf
                  subst hE9
                  exact bt_i S hr hlocks hB (by omega) trivial dX1_home_161
                · replace hf := it_f c32 hf
                  by_cases c40 : x2 = (nI 6)
                  · replace hf := it_t c40 hf
                    refine lv_tableIn (tgt := 162) (off := 123) hx hb dX1_home_39 (by rw [c40]; decide) (by rw [c40]; decide) (by rw [c40]; decide) (by decide) ?_
                    refine lv_aload_n hx hb dX1_home_162 rfl (lv_at hl 0 rfl) ?_
                    obtain ⟨v41, hv41, hf⟩ := ob_s hf
                    refine bg_X1_70 S hS hB (vR_s hv41) dX1_home_163 ?_
                    obtain ⟨v42, hv42, hf⟩ := ob_s hf
                    refine bg_X1_257 S hS hB (vR_s hv42) dX1_home_166 ?_
                    refine lv_iload_n hx hb dX1_home_169 rfl (lv_at hl 1 rfl) ?_
                    obtain ⟨v43, hv43, hf⟩ := ob_s hf
                    refine b_zald S hS.1 hB hv43 dX1_home_170 ?_
                    obtain ⟨v44, hv44, hf⟩ := ob_s hf
                    refine mc_X1_7 S hS.1 hv44 hl.1 ⟨(by show _ ≤ (fE + 4); omega), (by show _ ≤ (lE + 3100); omega)⟩ (Nat.le_of_ble_eq_true rfl) ⟨(TL_m hT).1, (TL_m hT).2⟩ dX1_home_171 (fun _ => ?_)
                    have hE9 := TL_e hT hf
                    subst hE9
                    exact bt_i S hr hlocks hB (by omega) trivial dX1_home_174
                  · replace hf := it_f c40 hf
                    refine lv_tableOut (tgt := 175) hx hb dX1_home_39 (by have n0 := lv_neT (a := 0) c5 (by decide); have n1 := lv_neT (a := 1) c9 (by decide); have n2 := lv_neT (a := 2) c13 (by decide); have n3 := lv_neT (a := 3) c20 (by decide); have n4 := lv_neT (a := 4) c25 (by decide); have n5 := lv_neT (a := 5) c32 (by decide); have n6 := lv_neT (a := 6) c40 (by decide); omega) (by decide) ?_
                    refine lv_aload_n hx hb dX1_home_175 rfl (lv_at hl 0 rfl) ?_
                    obtain ⟨v45, hv45, hf⟩ := ob_s hf
                    refine bg_X1_70 S hS hB (vR_s hv45) dX1_home_176 ?_
                    obtain ⟨v46, hv46, hf⟩ := ob_s hf
                    refine bg_X1_261 S hS hB (vR_s hv46) dX1_home_179 ?_
                    refine lv_iload_n hx hb dX1_home_182 rfl (lv_at hl 1 rfl) ?_
                    obtain ⟨v47, hv47, hf⟩ := ob_s hf
                    refine b_iald S hS.1 hB hv47 dX1_home_183 ?_
                    have hE9 := TL_e hT hf
                    subst hE9
                    exact bt_i S hr hlocks hB (by omega) trivial dX1_home_184
    · replace hf := it_t c4 hf
      refine lv_iconst hx hb dX1_home_36 kc_im1 ?_
      have hE9 := TL_e hT hf
      subst hE9
      exact bt_i S hr hlocks hB (by omega) trivial dX1_home_37
  have hT : TL out out 0 0 := TL_0
  rw [f_X1_home] at hf
  refine lv_aload_n hx hb dX1_home_0 rfl (lv_at hl 0 rfl) ?_
  refine lv_iload_n hx hb dX1_home_1 rfl (lv_at hl 2 rfl) ?_
  refine lv_i2l hx hb dX1_home_2 rfl ?_
  refine lv_lconst (v := 0) hx hb dX1_home_3 (by decide) ?_
  refine lv_ldc2 hx hb hown (hts _ q1212) dX1_home_4 ?_
  obtain ⟨v1, hv1, hf⟩ := ob_s hf
  refine mc_X1_134 S hS.1 hv1 hl.1 ⟨(by show _ ≤ (fE + 4); omega), (by show _ ≤ (lE + 3100); omega)⟩ (Nat.le_of_ble_eq_true rfl) ⟨(TL_m hT).1, (TL_m hT).2⟩ dX1_home_7 (fun hnv1 => ?_)
  refine lv_if_ne (tgt := 17) hx hb dX1_home_10 (by decide) (fun c2 => ?_) (fun c2 => ?_)
  · replace hf := it_f c2 hf
    refine lv_aload_n hx hb dX1_home_17 rfl (lv_at hl 0 rfl) ?_
    refine lv_iload_n hx hb dX1_home_18 rfl (lv_at hl 1 rfl) ?_
    obtain ⟨g3, hf⟩ := gd_t hf
    obtain ⟨v4, hv4, hf⟩ := ob_s hf
    refine mc_X1_141 (fE := fE) (lE := lE) S hS hB g3 hv4 hl.1 ⟨(by show _ ≤ (fE + 4); omega), (by show _ ≤ (lE + 3100); omega)⟩ (Nat.le_of_ble_eq_true rfl) ⟨(TL_m hT).1, (TL_m hT).2⟩ dX1_home_19 (fun hnv4 => ?_)
    refine lv_if_eq (tgt := 29) hx hb dX1_home_22 (by decide) (fun c5 => ?_) (fun c5 => ?_)
    · replace hf := it_t c5 hf
      refine lv_iconst hx hb dX1_home_29 kc_i2 ?_
      exact (w30) o a0 a1 o (nI 2) h nx ls s.heap [] 0 0 out hB (by omega) hT hl hf
    · replace hf := it_f c5 hf
      refine lv_iconst hx hb dX1_home_25 kc_i0 ?_
      refine lv_goto (tgt := 30) hx hb dX1_home_26 (by decide) ?_
      exact (w30) o a0 a1 o 0 h nx ls s.heap [] 0 0 out hB (by omega) hT hl hf
  · replace hf := it_t c2 hf
    refine lv_iconst hx hb dX1_home_13 kc_i1 ?_
    refine lv_goto (tgt := 30) hx hb dX1_home_14 (by decide) ?_
    exact (w30) o a0 a1 o 1 h nx ls s.heap [] 0 0 out hB (by omega) hT hl hf
theorem hd_X1_lambda_home_8 : yX1_lambda_home_8.cls = RX1 ∧ yX1_lambda_home_8.cls ≠ "java/lang/invoke/MethodHandle" ∧ yX1_lambda_home_8.cls ≠ "java/lang/invoke/VarHandle" ∧ (parseMethodDescriptor yX1_lambda_home_8.desc).map (fun d => d.parameters.length) = some 2 := by decide +kernel
set_option maxHeartbeats 4000000 in
set_option maxRecDepth 100000 in
theorem mm_X1_lambda_home_8 {o : Nat} {a0 : Int32} {a1 : Int32} {out : Int32} (hf : f_X1_lambda_home_8 E h o a0 a1 = some out) : Met l yX1_lambda_home_8 (ws_ yX1_lambda_home_8 cX1_lambda_home_8 3 (some .boolean)) (rM (fE + 1) (lE + 22)) (bPc G E.1 hSites h nx [.ref o, .int a0, .int a1]) (gR (some (.int out)) (narrow .boolean (.int out) = .int out)) 0 0 (fun _ => False) := by
  refine bGo (by decide +kernel) (Nat.le_of_ble_eq_true rfl) (fun p e s m below meth c ls S hr hlocks hin hnm hS hB hl => ?_)
  have S : CallFix p m c cX1_lambda_home_8 3 s _ lw_all RX1 := S
  obtain ⟨hx, hb, hml, hown, hts⟩ := id S
  have hl : lv_has ls 3 [(0, .ref o), (1, .int a0), (2, .int a1)] := hl
  rw [f_X1_lambda_home_8] at hf
  refine lv_aload_n hx hb dX1_lambda_home_8_0 rfl (lv_at hl 0 rfl) ?_
  obtain ⟨v1, hv1, hf⟩ := ob_s hf
  refine bg_X1_70 S hS hB (vR_s hv1) dX1_lambda_home_8_1 ?_
  refine lv_iload_n hx hb dX1_lambda_home_8_4 rfl (lv_at hl 2 rfl) ?_
  refine lv_iload_n hx hb dX1_lambda_home_8_5 rfl (lv_at hl 1 rfl) ?_
  obtain ⟨g2, hf⟩ := gd_t hf
  obtain ⟨v3, hv3, hf⟩ := ob_s hf
  refine mc_X1_325 (fE := fE) (lE := lE) S hS hB g2 hv3 hl.1 ⟨(by show _ ≤ (fE + 1); omega), (by show _ ≤ (lE + 22); omega)⟩ (Nat.le_of_ble_eq_true rfl) ⟨Nat.zero_le _, Nat.zero_le _⟩ dX1_lambda_home_8_6 (fun hnv3 => ?_)
  have hE9 := Option.some.inj hf
  subst hE9
  exact gt_rz S hr hlocks hnv3 dX1_lambda_home_8_9
theorem hd_X1_lambda_home_9 : yX1_lambda_home_9.cls = RX1 ∧ yX1_lambda_home_9.cls ≠ "java/lang/invoke/MethodHandle" ∧ yX1_lambda_home_9.cls ≠ "java/lang/invoke/VarHandle" ∧ (parseMethodDescriptor yX1_lambda_home_9.desc).map (fun d => d.parameters.length) = some 2 := by decide +kernel
set_option maxHeartbeats 4000000 in
set_option maxRecDepth 100000 in
theorem mm_X1_lambda_home_9 {o : Nat} {a0 : Int32} {a1 : Int32} {out : Int32} (hf : f_X1_lambda_home_9 E h o a0 a1 = some out) : Met l yX1_lambda_home_9 (ws_ yX1_lambda_home_9 cX1_lambda_home_9 3 (some .boolean)) (rM (fE + 3) (lE + 64)) (bPc G E.1 hSites h nx [.ref o, .int a0, .int a1]) (gR (some (.int out)) (narrow .boolean (.int out) = .int out)) 0 0 (fun _ => False) := by
  refine bGo (by decide +kernel) (Nat.le_of_ble_eq_true rfl) (fun p e s m below meth c ls S hr hlocks hin hnm hS hB hl => ?_)
  have S : CallFix p m c cX1_lambda_home_9 3 s _ lw_all RX1 := S
  obtain ⟨hx, hb, hml, hown, hts⟩ := id S
  have hl : lv_has ls 3 [(0, .ref o), (1, .int a0), (2, .int a1)] := hl
  rw [f_X1_lambda_home_9] at hf
  refine lv_aload_n hx hb dX1_lambda_home_9_0 rfl (lv_at hl 0 rfl) ?_
  obtain ⟨v1, hv1, hf⟩ := ob_s hf
  refine bg_X1_70 S hS hB (vR_s hv1) dX1_lambda_home_9_1 ?_
  obtain ⟨v2, hv2, hf⟩ := ob_s hf
  refine bg_X1_204 S hS hB (vR_s hv2) dX1_lambda_home_9_4 ?_
  refine lv_iload_n hx hb dX1_lambda_home_9_7 rfl (lv_at hl 2 rfl) ?_
  obtain ⟨g3, hf⟩ := gd_t hf
  obtain ⟨v4, hv4, hf⟩ := ob_s hf
  refine mc_X1_43 (fE := fE) (lE := lE) S hS hB g3 hv4 hl.1 ⟨(by show _ ≤ (fE + 3); omega), (by show _ ≤ (lE + 64); omega)⟩ (Nat.le_of_ble_eq_true rfl) ⟨Nat.zero_le _, Nat.zero_le _⟩ dX1_lambda_home_9_8 (fun _ => ?_)
  obtain ⟨g5, hf⟩ := gd_t hf
  refine b_castO S hS.1 hB (ci := 7) rfl (hts _ q1230) g5 dX1_lambda_home_9_11 ?_
  obtain ⟨v6, hv6, hf⟩ := ob_s hf
  refine bg_X1_358 S hS hB (vI_s hv6) dX1_lambda_home_9_14 ?_
  refine lv_iload_n hx hb dX1_lambda_home_9_17 rfl (lv_at hl 1 rfl) ?_
  refine lv_icmp_ne (tgt := 25) hx hb dX1_lambda_home_9_18 (by decide) (fun c7 => ?_) (fun c7 => ?_)
  · replace hf := it_f c7 hf
    refine lv_iconst hx hb dX1_lambda_home_9_25 kc_i0 ?_
    have hE9 := Option.some.inj hf
    subst hE9
    exact gt_rz S hr hlocks nb0 dX1_lambda_home_9_26
  · replace hf := it_t c7 hf
    refine lv_iconst hx hb dX1_lambda_home_9_21 kc_i1 ?_
    refine lv_goto (tgt := 26) hx hb dX1_lambda_home_9_22 (by decide) ?_
    have hE9 := Option.some.inj hf
    subst hE9
    exact gt_rz S hr hlocks nb1 dX1_lambda_home_9_26
theorem hd_X1_isHouse : yX1_isHouse.cls = RX1 ∧ yX1_isHouse.cls ≠ "java/lang/invoke/MethodHandle" ∧ yX1_isHouse.cls ≠ "java/lang/invoke/VarHandle" ∧ (parseMethodDescriptor yX1_isHouse.desc).map (fun d => d.parameters.length) = some 1 := by decide +kernel
set_option maxHeartbeats 4000000 in
set_option maxRecDepth 100000 in
theorem mm_X1_isHouse {o : Nat} {a0 : Int32} {out : Int32} (hf : f_X1_isHouse E h o a0 = some out) : Met l yX1_isHouse (ws_ yX1_isHouse cX1_isHouse 2 (some .boolean)) (rM (fE + 1) (lE + 25)) (bPc G E.1 hSites h nx [.ref o, .int a0]) (gR (some (.int out)) (narrow .boolean (.int out) = .int out)) 0 0 (fun _ => False) := by
  refine bGo (by decide +kernel) (Nat.le_of_ble_eq_true rfl) (fun p e s m below meth c ls S hr hlocks hin hnm hS hB hl => ?_)
  have S : CallFix p m c cX1_isHouse 2 s _ lw_all RX1 := S
  obtain ⟨hx, hb, hml, hown, hts⟩ := id S
  have hl : lv_has ls 2 [(0, .ref o), (1, .int a0)] := hl
  rw [f_X1_isHouse] at hf
  refine lv_iload_n hx hb dX1_isHouse_0 rfl (lv_at hl 1 rfl) ?_
  refine lv_i2l hx hb dX1_isHouse_1 rfl ?_
  refine lv_lconst (v := 0) hx hb dX1_isHouse_2 (by decide) ?_
  refine lv_aload_n hx hb dX1_isHouse_3 rfl (lv_at hl 0 rfl) ?_
  obtain ⟨v1, hv1, hf⟩ := ob_s hf
  refine bg_X1_51 S hS hB (vR_s hv1) dX1_isHouse_4 ?_
  obtain ⟨g2, hf⟩ := gd_t hf
  obtain ⟨v3, hv3, hf⟩ := ob_s hf
  refine mc_X1_130 (fE := fE) (lE := lE) S hS hB g2 hv3 hl.1 ⟨(by show _ ≤ (fE + 1); omega), (by show _ ≤ (lE + 25); omega)⟩ (Nat.le_of_ble_eq_true rfl) ⟨Nat.zero_le _, Nat.zero_le _⟩ dX1_isHouse_7 (fun _ => ?_)
  refine lv_iconst hx hb dX1_isHouse_10 kc_i1 ?_
  refine lv_isub hx hb dX1_isHouse_11 ?_
  refine lv_i2l hx hb dX1_isHouse_12 rfl ?_
  obtain ⟨v4, hv4, hf⟩ := ob_s hf
  refine mc_X1_134 S hS.1 hv4 hl.1 ⟨(by show _ ≤ (fE + 1); omega), (by show _ ≤ (lE + 25); omega)⟩ (Nat.le_of_ble_eq_true rfl) ⟨Nat.zero_le _, Nat.zero_le _⟩ dX1_isHouse_13 (fun hnv4 => ?_)
  have hE9 := Option.some.inj hf
  subst hE9
  exact gt_rz S hr hlocks hnv4 dX1_isHouse_16
set_option maxRecDepth 100000 in
theorem mc_X1_138 {o : Nat} {a0 : Int32} {out : Int32} (S : CallFix p m c cc nL s args lw_all RX1) (hS : SK G E.1 hSites A s) (hB : BI G A s.heap h nx H locs) (ho : isO h o 0 = true) (hf : f_X1_isHouse E h o a0 = some out) (hsz : ls.size = nL) (hR : (fE + 1) + 1 ≤ R.frames ∧ 8 + (2 + 11) + (lE + 25) ≤ R.locals) (hW : (rest.map fun v => v.category).sum ≤ 8) (hcs : cells ≤ R.cells ∧ slots ≤ R.slots) (hdg : decode cc pc = .ok (.invokevirtual 138, 3))  (kk : (narrow .boolean (.int out) = .int out) → W p l e R s m args below meth c H locs cells slots Q (F0 m (pc + 3) ls (.int out :: rest))) : W p l e R s m args below meth c H locs cells slots Q (F0 m pc ls (.int a0 :: .ref o :: rest)) := by
  have hN := hS.2.1
  obtain ⟨fs, he⟩ := isO_s ho
  exact br_r (va_runV (As := [.int a0]) S (mm_X1_isHouse (l := l) (G := G) (nx := nx) (fE := fE) (lE := lE) hf) (cwV 1 S.2.2.2.2 (lw_V q1238 q1240 qs41 q174 q1241) rfl rfl rfl hd_X1_isHouse hR) (bPreV hS hB (ci := 0) rfl he) rfl rfl hsz rfl (lv_room hW) hdg hcs) kk
theorem hd_X1_house : yX1_house.cls = RX1 ∧ yX1_house.cls ≠ "java/lang/invoke/MethodHandle" ∧ yX1_house.cls ≠ "java/lang/invoke/VarHandle" ∧ (parseMethodDescriptor yX1_house.desc).map (fun d => d.parameters.length) = some 2 := by decide +kernel
set_option maxHeartbeats 4000000 in
set_option maxRecDepth 100000 in
theorem mm_X1_house {o : Nat} {a0 : Int32} {a1 : Int32} {out : Int32 × AH × Nat × Nat} (hf : f_X1_house E h nx o a0 a1 = some out) : Met l yX1_house (ws_ yX1_house cX1_house 5 (some .int)) (rC (fE + 6) (lE + 127) out.2.2.1 out.2.2.2) (bPc G E.1 hSites h nx [.ref o, .int a0, .int a1]) (bQ G (some (.int out.1)) True out.2.1 (nx + out.2.2.1) (AA h nx)) out.2.2.1 out.2.2.2 (AA h nx) := by
  refine bGo (by decide +kernel) (Nat.le_of_ble_eq_true rfl) (fun p e s m below meth c ls S hr hlocks hin hnm hS hB hl => ?_)
  have S : CallFix p m c cX1_house 5 s _ lw_all RX1 := S
  obtain ⟨hx, hb, hml, hown, hts⟩ := id S
  have hl : lv_has ls 5 [(0, .ref o), (1, .int a0), (2, .int a1)] := hl
  have w33 : ∀ (k46 : Nat → Int32 → Int32 → Int32 → Nat → Int32 → AH → Nat → Option (Int32 × AH × Nat × Nat)), (∀ (b0 : Nat) (b1 : Int32) (b2 : Int32) (b3 : Int32) (b4 : Nat) (b5 : Int32) (b6 : AH) (b7 : Nat) (ls : Array Slot) (H : Heap) (locs : List Loc) (ce sl : Nat) (o1 : Int32 × AH × Nat × Nat), BI G (AA h nx) s.heap b6 b7 H locs → b7 = nx + ce → TL out o1 ce sl → lv_has ls 5 [(0, .ref b0), (1, .int b1), (2, .int b2), (3, .int b3)] → k46 b0 b1 b2 b3 b4 b5 b6 b7 = some o1 → W p l e (rC (fE + 6) (lE + 127) out.2.2.1 out.2.2.2) s m ([.ref o, .int a0, .int a1] : List Value).toArray below meth c H locs ce sl (MQ below (bQ G (some (.int out.1)) True out.2.1 (nx + out.2.2.1) (AA h nx)) ([.ref o, .int a0, .int a1] : List Value).toArray s out.2.2.1 out.2.2.2 (AA h nx)) (F0 m 46 ls [.int b5, .ref b4])) → ∀ (x0 : Nat) (x1 : Int32) (x2 : Int32) (x3 : Int32) (y0 : Nat) (hc : AH) (nc : Nat) (ls : Array Slot) (H : Heap) (locs : List Loc) (ce sl : Nat) (o1 : Int32 × AH × Nat × Nat), BI G (AA h nx) s.heap hc nc H locs → nc = nx + ce → TL out o1 ce sl → lv_has ls 5 [(0, .ref x0), (1, .int x1), (2, .int x2), (3, .int x3)] → f_X1_house_33 k46 E x0 x1 x2 x3 y0 hc nc = some o1 → W p l e (rC (fE + 6) (lE + 127) out.2.2.1 out.2.2.2) s m ([.ref o, .int a0, .int a1] : List Value).toArray below meth c H locs ce sl (MQ below (bQ G (some (.int out.1)) True out.2.1 (nx + out.2.2.1) (AA h nx)) ([.ref o, .int a0, .int a1] : List Value).toArray s out.2.2.1 out.2.2.2 (AA h nx)) (F0 m 33 ls [.ref y0]) := by
    intro k46 hk46 x0 x1 x2 x3 y0 hc nc ls H locs ce sl o1 hB hn hT hl hf
    rw [f_X1_house_33] at hf
    refine lv_aload_n hx hb dX1_house_33 rfl (lv_at hl 0 rfl) ?_
    refine lv_iload_n hx hb dX1_house_34 rfl (lv_at hl 1 rfl) ?_
    obtain ⟨g1, hf⟩ := gd_t hf
    obtain ⟨v2, hv2, hf⟩ := ob_s hf
    refine mc_X1_138 (fE := fE) (lE := lE) S hS hB g1 hv2 hl.1 ⟨(by show _ ≤ (fE + 6); omega), (by show _ ≤ (lE + 127); omega)⟩ (Nat.le_of_ble_eq_true rfl) ⟨(TL_m hT).1, (TL_m hT).2⟩ dX1_house_35 (fun hnv2 => ?_)
    refine lv_if_eq (tgt := 45) hx hb dX1_house_38 (by decide) (fun c3 => ?_) (fun c3 => ?_)
    · replace hf := it_t c3 hf
      refine lv_iconst hx hb dX1_house_45 kc_i2 ?_
      exact hk46 x0 x1 x2 x3 y0 (nI 2) hc nc ls H locs ce sl o1 hB (by omega) hT hl hf
    · replace hf := it_f c3 hf
      refine lv_iconst hx hb dX1_house_41 kc_i0 ?_
      refine lv_goto (tgt := 46) hx hb dX1_house_42 (by decide) ?_
      exact hk46 x0 x1 x2 x3 y0 0 hc nc ls H locs ce sl o1 hB (by omega) hT hl hf
  have w91 : ∀ (y0 : Nat) (y1 : Int32) (hc : AH) (nc : Nat) (ls : Array Slot) (H : Heap) (locs : List Loc) (ce sl : Nat) (o1 : Int32 × AH × Nat × Nat), BI G (AA h nx) s.heap hc nc H locs → nc = nx + ce → TL out o1 ce sl → lv_has ls 5 [] → f_X1_house_91 E y0 y1 hc nc = some o1 → W p l e (rC (fE + 6) (lE + 127) out.2.2.1 out.2.2.2) s m ([.ref o, .int a0, .int a1] : List Value).toArray below meth c H locs ce sl (MQ below (bQ G (some (.int out.1)) True out.2.1 (nx + out.2.2.1) (AA h nx)) ([.ref o, .int a0, .int a1] : List Value).toArray s out.2.2.1 out.2.2.2 (AA h nx)) (F0 m 91 ls [.int y1, .ref y0]) := by
    intro y0 y1 hc nc ls H locs ce sl o1 hB hn hT hl hf
    rw [f_X1_house_91] at hf
    obtain ⟨g1, hf⟩ := gd_t hf
    obtain ⟨v2, hv2, hf⟩ := ob_s hf
    obtain ⟨o3, hf, hT⟩ := TL_c hT hf
    refine mc_X1_247 (fE := fE) (lE := lE) S hS hB g1 hv2 hl.1 ⟨(by show _ ≤ (fE + 6); omega), (by show _ ≤ (lE + 127); omega)⟩ (Nat.le_of_ble_eq_true rfl) ⟨(TL_m hT).1, (TL_m hT).2⟩ dX1_house_91 (fun H locs _ hB => ?_)
    have hE9 := TL_e hT hf
    subst hE9
    exact bt_i S hr hlocks hB (by omega) trivial dX1_house_94
  have w46 : ∀ (x0 : Nat) (x1 : Int32) (x2 : Int32) (x3 : Int32) (y0 : Nat) (y1 : Int32) (hc : AH) (nc : Nat) (ls : Array Slot) (H : Heap) (locs : List Loc) (ce sl : Nat) (o1 : Int32 × AH × Nat × Nat), BI G (AA h nx) s.heap hc nc H locs → nc = nx + ce → TL out o1 ce sl → lv_has ls 5 [(0, .ref x0), (1, .int x1), (2, .int x2), (3, .int x3)] → f_X1_house_46 E x0 x1 x2 x3 y0 y1 hc nc = some o1 → W p l e (rC (fE + 6) (lE + 127) out.2.2.1 out.2.2.2) s m ([.ref o, .int a0, .int a1] : List Value).toArray below meth c H locs ce sl (MQ below (bQ G (some (.int out.1)) True out.2.1 (nx + out.2.2.1) (AA h nx)) ([.ref o, .int a0, .int a1] : List Value).toArray s out.2.2.1 out.2.2.2 (AA h nx)) (F0 m 46 ls [.int y1, .ref y0]) := by
    intro x0 x1 x2 x3 y0 y1 hc nc ls H locs ce sl o1 hB hn hT hl hf
    rw [f_X1_house_46] at hf
    obtain ⟨g1, hf⟩ := gd_t hf
    obtain ⟨v2, hv2, hf⟩ := ob_s hf
    obtain ⟨o3, hf, hT⟩ := TL_c hT hf
    refine mc_X1_155 (fE := fE) (lE := lE) S hS hB g1 hv2 hl.1 ⟨(by show _ ≤ (fE + 6); omega), (by show _ ≤ (lE + 127); omega)⟩ (Nat.le_of_ble_eq_true rfl) ⟨(TL_m hT).1, (TL_m hT).2⟩ dX1_house_46 (fun H locs hnv2 hB => ?_)
    refine lv_if_ne (tgt := 54) hx hb dX1_house_49 (by decide) (fun c4 => ?_) (fun c4 => ?_)
    · replace hf := it_f c4 hf
      refine lv_iload_n hx hb dX1_house_54 rfl (lv_at hl 3 rfl) ?_
      refine lv_if_eq (tgt := 95) hx hb dX1_house_55 (by decide) (fun c5 => ?_) (fun c5 => ?_)
      · replace hf := it_t c5 hf
        refine lv_aload_n hx hb dX1_house_95 rfl (lv_at hl 0 rfl) ?_
        refine lv_iload_n hx hb dX1_house_96 rfl (lv_at hl 1 rfl) ?_
        obtain ⟨g6, hf⟩ := gd_t hf
        obtain ⟨v7, hv7, hf⟩ := ob_s hf
        refine mc_X1_277 (fE := fE) (lE := lE) S hS hB g6 hv7 hl.1 ⟨(by show _ ≤ (fE + 6); omega), (by show _ ≤ (lE + 127); omega)⟩ (Nat.le_of_ble_eq_true rfl) ⟨(TL_m hT).1, (TL_m hT).2⟩ dX1_house_97 (fun _ => ?_)
        refine lv_astore (lv' := [(4, .ref v7), (0, .ref x0), (1, .int x1), (2, .int x2), (3, .int x3)]) hx hb dX1_house_100 hl (by decide) rfl (fun ls hl => ?_)
        refine lv_iload_n hx hb dX1_house_102 rfl (lv_at hl 3 rfl) ?_
        by_cases c8 : x2 = 0
        · replace hf := it_t c8 hf
          refine lv_tableIn (tgt := 160) (off := 57) hx hb dX1_house_103 (by rw [c8]; decide) (by rw [c8]; decide) (by rw [c8]; decide) (by decide) ?_
          refine lv_aload hx hb dX1_house_160 (lv_at hl 0 rfl) ?_
          obtain ⟨g9, hf⟩ := gd_t hf
          obtain ⟨v10, hv10, hf⟩ := ob_s hf
          refine mc_X1_281 (fE := fE) (lE := lE) S hS hB g9 hv10 hl.1 ⟨(by show _ ≤ (fE + 6); omega), (by show _ ≤ (lE + 127); omega)⟩ (Nat.le_of_ble_eq_true rfl) ⟨(TL_m hT).1, (TL_m hT).2⟩ dX1_house_162 (fun _ => ?_)
          have hE9 := TL_e hT hf
          subst hE9
          exact bt_i S hr hlocks hB (by omega) trivial dX1_house_165
        · replace hf := it_f c8 hf
          by_cases c11 : x2 = 1
          · replace hf := it_t c11 hf
            refine lv_tableIn (tgt := 166) (off := 63) hx hb dX1_house_103 (by rw [c11]; decide) (by rw [c11]; decide) (by rw [c11]; decide) (by decide) ?_
            refine lv_aload_n hx hb dX1_house_166 rfl (lv_at hl 1 rfl) ?_
            obtain ⟨v12, hv12, hf⟩ := ob_s hf
            refine bg_X1_70 S hS hB (vR_s hv12) dX1_house_167 ?_
            refine lv_iload_n hx hb dX1_house_170 rfl (lv_at hl 2 rfl) ?_
            obtain ⟨g13, hf⟩ := gd_t hf
            obtain ⟨v14, hv14, hf⟩ := ob_s hf
            refine mc_X1_284 (fE := fE) (lE := lE) S hS hB g13 hv14 hl.1 ⟨(by show _ ≤ (fE + 6); omega), (by show _ ≤ (lE + 127); omega)⟩ (Nat.le_of_ble_eq_true rfl) ⟨(TL_m hT).1, (TL_m hT).2⟩ dX1_house_171 (fun _ => ?_)
            have hE9 := TL_e hT hf
            subst hE9
            exact bt_i S hr hlocks hB (by omega) trivial dX1_house_174
          · replace hf := it_f c11 hf
            by_cases c15 : x2 = (nI 2)
            · replace hf := it_t c15 hf
              refine lv_tableIn (tgt := 175) (off := 72) hx hb dX1_house_103 (by rw [c15]; decide) (by rw [c15]; decide) (by rw [c15]; decide) (by decide) ?_
              refine lv_aload_n hx hb dX1_house_175 rfl (lv_at hl 1 rfl) ?_
              obtain ⟨v16, hv16, hf⟩ := ob_s hf
              refine bg_X1_70 S hS hB (vR_s hv16) dX1_house_176 ?_
              obtain ⟨v17, hv17, hf⟩ := ob_s hf
              refine bg_X1_287 S hS hB (vR_s hv17) dX1_house_179 ?_
              refine lv_iload_n hx hb dX1_house_182 rfl (lv_at hl 2 rfl) ?_
              obtain ⟨v18, hv18, hf⟩ := ob_s hf
              refine b_iald S hS.1 hB hv18 dX1_house_183 ?_
              have hE9 := TL_e hT hf
              subst hE9
              exact bt_i S hr hlocks hB (by omega) trivial dX1_house_184
            · replace hf := it_f c15 hf
              by_cases c19 : x2 = (nI 3)
              · replace hf := it_t c19 hf
                refine lv_tableIn (tgt := 185) (off := 82) hx hb dX1_house_103 (by rw [c19]; decide) (by rw [c19]; decide) (by rw [c19]; decide) (by decide) ?_
                refine lv_aload hx hb dX1_house_185 (lv_at hl 0 rfl) ?_
                obtain ⟨g20, hf⟩ := gd_t hf
                obtain ⟨v21, hv21, hf⟩ := ob_s hf
                refine mc_X1_290 (fE := fE) (lE := lE) S hS hB g20 hv21 hl.1 ⟨(by show _ ≤ (fE + 6); omega), (by show _ ≤ (lE + 127); omega)⟩ (Nat.le_of_ble_eq_true rfl) ⟨(TL_m hT).1, (TL_m hT).2⟩ dX1_house_187 (fun _ => ?_)
                have hE9 := TL_e hT hf
                subst hE9
                exact bt_i S hr hlocks hB (by omega) trivial dX1_house_190
              · replace hf := it_f c19 hf
                by_cases c22 : x2 = (nI 4)
                · replace hf := it_t c22 hf
                  refine lv_tableIn (tgt := 191) (off := 88) hx hb dX1_house_103 (by rw [c22]; decide) (by rw [c22]; decide) (by rw [c22]; decide) (by decide) ?_
                  refine lv_aload hx hb dX1_house_191 (lv_at hl 0 rfl) ?_
                  obtain ⟨g23, hf⟩ := gd_t hf
                  obtain ⟨v24, hv24, hf⟩ := ob_s hf
                  refine mc_X1_293 (fE := fE) (lE := lE) S hS hB g23 hv24 hl.1 ⟨(by show _ ≤ (fE + 6); omega), (by show _ ≤ (lE + 127); omega)⟩ (Nat.le_of_ble_eq_true rfl) ⟨(TL_m hT).1, (TL_m hT).2⟩ dX1_house_193 (fun _ => ?_)
                  have hE9 := TL_e hT hf
                  subst hE9
                  exact bt_i S hr hlocks hB (by omega) trivial dX1_house_196
                · replace hf := it_f c22 hf
                  by_cases c25 : x2 = (nI 5)
                  · replace hf := it_t c25 hf
                    refine lv_tableIn (tgt := 197) (off := 94) hx hb dX1_house_103 (by rw [c25]; decide) (by rw [c25]; decide) (by rw [c25]; decide) (by decide) ?_
                    refine lv_aload_n hx hb dX1_house_197 rfl (lv_at hl 1 rfl) ?_
                    refine lv_aload_n hx hb dX1_house_198 rfl (lv_at hl 1 rfl) ?_
                    obtain ⟨v26, hv26, hf⟩ := ob_s hf
                    refine bg_X1_70 S hS hB (vR_s hv26) dX1_house_199 ?_
                    obtain ⟨v27, hv27, hf⟩ := ob_s hf
                    refine bg_X1_296 S hS hB (vR_s hv27) dX1_house_202 ?_
                    refine lv_iload_n hx hb dX1_house_205 rfl (lv_at hl 2 rfl) ?_
                    obtain ⟨v28, hv28, hf⟩ := ob_s hf
                    refine b_iald S hS.1 hB hv28 dX1_house_206 ?_
                    obtain ⟨g29, hf⟩ := gd_t hf
                    obtain ⟨v30, hv30, hf⟩ := ob_s hf
                    obtain ⟨o31, hf, hT⟩ := TL_c hT hf
                    refine mc_X1_247 (fE := fE) (lE := lE) S hS hB g29 hv30 hl.1 ⟨(by show _ ≤ (fE + 6); omega), (by show _ ≤ (lE + 127); omega)⟩ (Nat.le_of_ble_eq_true rfl) ⟨(TL_m hT).1, (TL_m hT).2⟩ dX1_house_207 (fun H locs _ hB => ?_)
                    have hE9 := TL_e hT hf
                    subst hE9
                    exact bt_i S hr hlocks hB (by omega) trivial dX1_house_210
                  · replace hf := it_f c25 hf
                    by_cases c32 : x2 = (nI 6)
                    · replace hf := it_t c32 hf
                      refine lv_tableIn (tgt := 211) (off := 108) hx hb dX1_house_103 (by rw [c32]; decide) (by rw [c32]; decide) (by rw [c32]; decide) (by decide) ?_
                      refine lv_aload_n hx hb dX1_house_211 rfl (lv_at hl 1 rfl) ?_
                      obtain ⟨v33, hv33, hf⟩ := ob_s hf
                      refine bg_X1_70 S hS hB (vR_s hv33) dX1_house_212 ?_
                      obtain ⟨v34, hv34, hf⟩ := ob_s hf
                      refine bg_X1_299 S hS hB (vR_s hv34) dX1_house_215 ?_
                      refine lv_iload_n hx hb dX1_house_218 rfl (lv_at hl 2 rfl) ?_
                      obtain ⟨v35, hv35, hf⟩ := ob_s hf
                      refine b_iald S hS.1 hB hv35 dX1_house_219 ?_
                      have hE9 := TL_e hT hf
                      subst hE9
                      exact bt_i S hr hlocks hB (by omega) trivial dX1_house_220
                    · replace hf := it_f c32 hf
                      by_cases c36 : x2 = (nI 7)
                      · replace hf := it_t c36 hf
                        refine lv_tableIn (tgt := 221) (off := 118) hx hb dX1_house_103 (by rw [c36]; decide) (by rw [c36]; decide) (by rw [c36]; decide) (by decide) ?_
                        refine lv_aload_n hx hb dX1_house_221 rfl (lv_at hl 1 rfl) ?_
                        obtain ⟨v37, hv37, hf⟩ := ob_s hf
                        refine bg_X1_70 S hS hB (vR_s hv37) dX1_house_222 ?_
                        obtain ⟨v38, hv38, hf⟩ := ob_s hf
                        refine bg_X1_302 S hS hB (vR_s hv38) dX1_house_225 ?_
                        refine lv_iload_n hx hb dX1_house_228 rfl (lv_at hl 2 rfl) ?_
                        obtain ⟨v39, hv39, hf⟩ := ob_s hf
                        refine b_iald S hS.1 hB hv39 dX1_house_229 ?_
                        have hE9 := TL_e hT hf
                        subst hE9
                        exact bt_i S hr hlocks hB (by omega) trivial dX1_house_230
                      · replace hf := it_f c36 hf
                        by_cases c40 : x2 = (nI 8)
                        · replace hf := it_t c40 hf
                          refine lv_tableIn (tgt := 231) (off := 128) hx hb dX1_house_103 (by rw [c40]; decide) (by rw [c40]; decide) (by rw [c40]; decide) (by decide) ?_
                          refine lv_aload_n hx hb dX1_house_231 rfl (lv_at hl 1 rfl) ?_
                          obtain ⟨v41, hv41, hf⟩ := ob_s hf
                          refine bg_X1_70 S hS hB (vR_s hv41) dX1_house_232 ?_
                          obtain ⟨v42, hv42, hf⟩ := ob_s hf
                          refine bg_X1_305 S hS hB (vR_s hv42) dX1_house_235 ?_
                          refine lv_iload_n hx hb dX1_house_238 rfl (lv_at hl 2 rfl) ?_
                          obtain ⟨v43, hv43, hf⟩ := ob_s hf
                          refine b_zald S hS.1 hB hv43 dX1_house_239 ?_
                          obtain ⟨v44, hv44, hf⟩ := ob_s hf
                          refine mc_X1_7 S hS.1 hv44 hl.1 ⟨(by show _ ≤ (fE + 6); omega), (by show _ ≤ (lE + 127); omega)⟩ (Nat.le_of_ble_eq_true rfl) ⟨(TL_m hT).1, (TL_m hT).2⟩ dX1_house_240 (fun _ => ?_)
                          have hE9 := TL_e hT hf
                          subst hE9
                          exact bt_i S hr hlocks hB (by omega) trivial dX1_house_243
                        · replace hf := it_f c40 hf
                          by_cases c45 : x2 = (nI 9)
                          · replace hf := it_t c45 hf
                            refine lv_tableIn (tgt := 244) (off := 141) hx hb dX1_house_103 (by rw [c45]; decide) (by rw [c45]; decide) (by rw [c45]; decide) (by decide) ?_
                            refine lv_aload_n hx hb dX1_house_244 rfl (lv_at hl 1 rfl) ?_
                            obtain ⟨v46, hv46, hf⟩ := ob_s hf
                            refine bg_X1_70 S hS hB (vR_s hv46) dX1_house_245 ?_
                            refine lv_iload_n hx hb dX1_house_248 rfl (lv_at hl 2 rfl) ?_
                            obtain ⟨g47, hf⟩ := gd_t hf
                            obtain ⟨v48, hv48, hf⟩ := ob_s hf
                            refine mc_X1_308 (fE := fE) (lE := lE) S hS hB g47 hv48 hl.1 ⟨(by show _ ≤ (fE + 6); omega), (by show _ ≤ (lE + 127); omega)⟩ (Nat.le_of_ble_eq_true rfl) ⟨(TL_m hT).1, (TL_m hT).2⟩ dX1_house_249 (fun _ => ?_)
                            have hE9 := TL_e hT hf
                            subst hE9
                            exact bt_i S hr hlocks hB (by omega) trivial dX1_house_252
                          · replace hf := it_f c45 hf
                            by_cases c49 : x2 = (nI 10)
                            · replace hf := it_t c49 hf
                              refine lv_tableIn (tgt := 253) (off := 150) hx hb dX1_house_103 (by rw [c49]; decide) (by rw [c49]; decide) (by rw [c49]; decide) (by decide) ?_
                              refine lv_aload_n hx hb dX1_house_253 rfl (lv_at hl 1 rfl) ?_
                              obtain ⟨v50, hv50, hf⟩ := ob_s hf
                              refine bg_X1_70 S hS hB (vR_s hv50) dX1_house_254 ?_
                              obtain ⟨v51, hv51, hf⟩ := ob_s hf
                              refine bg_X1_271 S hS hB (vR_s hv51) dX1_house_257 ?_
                              refine lv_iload_n hx hb dX1_house_260 rfl (lv_at hl 2 rfl) ?_
                              obtain ⟨v52, hv52, hf⟩ := ob_s hf
                              refine b_iald S hS.1 hB hv52 dX1_house_261 ?_
                              have hE9 := TL_e hT hf
                              subst hE9
                              exact bt_i S hr hlocks hB (by omega) trivial dX1_house_262
                            · replace hf := it_f c49 hf
                              refine lv_tableOut (tgt := 263) hx hb dX1_house_103 (by have n0 := lv_neT (a := 0) c8 (by decide); have n1 := lv_neT (a := 1) c11 (by decide); have n2 := lv_neT (a := 2) c15 (by decide); have n3 := lv_neT (a := 3) c19 (by decide); have n4 := lv_neT (a := 4) c22 (by decide); have n5 := lv_neT (a := 5) c25 (by decide); have n6 := lv_neT (a := 6) c32 (by decide); have n7 := lv_neT (a := 7) c36 (by decide); have n8 := lv_neT (a := 8) c40 (by decide); have n9 := lv_neT (a := 9) c45 (by decide); have n10 := lv_neT (a := 10) c49 (by decide); omega) (by decide) ?_
                              refine lv_aload_n hx hb dX1_house_263 rfl (lv_at hl 1 rfl) ?_
                              obtain ⟨v53, hv53, hf⟩ := ob_s hf
                              refine bg_X1_70 S hS hB (vR_s hv53) dX1_house_264 ?_
                              obtain ⟨v54, hv54, hf⟩ := ob_s hf
                              refine bg_X1_311 S hS hB (vR_s hv54) dX1_house_267 ?_
                              refine lv_iload_n hx hb dX1_house_270 rfl (lv_at hl 2 rfl) ?_
                              obtain ⟨v55, hv55, hf⟩ := ob_s hf
                              refine b_iald S hS.1 hB hv55 dX1_house_271 ?_
                              have hE9 := TL_e hT hf
                              subst hE9
                              exact bt_i S hr hlocks hB (by omega) trivial dX1_house_272
      · replace hf := it_f c5 hf
        refine lv_aload_n hx hb dX1_house_58 rfl (lv_at hl 0 rfl) ?_
        refine lv_iload_n hx hb dX1_house_59 rfl (lv_at hl 2 rfl) ?_
        refine lv_bipush hx hb dX1_house_60 kc_b20 ?_
        refine lv_isub hx hb dX1_house_62 ?_
        refine lv_aload_n hx hb dX1_house_63 rfl (lv_at hl 0 rfl) ?_
        obtain ⟨v56, hv56, hf⟩ := ob_s hf
        refine bg_X1_70 S hS hB (vR_s hv56) dX1_house_64 ?_
        obtain ⟨v57, hv57, hf⟩ := ob_s hf
        refine bg_X1_271 S hS hB (vR_s hv57) dX1_house_67 ?_
        refine lv_iload_n hx hb dX1_house_70 rfl (lv_at hl 1 rfl) ?_
        obtain ⟨v58, hv58, hf⟩ := ob_s hf
        refine b_iald S hS.1 hB hv58 dX1_house_71 ?_
        refine lv_icmp_ge (tgt := 90) hx hb dX1_house_72 (by decide) (fun c59 => ?_) (fun c59 => ?_)
        · replace hf := it_t c59 hf
          refine lv_iconst hx hb dX1_house_90 kc_im1 ?_
          exact (w91) x0 (-1) v2.2.1 (nc + v2.2.2.1) ls H locs (ce + v2.2.2.1) (sl + v2.2.2.2) o3 hB (by omega) hT (lv_sub (l' := []) hl [] rfl) hf
        · replace hf := it_f c59 hf
          refine lv_aload_n hx hb dX1_house_75 rfl (lv_at hl 0 rfl) ?_
          obtain ⟨v60, hv60, hf⟩ := ob_s hf
          refine bg_X1_70 S hS hB (vR_s hv60) dX1_house_76 ?_
          refine lv_iload_n hx hb dX1_house_79 rfl (lv_at hl 1 rfl) ?_
          refine lv_iload_n hx hb dX1_house_80 rfl (lv_at hl 2 rfl) ?_
          refine lv_bipush hx hb dX1_house_81 kc_b20 ?_
          refine lv_isub hx hb dX1_house_83 ?_
          obtain ⟨g61, hf⟩ := gd_t hf
          obtain ⟨v62, hv62, hf⟩ := ob_s hf
          refine mc_X1_274 (fE := fE) (lE := lE) S hS hB g61 hv62 hl.1 ⟨(by show _ ≤ (fE + 6); omega), (by show _ ≤ (lE + 127); omega)⟩ (Nat.le_of_ble_eq_true rfl) ⟨(TL_m hT).1, (TL_m hT).2⟩ dX1_house_84 (fun _ => ?_)
          refine lv_goto (tgt := 91) hx hb dX1_house_87 (by decide) ?_
          exact (w91) x0 v62 v2.2.1 (nc + v2.2.2.1) ls H locs (ce + v2.2.2.1) (sl + v2.2.2.2) o3 hB (by omega) hT (lv_sub (l' := []) hl [] rfl) hf
    · replace hf := it_t c4 hf
      refine lv_iconst hx hb dX1_house_52 kc_im1 ?_
      have hE9 := TL_e hT hf
      subst hE9
      exact bt_i S hr hlocks hB (by omega) trivial dX1_house_53
  have hT : TL out out 0 0 := TL_0
  rw [f_X1_house] at hf
  refine lv_iload_n hx hb dX1_house_0 rfl (lv_at hl 2 rfl) ?_
  refine lv_i2l hx hb dX1_house_1 rfl ?_
  refine lv_ldc2 hx hb hown (hts _ q1235) dX1_house_2 ?_
  refine lv_ldc2 hx hb hown (hts _ q1236) dX1_house_5 ?_
  obtain ⟨v1, hv1, hf⟩ := ob_s hf
  refine mc_X1_134 S hS.1 hv1 hl.1 ⟨(by show _ ≤ (fE + 6); omega), (by show _ ≤ (lE + 127); omega)⟩ (Nat.le_of_ble_eq_true rfl) ⟨(TL_m hT).1, (TL_m hT).2⟩ dX1_house_8 (fun hnv1 => ?_)
  refine lv_istore_n (i := 3) (lv' := [(3, .int v1), (0, .ref o), (1, .int a0), (2, .int a1)]) hx hb dX1_house_11 rfl hl (by decide) rfl (fun ls hl => ?_)
  refine lv_aload_n hx hb dX1_house_12 rfl (lv_at hl 1 rfl) ?_
  refine lv_iload_n hx hb dX1_house_13 rfl (lv_at hl 3 rfl) ?_
  refine lv_i2l hx hb dX1_house_14 rfl ?_
  refine lv_lconst (v := 0) hx hb dX1_house_15 (by decide) ?_
  refine lv_ldc2 hx hb hown (hts _ q1237) dX1_house_16 ?_
  obtain ⟨v2, hv2, hf⟩ := ob_s hf
  refine mc_X1_134 S hS.1 hv2 hl.1 ⟨(by show _ ≤ (fE + 6); omega), (by show _ ≤ (lE + 127); omega)⟩ (Nat.le_of_ble_eq_true rfl) ⟨(TL_m hT).1, (TL_m hT).2⟩ dX1_house_19 (fun hnv2 => ?_)
  refine lv_if_ne (tgt := 33) hx hb dX1_house_22 (by decide) (fun c3 => ?_) (fun c3 => ?_)
  · replace hf := it_f c3 hf
    exact (w33 (f_X1_house_46 E) (w46)) o a0 a1 v1 o h nx ls s.heap [] 0 0 out hB (by omega) hT (lv_sub (l' := [(0, .ref o), (1, .int a0), (2, .int a1), (3, .int v1)]) hl [1, 2, 3, 0] rfl) hf
  · replace hf := it_t c3 hf
    refine lv_iload_n hx hb dX1_house_25 rfl (lv_at hl 0 rfl) ?_
    refine lv_if_ne (tgt := 33) hx hb dX1_house_26 (by decide) (fun c4 => ?_) (fun c4 => ?_)
    · replace hf := it_f c4 hf
      exact (w33 (f_X1_house_46 E) (w46)) o a0 a1 v1 o h nx ls s.heap [] 0 0 out hB (by omega) hT (lv_sub (l' := [(0, .ref o), (1, .int a0), (2, .int a1), (3, .int v1)]) hl [1, 2, 3, 0] rfl) hf
    · replace hf := it_t c4 hf
      refine lv_iconst hx hb dX1_house_29 kc_i1 ?_
      refine lv_goto (tgt := 46) hx hb dX1_house_30 (by decide) ?_
      exact (w46) o a0 a1 v1 o 1 h nx ls s.heap [] 0 0 out hB (by omega) hT (lv_sub (l' := [(0, .ref o), (1, .int a0), (2, .int a1), (3, .int v1)]) hl [1, 2, 3, 0] rfl) hf
theorem hd_X1_rule : yX1_rule.cls = RX1 ∧ yX1_rule.cls ≠ "java/lang/invoke/MethodHandle" ∧ yX1_rule.cls ≠ "java/lang/invoke/VarHandle" ∧ (parseMethodDescriptor yX1_rule.desc).map (fun d => d.parameters.length) = some 1 := by decide +kernel
set_option maxHeartbeats 4000000 in
set_option maxRecDepth 100000 in
theorem mm_X1_rule {o : Nat} {a0 : Int32} {out : Int32 × AH × Nat × Nat} (hf : f_X1_rule E h nx o a0 = some out) : Met l yX1_rule (ws_ yX1_rule cX1_rule 2 (some .int)) (rC (fE + 1) (lE + 25) out.2.2.1 out.2.2.2) (bPc G E.1 hSites h nx [.ref o, .int a0]) (bQ G (some (.int out.1)) True out.2.1 (nx + out.2.2.1) (AA h nx)) out.2.2.1 out.2.2.2 (AA h nx) := by
  refine bGo (by decide +kernel) (Nat.le_of_ble_eq_true rfl) (fun p e s m below meth c ls S hr hlocks hin hnm hS hB hl => ?_)
  have S : CallFix p m c cX1_rule 2 s _ lw_all RX1 := S
  obtain ⟨hx, hb, hml, hown, hts⟩ := id S
  have hl : lv_has ls 2 [(0, .ref o), (1, .int a0)] := hl
  have w18 : ∀ (x0 : Nat) (x1 : Int32) (y0 : Nat) (y1 : Int32) (hc : AH) (nc : Nat) (ls : Array Slot) (H : Heap) (locs : List Loc) (ce sl : Nat) (o1 : Int32 × AH × Nat × Nat), BI G (AA h nx) s.heap hc nc H locs → nc = nx + ce → TL out o1 ce sl → lv_has ls 2 [(0, .ref x0), (1, .int x1)] → f_X1_rule_18 E x0 x1 y0 y1 hc nc = some o1 → W p l e (rC (fE + 1) (lE + 25) out.2.2.1 out.2.2.2) s m ([.ref o, .int a0] : List Value).toArray below meth c H locs ce sl (MQ below (bQ G (some (.int out.1)) True out.2.1 (nx + out.2.2.1) (AA h nx)) ([.ref o, .int a0] : List Value).toArray s out.2.2.1 out.2.2.2 (AA h nx)) (F0 m 18 ls [.int y1, .ref y0]) := by
    intro x0 x1 y0 y1 hc nc ls H locs ce sl o1 hB hn hT hl hf
    rw [f_X1_rule_18] at hf
    obtain ⟨g1, hf⟩ := gd_t hf
    obtain ⟨v2, hv2, hf⟩ := ob_s hf
    obtain ⟨o3, hf, hT⟩ := TL_c hT hf
    refine mc_X1_155 (fE := fE) (lE := lE) S hS hB g1 hv2 hl.1 ⟨(by show _ ≤ (fE + 1); omega), (by show _ ≤ (lE + 25); omega)⟩ (Nat.le_of_ble_eq_true rfl) ⟨(TL_m hT).1, (TL_m hT).2⟩ dX1_rule_18 (fun H locs hnv2 hB => ?_)
    refine lv_if_eq (tgt := 36) hx hb dX1_rule_21 (by decide) (fun c4 => ?_) (fun c4 => ?_)
    · replace hf := it_t c4 hf
      refine lv_iconst hx hb dX1_rule_36 kc_im1 ?_
      have hE9 := TL_e hT hf
      subst hE9
      exact bt_i S hr hlocks hB (by omega) trivial dX1_rule_37
    · replace hf := it_f c4 hf
      refine lv_aload_n hx hb dX1_rule_24 rfl (lv_at hl 0 rfl) ?_
      obtain ⟨v5, hv5, hf⟩ := ob_s hf
      refine bg_X1_70 S hS hB (vR_s hv5) dX1_rule_25 ?_
      obtain ⟨v6, hv6, hf⟩ := ob_s hf
      refine bg_X1_316 S hS hB (vR_s hv6) dX1_rule_28 ?_
      refine lv_iload_n hx hb dX1_rule_31 rfl (lv_at hl 1 rfl) ?_
      obtain ⟨v7, hv7, hf⟩ := ob_s hf
      refine b_iald S hS.1 hB hv7 dX1_rule_32 ?_
      refine lv_goto (tgt := 37) hx hb dX1_rule_33 (by decide) ?_
      have hE9 := TL_e hT hf
      subst hE9
      exact bt_i S hr hlocks hB (by omega) trivial dX1_rule_37
  have hT : TL out out 0 0 := TL_0
  rw [f_X1_rule] at hf
  refine lv_aload_n hx hb dX1_rule_0 rfl (lv_at hl 0 rfl) ?_
  refine lv_iload_n hx hb dX1_rule_1 rfl (lv_at hl 1 rfl) ?_
  refine lv_i2l hx hb dX1_rule_2 rfl ?_
  refine lv_lconst (v := 0) hx hb dX1_rule_3 (by decide) ?_
  refine lv_ldc2 hx hb hown (hts _ q1252) dX1_rule_4 ?_
  obtain ⟨v1, hv1, hf⟩ := ob_s hf
  refine mc_X1_134 S hS.1 hv1 hl.1 ⟨(by show _ ≤ (fE + 1); omega), (by show _ ≤ (lE + 25); omega)⟩ (Nat.le_of_ble_eq_true rfl) ⟨(TL_m hT).1, (TL_m hT).2⟩ dX1_rule_7 (fun hnv1 => ?_)
  refine lv_if_eq (tgt := 17) hx hb dX1_rule_10 (by decide) (fun c2 => ?_) (fun c2 => ?_)
  · replace hf := it_t c2 hf
    refine lv_iconst hx hb dX1_rule_17 kc_i1 ?_
    exact (w18) o a0 o 1 h nx ls s.heap [] 0 0 out hB (by omega) hT hl hf
  · replace hf := it_f c2 hf
    refine lv_iconst hx hb dX1_rule_13 kc_i0 ?_
    refine lv_goto (tgt := 18) hx hb dX1_rule_14 (by decide) ?_
    exact (w18) o a0 o 0 h nx ls s.heap [] 0 0 out hB (by omega) hT hl hf
theorem hd_X1_whyBoth : yX1_whyBoth.cls = RX1 ∧ yX1_whyBoth.cls ≠ "java/lang/invoke/MethodHandle" ∧ yX1_whyBoth.cls ≠ "java/lang/invoke/VarHandle" ∧ (parseMethodDescriptor yX1_whyBoth.desc).map (fun d => d.parameters.length) = some 2 := by decide +kernel
set_option maxHeartbeats 4000000 in
set_option maxRecDepth 100000 in
theorem mm_X1_whyBoth {o : Nat} {a0 : Int32} {a1 : Int32} {out : Int32} (hf : f_X1_whyBoth E h o a0 a1 = some out) : Met l yX1_whyBoth (ws_ yX1_whyBoth cX1_whyBoth 3 (some .int)) (rM (fE + 2) (lE + 46)) (bPc G E.1 hSites h nx [.ref o, .int a0, .int a1]) (gR (some (.int out)) True) 0 0 (fun _ => False) := by
  refine bGo (by decide +kernel) (Nat.le_of_ble_eq_true rfl) (fun p e s m below meth c ls S hr hlocks hin hnm hS hB hl => ?_)
  have S : CallFix p m c cX1_whyBoth 3 s _ lw_all RX1 := S
  obtain ⟨hx, hb, hml, hown, hts⟩ := id S
  have hl : lv_has ls 3 [(0, .ref o), (1, .int a0), (2, .int a1)] := hl
  rw [f_X1_whyBoth] at hf
  refine lv_aload_n hx hb dX1_whyBoth_0 rfl (lv_at hl 0 rfl) ?_
  refine lv_iload_n hx hb dX1_whyBoth_1 rfl (lv_at hl 1 rfl) ?_
  obtain ⟨g1, hf⟩ := gd_t hf
  obtain ⟨v2, hv2, hf⟩ := ob_s hf
  refine mc_X1_138 (fE := fE) (lE := lE) S hS hB g1 hv2 hl.1 ⟨(by show _ ≤ (fE + 2); omega), (by show _ ≤ (lE + 46); omega)⟩ (Nat.le_of_ble_eq_true rfl) ⟨Nat.zero_le _, Nat.zero_le _⟩ dX1_whyBoth_2 (fun hnv2 => ?_)
  refine lv_if_eq (tgt := 20) hx hb dX1_whyBoth_5 (by decide) (fun c3 => ?_) (fun c3 => ?_)
  · replace hf := it_t c3 hf
    refine lv_iconst hx hb dX1_whyBoth_20 kc_i2 ?_
    have hE9 := Option.some.inj hf
    subst hE9
    exact gt_ri S hr hlocks trivial dX1_whyBoth_21
  · replace hf := it_f c3 hf
    refine lv_aload_n hx hb dX1_whyBoth_8 rfl (lv_at hl 0 rfl) ?_
    refine lv_iload_n hx hb dX1_whyBoth_9 rfl (lv_at hl 2 rfl) ?_
    obtain ⟨g4, hf⟩ := gd_t hf
    obtain ⟨v5, hv5, hf⟩ := ob_s hf
    refine mc_X1_141 (fE := fE) (lE := lE) S hS hB g4 hv5 hl.1 ⟨(by show _ ≤ (fE + 2); omega), (by show _ ≤ (lE + 46); omega)⟩ (Nat.le_of_ble_eq_true rfl) ⟨Nat.zero_le _, Nat.zero_le _⟩ dX1_whyBoth_10 (fun hnv5 => ?_)
    refine lv_if_eq (tgt := 20) hx hb dX1_whyBoth_13 (by decide) (fun c6 => ?_) (fun c6 => ?_)
    · replace hf := it_t c6 hf
      refine lv_iconst hx hb dX1_whyBoth_20 kc_i2 ?_
      have hE9 := Option.some.inj hf
      subst hE9
      exact gt_ri S hr hlocks trivial dX1_whyBoth_21
    · replace hf := it_f c6 hf
      refine lv_iconst hx hb dX1_whyBoth_16 kc_i0 ?_
      refine lv_goto (tgt := 21) hx hb dX1_whyBoth_17 (by decide) ?_
      have hE9 := Option.some.inj hf
      subst hE9
      exact gt_ri S hr hlocks trivial dX1_whyBoth_21
set_option maxRecDepth 100000 in
theorem mc_X1_319 {o : Nat} {a0 : Int32} {a1 : Int32} {out : Int32} (S : CallFix p m c cc nL s args lw_all RX1) (hS : SK G E.1 hSites A s) (hB : BI G A s.heap h nx H locs) (ho : isO h o 0 = true) (hf : f_X1_whyBoth E h o a0 a1 = some out) (hsz : ls.size = nL) (hR : (fE + 2) + 1 ≤ R.frames ∧ 8 + (3 + 11) + (lE + 46) ≤ R.locals) (hW : (rest.map fun v => v.category).sum ≤ 8) (hcs : cells ≤ R.cells ∧ slots ≤ R.slots) (hdg : decode cc pc = .ok (.invokevirtual 319, 3))  (kk : True → W p l e R s m args below meth c H locs cells slots Q (F0 m (pc + 3) ls (.int out :: rest))) : W p l e R s m args below meth c H locs cells slots Q (F0 m pc ls (.int a1 :: .int a0 :: .ref o :: rest)) := by
  have hN := hS.2.1
  obtain ⟨fs, he⟩ := isO_s ho
  exact br_r (va_runV (As := [.int a0, .int a1]) S (mm_X1_whyBoth (l := l) (G := G) (nx := nx) (fE := fE) (lE := lE) hf) (cwV 2 S.2.2.2.2 (lw_V q1257 q1259 qs42 q174 q1260) rfl rfl rfl hd_X1_whyBoth hR) (bPreV hS hB (ci := 0) rfl he) rfl rfl hsz rfl (lv_room hW) hdg hcs) kk
theorem hd_X1_why : yX1_why.cls = RX1 ∧ yX1_why.cls ≠ "java/lang/invoke/MethodHandle" ∧ yX1_why.cls ≠ "java/lang/invoke/VarHandle" ∧ (parseMethodDescriptor yX1_why.desc).map (fun d => d.parameters.length) = some 2 := by decide +kernel
set_option maxHeartbeats 4000000 in
set_option maxRecDepth 100000 in
theorem mm_X1_why {o : Nat} {a0 : Int32} {a1 : Int32} {out : Int32 × AH × Nat × Nat} (hE : IfOK l G E fE lE) (hf : f_X1_why E h nx o a0 a1 = some out) : Met l yX1_why (ws_ yX1_why cX1_why 3 (some .int)) (rC (fE + 3) (lE + 68) out.2.2.1 out.2.2.2) (bPc G E.1 hSites h nx [.ref o, .int a0, .int a1]) (bQ G (some (.int out.1)) True out.2.1 (nx + out.2.2.1) (AA h nx)) out.2.2.1 out.2.2.2 (AA h nx) := by
  refine bGo (by decide +kernel) (Nat.le_of_ble_eq_true rfl) (fun p e s m below meth c ls S hr hlocks hin hnm hS hB hl => ?_)
  have S : CallFix p m c cX1_why 3 s _ lw_all RX1 := S
  obtain ⟨hx, hb, hml, hown, hts⟩ := id S
  have hl : lv_has ls 3 [(0, .ref o), (1, .int a0), (2, .int a1)] := hl
  have hT : TL out out 0 0 := TL_0
  rw [f_X1_why] at hf
  refine lv_aload_n hx hb dX1_why_0 rfl (lv_at hl 0 rfl) ?_
  refine lv_aload_n hx hb dX1_why_1 rfl (lv_at hl 0 rfl) ?_
  refine lv_iload_n hx hb dX1_why_2 rfl (lv_at hl 1 rfl) ?_
  refine lv_iload_n hx hb dX1_why_3 rfl (lv_at hl 2 rfl) ?_
  obtain ⟨g1, hf⟩ := gd_t hf
  obtain ⟨v2, hv2, hf⟩ := ob_s hf
  refine mc_X1_319 (fE := fE) (lE := lE) S hS hB g1 hv2 hl.1 ⟨(by show _ ≤ (fE + 3); omega), (by show _ ≤ (lE + 68); omega)⟩ (Nat.le_of_ble_eq_true rfl) ⟨(TL_m hT).1, (TL_m hT).2⟩ dX1_why_4 (fun _ => ?_)
  obtain ⟨g3, hf⟩ := gd_t hf
  obtain ⟨v4, hv4, hf⟩ := ob_s hf
  obtain ⟨o5, hf, hT⟩ := TL_c hT hf
  refine mc_X1_155 (fE := fE) (lE := lE) S hS hB g3 hv4 hl.1 ⟨(by show _ ≤ (fE + 3); omega), (by show _ ≤ (lE + 68); omega)⟩ (Nat.le_of_ble_eq_true rfl) ⟨(TL_m hT).1, (TL_m hT).2⟩ dX1_why_7 (fun H locs hnv4 hB => ?_)
  refine lv_if_eq (tgt := 25) hx hb dX1_why_10 (by decide) (fun c6 => ?_) (fun c6 => ?_)
  · replace hf := it_t c6 hf
    refine lv_iconst hx hb dX1_why_25 kc_im1 ?_
    have hE9 := TL_e hT hf
    subst hE9
    exact bt_i S hr hlocks hB (by omega) trivial dX1_why_26
  · replace hf := it_f c6 hf
    refine lv_aload_n hx hb dX1_why_13 rfl (lv_at hl 0 rfl) ?_
    obtain ⟨v7, hv7, hf⟩ := ob_s hf
    refine bg_X1_70 S hS hB (vR_s hv7) dX1_why_14 ?_
    refine lv_iload_n hx hb dX1_why_17 rfl (lv_at hl 1 rfl) ?_
    refine lv_iload_n hx hb dX1_why_18 rfl (lv_at hl 2 rfl) ?_
    obtain ⟨g8, hf⟩ := gd_t hf
    obtain ⟨v9, hv9, hf⟩ := ob_s hf
    obtain ⟨o10, hf, hT⟩ := TL_c hT hf
    refine mc_X1_322 (fE := fE) (lE := lE) S hE hS hB g8 hv9 hl.1 ⟨(by show _ ≤ (fE + 3); omega), (by show _ ≤ (lE + 68); omega)⟩ (Nat.le_of_ble_eq_true rfl) ⟨(TL_m hT).1, (TL_m hT).2⟩ dX1_why_19 (fun H locs _ hB => ?_)
    refine lv_goto (tgt := 26) hx hb dX1_why_22 (by decide) ?_
    have hE9 := TL_e hT hf
    subst hE9
    exact bt_i S hr hlocks hB (by omega) trivial dX1_why_26
theorem hd_X1_bids : yX1_bids.cls = RX1 ∧ yX1_bids.cls ≠ "java/lang/invoke/MethodHandle" ∧ yX1_bids.cls ≠ "java/lang/invoke/VarHandle" ∧ (parseMethodDescriptor yX1_bids.desc).map (fun d => d.parameters.length) = some 2 := by decide +kernel
set_option maxHeartbeats 4000000 in
set_option maxRecDepth 100000 in
theorem mm_X1_bids {o : Nat} {a0 : Int32} {a1 : Int32} {out : Int32 × AH × Nat × Nat} (hf : f_X1_bids E h nx o a0 a1 = some out) : Met l yX1_bids (ws_ yX1_bids cX1_bids 3 (some .int)) (rC (fE + 3) (lE + 68) out.2.2.1 out.2.2.2) (bPc G E.1 hSites h nx [.ref o, .int a0, .int a1]) (bQ G (some (.int out.1)) True out.2.1 (nx + out.2.2.1) (AA h nx)) out.2.2.1 out.2.2.2 (AA h nx) := by
  refine bGo (by decide +kernel) (Nat.le_of_ble_eq_true rfl) (fun p e s m below meth c ls S hr hlocks hin hnm hS hB hl => ?_)
  have S : CallFix p m c cX1_bids 3 s _ lw_all RX1 := S
  obtain ⟨hx, hb, hml, hown, hts⟩ := id S
  have hl : lv_has ls 3 [(0, .ref o), (1, .int a0), (2, .int a1)] := hl
  have hT : TL out out 0 0 := TL_0
  rw [f_X1_bids] at hf
  refine lv_aload_n hx hb dX1_bids_0 rfl (lv_at hl 0 rfl) ?_
  refine lv_aload_n hx hb dX1_bids_1 rfl (lv_at hl 0 rfl) ?_
  refine lv_iload_n hx hb dX1_bids_2 rfl (lv_at hl 1 rfl) ?_
  refine lv_iload_n hx hb dX1_bids_3 rfl (lv_at hl 2 rfl) ?_
  obtain ⟨g1, hf⟩ := gd_t hf
  obtain ⟨v2, hv2, hf⟩ := ob_s hf
  refine mc_X1_319 (fE := fE) (lE := lE) S hS hB g1 hv2 hl.1 ⟨(by show _ ≤ (fE + 3); omega), (by show _ ≤ (lE + 68); omega)⟩ (Nat.le_of_ble_eq_true rfl) ⟨(TL_m hT).1, (TL_m hT).2⟩ dX1_bids_4 (fun _ => ?_)
  obtain ⟨g3, hf⟩ := gd_t hf
  obtain ⟨v4, hv4, hf⟩ := ob_s hf
  obtain ⟨o5, hf, hT⟩ := TL_c hT hf
  refine mc_X1_155 (fE := fE) (lE := lE) S hS hB g3 hv4 hl.1 ⟨(by show _ ≤ (fE + 3); omega), (by show _ ≤ (lE + 68); omega)⟩ (Nat.le_of_ble_eq_true rfl) ⟨(TL_m hT).1, (TL_m hT).2⟩ dX1_bids_7 (fun H locs hnv4 hB => ?_)
  refine lv_if_eq (tgt := 28) hx hb dX1_bids_10 (by decide) (fun c6 => ?_) (fun c6 => ?_)
  · replace hf := it_t c6 hf
    refine lv_iconst hx hb dX1_bids_28 kc_im1 ?_
    have hE9 := TL_e hT hf
    subst hE9
    exact bt_i S hr hlocks hB (by omega) trivial dX1_bids_29
  · replace hf := it_f c6 hf
    refine lv_aload_n hx hb dX1_bids_13 rfl (lv_at hl 0 rfl) ?_
    obtain ⟨v7, hv7, hf⟩ := ob_s hf
    refine bg_X1_70 S hS hB (vR_s hv7) dX1_bids_14 ?_
    refine lv_iload_n hx hb dX1_bids_17 rfl (lv_at hl 1 rfl) ?_
    refine lv_iload_n hx hb dX1_bids_18 rfl (lv_at hl 2 rfl) ?_
    obtain ⟨g8, hf⟩ := gd_t hf
    obtain ⟨v9, hv9, hf⟩ := ob_s hf
    refine mc_X1_325 (fE := fE) (lE := lE) S hS hB g8 hv9 hl.1 ⟨(by show _ ≤ (fE + 3); omega), (by show _ ≤ (lE + 68); omega)⟩ (Nat.le_of_ble_eq_true rfl) ⟨(TL_m hT).1, (TL_m hT).2⟩ dX1_bids_19 (fun hnv9 => ?_)
    obtain ⟨v10, hv10, hf⟩ := ob_s hf
    refine mc_X1_7 S hS.1 hv10 hl.1 ⟨(by show _ ≤ (fE + 3); omega), (by show _ ≤ (lE + 68); omega)⟩ (Nat.le_of_ble_eq_true rfl) ⟨(TL_m hT).1, (TL_m hT).2⟩ dX1_bids_22 (fun _ => ?_)
    refine lv_goto (tgt := 29) hx hb dX1_bids_25 (by decide) ?_
    have hE9 := TL_e hT hf
    subst hE9
    exact bt_i S hr hlocks hB (by omega) trivial dX1_bids_29
theorem hd_X1_order : yX1_order.cls = RX1 ∧ yX1_order.cls ≠ "java/lang/invoke/MethodHandle" ∧ yX1_order.cls ≠ "java/lang/invoke/VarHandle" ∧ (parseMethodDescriptor yX1_order.desc).map (fun d => d.parameters.length) = some 2 := by decide +kernel
set_option maxHeartbeats 4000000 in
set_option maxRecDepth 100000 in
theorem mm_X1_order {o : Nat} {a0 : Int32} {a1 : Int32} {out : Int32 × AH × Nat × Nat} (hE : IfOK l G E fE lE) (hf : f_X1_order E h nx o a0 a1 = some out) : Met l yX1_order (ws_ yX1_order cX1_order 6 (some .int)) (rC (fE + 3) (lE + 3122) out.2.2.1 out.2.2.2) (bPc G E.1 hSites h nx [.ref o, .int a0, .int a1]) (bQ G (some (.int out.1)) True out.2.1 (nx + out.2.2.1) (AA h nx)) out.2.2.1 out.2.2.2 (AA h nx) := by
  refine bGo (by decide +kernel) (Nat.le_of_ble_eq_true rfl) (fun p e s m below meth c ls S hr hlocks hin hnm hS hB hl => ?_)
  have S : CallFix p m c cX1_order 6 s _ lw_all RX1 := S
  obtain ⟨hx, hb, hml, hown, hts⟩ := id S
  have hl : lv_has ls 6 [(0, .ref o), (1, .int a0), (2, .int a1)] := hl
  have w40 : ∀ (n : Nat) , ∀ (x0 : Nat) (x1 : Int32) (x2 : Int32) (x3 : Nat) (x4 : Int32) (x5 : Int32) (hc : AH) (nc : Nat) (ls : Array Slot) (H : Heap) (locs : List Loc) (ce sl : Nat) (o1 : Int32 × AH × Nat × Nat), BI G (AA h nx) s.heap hc nc H locs → nc = nx + ce → TL out o1 ce sl → lv_has ls 6 [(0, .ref x0), (1, .int x1), (2, .int x2), (3, .ref x3), (4, .int x4), (5, .int x5)] → f_X1_order_40 n E x0 x1 x2 x3 x4 x5 hc nc = some o1 → W p l e (rC (fE + 3) (lE + 3122) out.2.2.1 out.2.2.2) s m ([.ref o, .int a0, .int a1] : List Value).toArray below meth c H locs ce sl (MQ below (bQ G (some (.int out.1)) True out.2.1 (nx + out.2.2.1) (AA h nx)) ([.ref o, .int a0, .int a1] : List Value).toArray s out.2.2.1 out.2.2.2 (AA h nx)) (F0 m 40 ls []) := by
    intro n
    induction n with
    | zero =>
      intro x0 x1 x2 x3 x4 x5 hc nc ls H locs ce sl o1 hB hn hT hl hf
      exact absurd hf (by rw [f_X1_order_40]; exact nofun)
    | succ n ih =>
      intro x0 x1 x2 x3 x4 x5 hc nc ls H locs ce sl o1 hB hn hT hl hf
      rw [f_X1_order_40] at hf
      refine lv_iload hx hb dX1_order_40 (lv_at hl 5 rfl) ?_
      refine lv_iload_n hx hb dX1_order_42 rfl (lv_at hl 2 rfl) ?_
      refine lv_icmp_gt (tgt := 91) hx hb dX1_order_43 (by decide) (fun c1 => ?_) (fun c1 => ?_)
      · replace hf := it_t c1 hf
        refine lv_iload hx hb dX1_order_91 (lv_at hl 4 rfl) ?_
        have hE9 := TL_e hT hf
        subst hE9
        exact bt_i S hr hlocks hB (by omega) trivial dX1_order_93
      · replace hf := it_f c1 hf
        refine lv_aload_n hx hb dX1_order_46 rfl (lv_at hl 0 rfl) ?_
        obtain ⟨v2, hv2, hf⟩ := ob_s hf
        refine bg_X1_70 S hS hB (vR_s hv2) dX1_order_47 ?_
        refine lv_iload_n hx hb dX1_order_50 rfl (lv_at hl 1 rfl) ?_
        refine lv_aload_n hx hb dX1_order_51 rfl (lv_at hl 0 rfl) ?_
        refine lv_iload_n hx hb dX1_order_52 rfl (lv_at hl 1 rfl) ?_
        refine lv_aload_n hx hb dX1_order_53 rfl (lv_at hl 3 rfl) ?_
        obtain ⟨o3, hf, hT⟩ := TL_c hT hf
        refine b_lam S hS hB (k := 19) (vs := [.ref x0, .int x1, .ref x3]) hnm rfl lamL_19 (lamV_c rfl rfl (lamV_c rfl rfl (lamV_c rfl rfl lamV_n))) rfl hl.1 (by show _ ≤ (lE + 3122); simp only [List.map, List.sum_cons, List.sum_nil, Value.category]; omega) (TL_m hT).1 (TL_m hT).2 dX1_order_54 (fun H hB => ?_)
        obtain ⟨g4, hf⟩ := gd_t hf
        obtain ⟨v5, hv5, hf⟩ := ob_s hf
        obtain ⟨o6, hf, hT⟩ := TL_c hT hf
        refine mc_X1_332 (fE := fE) (lE := lE) S hE hS hB g4 hv5 hl.1 ⟨(by show _ ≤ (fE + 3); omega), (by show _ ≤ (lE + 3122); omega)⟩ (Nat.le_of_ble_eq_true rfl) ⟨(TL_m hT).1, (TL_m hT).2⟩ dX1_order_59 (fun H locs _ hB => ?_)
        refine lv_istore (lv' := [(4, .int v5.1), (0, .ref x0), (1, .int x1), (2, .int x2), (3, .ref x3), (5, .int x5)]) hx hb dX1_order_62 hl (by decide) rfl (fun ls hl => ?_)
        refine lv_iload hx hb dX1_order_64 (lv_at hl 0 rfl) ?_
        refine lv_if_ge (tgt := 75) hx hb dX1_order_66 (by decide) (fun c7 => ?_) (fun c7 => ?_)
        · replace hf := it_t c7 hf
          refine lv_aload_n hx hb dX1_order_75 rfl (lv_at hl 4 rfl) ?_
          refine lv_iconst hx hb dX1_order_76 kc_i0 ?_
          refine lv_dup2_11 hx hb dX1_order_77 rfl rfl ?_
          obtain ⟨v8, hv8, hf⟩ := ob_s hf
          refine b_iald S hS.1 hB hv8 dX1_order_78 ?_
          refine lv_iconst hx hb dX1_order_79 kc_i1 ?_
          refine lv_iload hx hb dX1_order_80 (lv_at hl 0 rfl) ?_
          refine lv_ishl hx hb dX1_order_82 ?_
          refine lv_ior hx hb dX1_order_83 ?_
          obtain ⟨h9, hh9, hf⟩ := ob_s hf
          refine b_iast S hS.1 hB hh9 dX1_order_84 (fun H locs hB => ?_)
          refine lv_iinc (v := (x5 + 1)) (lv' := [(5, .int (x5 + 1)), (4, .int v5.1), (0, .ref x0), (1, .int x1), (2, .int x2), (3, .ref x3)]) hx hb dX1_order_85 hl (k := 5) rfl rfl (by decide) rfl (fun ls hl => ?_)
          refine lv_goto (tgt := 40) hx hb dX1_order_88 (by decide) ?_
          exact (ih) x0 x1 x2 x3 v5.1 (x5 + 1) h9 ((nc + 1) + v5.2.2.1) ls H locs ((ce + 1) + v5.2.2.1) ((sl + 3) + v5.2.2.2) o6 hB (by omega) hT (lv_sub (l' := [(0, .ref x0), (1, .int x1), (2, .int x2), (3, .ref x3), (4, .int v5.1), (5, .int (x5 + 1))]) hl [2, 3, 4, 5, 1, 0] rfl) hf
        · replace hf := it_f c7 hf
          refine lv_aload_n hx hb dX1_order_69 rfl (lv_at hl 1 rfl) ?_
          refine lv_iconst hx hb dX1_order_70 kc_i5 ?_
          obtain ⟨g10, hf⟩ := gd_t hf
          obtain ⟨v11, hv11, hf⟩ := ob_s hf
          obtain ⟨o12, hf, hT⟩ := TL_c hT hf
          refine mc_X1_174 (fE := fE) (lE := lE) S hS hB g10 hv11 hl.1 ⟨(by show _ ≤ (fE + 3); omega), (by show _ ≤ (lE + 3122); omega)⟩ (Nat.le_of_ble_eq_true rfl) ⟨(TL_m hT).1, (TL_m hT).2⟩ dX1_order_71 (fun H locs _ hB => ?_)
          have hE9 := TL_e hT hf
          subst hE9
          exact bt_i S hr hlocks hB (by omega) trivial dX1_order_74
  have w22 : ∀ (x0 : Nat) (x1 : Int32) (x2 : Int32) (y0 : Nat) (y1 : Int32) (hc : AH) (nc : Nat) (ls : Array Slot) (H : Heap) (locs : List Loc) (ce sl : Nat) (o1 : Int32 × AH × Nat × Nat), BI G (AA h nx) s.heap hc nc H locs → nc = nx + ce → TL out o1 ce sl → lv_has ls 6 [(0, .ref x0), (1, .int x1), (2, .int x2)] → f_X1_order_22 E x0 x1 x2 y0 y1 hc nc = some o1 → W p l e (rC (fE + 3) (lE + 3122) out.2.2.1 out.2.2.2) s m ([.ref o, .int a0, .int a1] : List Value).toArray below meth c H locs ce sl (MQ below (bQ G (some (.int out.1)) True out.2.1 (nx + out.2.2.1) (AA h nx)) ([.ref o, .int a0, .int a1] : List Value).toArray s out.2.2.1 out.2.2.2 (AA h nx)) (F0 m 22 ls [.int y1, .ref y0]) := by
    intro x0 x1 x2 y0 y1 hc nc ls H locs ce sl o1 hB hn hT hl hf
    rw [f_X1_order_22] at hf
    obtain ⟨g1, hf⟩ := gd_t hf
    obtain ⟨v2, hv2, hf⟩ := ob_s hf
    obtain ⟨o3, hf, hT⟩ := TL_c hT hf
    refine mc_X1_155 (fE := fE) (lE := lE) S hS hB g1 hv2 hl.1 ⟨(by show _ ≤ (fE + 3); omega), (by show _ ≤ (lE + 3122); omega)⟩ (Nat.le_of_ble_eq_true rfl) ⟨(TL_m hT).1, (TL_m hT).2⟩ dX1_order_22 (fun H locs hnv2 hB => ?_)
    refine lv_if_ne (tgt := 30) hx hb dX1_order_25 (by decide) (fun c4 => ?_) (fun c4 => ?_)
    · replace hf := it_f c4 hf
      refine lv_iconst hx hb dX1_order_30 kc_i1 ?_
      obtain ⟨o5, hf, hT⟩ := TL_c hT hf
      refine b_newI S hS hB kn_1 kna_1 (TL_m hT).1 (TL_m hT).2 dX1_order_31 (fun H hB => ?_)
      refine lv_astore_n (i := 3) (lv' := [(3, .ref (nc + v2.2.2.1)), (0, .ref x0), (1, .int x1), (2, .int x2)]) hx hb dX1_order_33 rfl hl (by decide) rfl (fun ls hl => ?_)
      refine lv_iconst hx hb dX1_order_34 kc_im1 ?_
      refine lv_istore (lv' := [(4, .int (-1)), (3, .ref (nc + v2.2.2.1)), (0, .ref x0), (1, .int x1), (2, .int x2)]) hx hb dX1_order_35 hl (by decide) rfl (fun ls hl => ?_)
      refine lv_iconst hx hb dX1_order_37 kc_i0 ?_
      refine lv_istore (lv' := [(5, .int 0), (4, .int (-1)), (3, .ref (nc + v2.2.2.1)), (0, .ref x0), (1, .int x1), (2, .int x2)]) hx hb dX1_order_38 hl (by decide) rfl (fun ls hl => ?_)
      exact (w40 FU) x0 x1 x2 (nc + v2.2.2.1) (-1) 0 (hu v2.2.1 (nc + v2.2.2.1) (.inl (0, 1, .inl (fun _ => 0)))) ((nc + v2.2.2.1) + 1) ls H locs ((ce + v2.2.2.1) + 1) ((sl + v2.2.2.2) + 1) o5 hB (by omega) hT (lv_sub (l' := [(0, .ref x0), (1, .int x1), (2, .int x2), (3, .ref (nc + v2.2.2.1)), (4, .int (-1)), (5, .int 0)]) hl [3, 4, 5, 2, 1, 0] rfl) hf
    · replace hf := it_t c4 hf
      refine lv_iconst hx hb dX1_order_28 kc_im1 ?_
      have hE9 := TL_e hT hf
      subst hE9
      exact bt_i S hr hlocks hB (by omega) trivial dX1_order_29
  have hT : TL out out 0 0 := TL_0
  rw [f_X1_order] at hf
  refine lv_aload_n hx hb dX1_order_0 rfl (lv_at hl 0 rfl) ?_
  refine lv_iload_n hx hb dX1_order_1 rfl (lv_at hl 2 rfl) ?_
  refine lv_if_ge (tgt := 9) hx hb dX1_order_2 (by decide) (fun c1 => ?_) (fun c1 => ?_)
  · replace hf := it_t c1 hf
    refine lv_aload_n hx hb dX1_order_9 rfl (lv_at hl 0 rfl) ?_
    refine lv_iload_n hx hb dX1_order_10 rfl (lv_at hl 1 rfl) ?_
    obtain ⟨g2, hf⟩ := gd_t hf
    obtain ⟨v3, hv3, hf⟩ := ob_s hf
    refine mc_X1_141 (fE := fE) (lE := lE) S hS hB g2 hv3 hl.1 ⟨(by show _ ≤ (fE + 3); omega), (by show _ ≤ (lE + 3122); omega)⟩ (Nat.le_of_ble_eq_true rfl) ⟨(TL_m hT).1, (TL_m hT).2⟩ dX1_order_11 (fun hnv3 => ?_)
    refine lv_if_eq (tgt := 21) hx hb dX1_order_14 (by decide) (fun c4 => ?_) (fun c4 => ?_)
    · replace hf := it_t c4 hf
      refine lv_iconst hx hb dX1_order_21 kc_i2 ?_
      exact (w22) o a0 a1 o (nI 2) h nx ls s.heap [] 0 0 out hB (by omega) hT hl hf
    · replace hf := it_f c4 hf
      refine lv_iconst hx hb dX1_order_17 kc_i0 ?_
      refine lv_goto (tgt := 22) hx hb dX1_order_18 (by decide) ?_
      exact (w22) o a0 a1 o 0 h nx ls s.heap [] 0 0 out hB (by omega) hT hl hf
  · replace hf := it_f c1 hf
    refine lv_iconst hx hb dX1_order_5 kc_i1 ?_
    refine lv_goto (tgt := 22) hx hb dX1_order_6 (by decide) ?_
    exact (w22) o a0 a1 o 1 h nx ls s.heap [] 0 0 out hB (by omega) hT hl hf
theorem hd_X1_lambda_order_10 : yX1_lambda_order_10.cls = RX1 ∧ yX1_lambda_order_10.cls ≠ "java/lang/invoke/MethodHandle" ∧ yX1_lambda_order_10.cls ≠ "java/lang/invoke/VarHandle" ∧ (parseMethodDescriptor yX1_lambda_order_10.desc).map (fun d => d.parameters.length) = some 3 := by decide +kernel
set_option maxHeartbeats 4000000 in
set_option maxRecDepth 100000 in
theorem mm_X1_lambda_order_10 {o : Nat} {a0 : Int32} {a1 : Nat} {a2 : Int32} {out : Int32} (hf : f_X1_lambda_order_10 E h o a0 a1 a2 = some out) : Met l yX1_lambda_order_10 (ws_ yX1_lambda_order_10 cX1_lambda_order_10 4 (some .boolean)) (rM (fE + 1) (lE + 22)) (bPc G E.1 hSites h nx [.ref o, .int a0, .ref a1, .int a2]) (gR (some (.int out)) (narrow .boolean (.int out) = .int out)) 0 0 (fun _ => False) := by
  refine bGo (by decide +kernel) (Nat.le_of_ble_eq_true rfl) (fun p e s m below meth c ls S hr hlocks hin hnm hS hB hl => ?_)
  have S : CallFix p m c cX1_lambda_order_10 4 s _ lw_all RX1 := S
  obtain ⟨hx, hb, hml, hown, hts⟩ := id S
  have hl : lv_has ls 4 [(0, .ref o), (1, .int a0), (2, .ref a1), (3, .int a2)] := hl
  rw [f_X1_lambda_order_10] at hf
  refine lv_aload_n hx hb dX1_lambda_order_10_0 rfl (lv_at hl 0 rfl) ?_
  obtain ⟨v1, hv1, hf⟩ := ob_s hf
  refine bg_X1_70 S hS hB (vR_s hv1) dX1_lambda_order_10_1 ?_
  refine lv_iload_n hx hb dX1_lambda_order_10_4 rfl (lv_at hl 3 rfl) ?_
  refine lv_iload_n hx hb dX1_lambda_order_10_5 rfl (lv_at hl 1 rfl) ?_
  obtain ⟨g2, hf⟩ := gd_t hf
  obtain ⟨v3, hv3, hf⟩ := ob_s hf
  refine mc_X1_325 (fE := fE) (lE := lE) S hS hB g2 hv3 hl.1 ⟨(by show _ ≤ (fE + 1); omega), (by show _ ≤ (lE + 22); omega)⟩ (Nat.le_of_ble_eq_true rfl) ⟨Nat.zero_le _, Nat.zero_le _⟩ dX1_lambda_order_10_6 (fun hnv3 => ?_)
  refine lv_if_eq (tgt := 26) hx hb dX1_lambda_order_10_9 (by decide) (fun c4 => ?_) (fun c4 => ?_)
  · replace hf := it_t c4 hf
    refine lv_iconst hx hb dX1_lambda_order_10_26 kc_i0 ?_
    have hE9 := Option.some.inj hf
    subst hE9
    exact gt_rz S hr hlocks nb0 dX1_lambda_order_10_27
  · replace hf := it_f c4 hf
    refine lv_aload_n hx hb dX1_lambda_order_10_12 rfl (lv_at hl 2 rfl) ?_
    refine lv_iconst hx hb dX1_lambda_order_10_13 kc_i0 ?_
    obtain ⟨v5, hv5, hf⟩ := ob_s hf
    refine b_iald S hS.1 hB hv5 dX1_lambda_order_10_14 ?_
    refine lv_iload_n hx hb dX1_lambda_order_10_15 rfl (lv_at hl 3 rfl) ?_
    refine lv_ishr hx hb dX1_lambda_order_10_16 ?_
    refine lv_iconst hx hb dX1_lambda_order_10_17 kc_i1 ?_
    refine lv_iand hx hb dX1_lambda_order_10_18 ?_
    refine lv_if_ne (tgt := 26) hx hb dX1_lambda_order_10_19 (by decide) (fun c6 => ?_) (fun c6 => ?_)
    · replace hf := it_f c6 hf
      refine lv_iconst hx hb dX1_lambda_order_10_26 kc_i0 ?_
      have hE9 := Option.some.inj hf
      subst hE9
      exact gt_rz S hr hlocks nb0 dX1_lambda_order_10_27
    · replace hf := it_t c6 hf
      refine lv_iconst hx hb dX1_lambda_order_10_22 kc_i1 ?_
      refine lv_goto (tgt := 27) hx hb dX1_lambda_order_10_23 (by decide) ?_
      have hE9 := Option.some.inj hf
      subst hE9
      exact gt_rz S hr hlocks nb1 dX1_lambda_order_10_27
theorem hd_X1_isAsking : yX1_isAsking.cls = RX1 ∧ yX1_isAsking.cls ≠ "java/lang/invoke/MethodHandle" ∧ yX1_isAsking.cls ≠ "java/lang/invoke/VarHandle" ∧ (parseMethodDescriptor yX1_isAsking.desc).map (fun d => d.parameters.length) = some 2 := by decide +kernel
set_option maxHeartbeats 4000000 in
set_option maxRecDepth 100000 in
theorem mm_X1_isAsking {o : Nat} {a0 : Int32} {a1 : Int32} {out : Int32} (hf : f_X1_isAsking E h o a0 a1 = some out) : Met l yX1_isAsking (ws_ yX1_isAsking cX1_isAsking 3 (some .boolean)) (rM (fE + 5) (lE + 107)) (bPc G E.1 hSites h nx [.ref o, .int a0, .int a1]) (gR (some (.int out)) (narrow .boolean (.int out) = .int out)) 0 0 (fun _ => False) := by
  refine bGo (by decide +kernel) (Nat.le_of_ble_eq_true rfl) (fun p e s m below meth c ls S hr hlocks hin hnm hS hB hl => ?_)
  have S : CallFix p m c cX1_isAsking 3 s _ lw_all RX1 := S
  obtain ⟨hx, hb, hml, hown, hts⟩ := id S
  have hl : lv_has ls 3 [(0, .ref o), (1, .int a0), (2, .int a1)] := hl
  rw [f_X1_isAsking] at hf
  refine lv_aload_n hx hb dX1_isAsking_0 rfl (lv_at hl 0 rfl) ?_
  obtain ⟨v1, hv1, hf⟩ := ob_s hf
  refine bg_X1_70 S hS hB (vR_s hv1) dX1_isAsking_1 ?_
  refine lv_iload_n hx hb dX1_isAsking_4 rfl (lv_at hl 1 rfl) ?_
  obtain ⟨g2, hf⟩ := gd_t hf
  obtain ⟨v3, hv3, hf⟩ := ob_s hf
  refine mc_X1_335 (fE := fE) (lE := lE) S hS hB g2 hv3 hl.1 ⟨(by show _ ≤ (fE + 5); omega), (by show _ ≤ (lE + 107); omega)⟩ (Nat.le_of_ble_eq_true rfl) ⟨Nat.zero_le _, Nat.zero_le _⟩ dX1_isAsking_5 (fun hnv3 => ?_)
  refine lv_if_eq (tgt := 27) hx hb dX1_isAsking_8 (by decide) (fun c4 => ?_) (fun c4 => ?_)
  · replace hf := it_t c4 hf
    refine lv_iconst hx hb dX1_isAsking_27 kc_i0 ?_
    have hE9 := Option.some.inj hf
    subst hE9
    exact gt_rz S hr hlocks nb0 dX1_isAsking_28
  · replace hf := it_f c4 hf
    refine lv_aload_n hx hb dX1_isAsking_11 rfl (lv_at hl 0 rfl) ?_
    obtain ⟨v5, hv5, hf⟩ := ob_s hf
    refine bg_X1_70 S hS hB (vR_s hv5) dX1_isAsking_12 ?_
    refine lv_iload_n hx hb dX1_isAsking_15 rfl (lv_at hl 1 rfl) ?_
    refine lv_iload_n hx hb dX1_isAsking_16 rfl (lv_at hl 2 rfl) ?_
    obtain ⟨g6, hf⟩ := gd_t hf
    obtain ⟨v7, hv7, hf⟩ := ob_s hf
    refine mc_X1_338 (fE := fE) (lE := lE) S hS hB g6 hv7 hl.1 ⟨(by show _ ≤ (fE + 5); omega), (by show _ ≤ (lE + 107); omega)⟩ (Nat.le_of_ble_eq_true rfl) ⟨Nat.zero_le _, Nat.zero_le _⟩ dX1_isAsking_17 (fun hnv7 => ?_)
    refine lv_if_eq (tgt := 27) hx hb dX1_isAsking_20 (by decide) (fun c8 => ?_) (fun c8 => ?_)
    · replace hf := it_t c8 hf
      refine lv_iconst hx hb dX1_isAsking_27 kc_i0 ?_
      have hE9 := Option.some.inj hf
      subst hE9
      exact gt_rz S hr hlocks nb0 dX1_isAsking_28
    · replace hf := it_f c8 hf
      refine lv_iconst hx hb dX1_isAsking_23 kc_i1 ?_
      refine lv_goto (tgt := 28) hx hb dX1_isAsking_24 (by decide) ?_
      have hE9 := Option.some.inj hf
      subst hE9
      exact gt_rz S hr hlocks nb1 dX1_isAsking_28
set_option maxRecDepth 100000 in
theorem mc_X1_341 {o : Nat} {a0 : Int32} {a1 : Int32} {out : Int32} (S : CallFix p m c cc nL s args lw_all RX1) (hS : SK G E.1 hSites A s) (hB : BI G A s.heap h nx H locs) (ho : isO h o 0 = true) (hf : f_X1_isAsking E h o a0 a1 = some out) (hsz : ls.size = nL) (hR : (fE + 5) + 1 ≤ R.frames ∧ 8 + (3 + 11) + (lE + 107) ≤ R.locals) (hW : (rest.map fun v => v.category).sum ≤ 8) (hcs : cells ≤ R.cells ∧ slots ≤ R.slots) (hdg : decode cc pc = .ok (.invokevirtual 341, 3))  (kk : (narrow .boolean (.int out) = .int out) → W p l e R s m args below meth c H locs cells slots Q (F0 m (pc + 3) ls (.int out :: rest))) : W p l e R s m args below meth c H locs cells slots Q (F0 m pc ls (.int a1 :: .int a0 :: .ref o :: rest)) := by
  have hN := hS.2.1
  obtain ⟨fs, he⟩ := isO_s ho
  exact br_r (va_runV (As := [.int a0, .int a1]) S (mm_X1_isAsking (l := l) (G := G) (nx := nx) (fE := fE) (lE := lE) hf) (cwV 2 S.2.2.2.2 (lw_V q1298 q1300 qs45 q174 q1301) rfl rfl rfl hd_X1_isAsking hR) (bPreV hS hB (ci := 0) rfl he) rfl rfl hsz rfl (lv_room hW) hdg hcs) kk
theorem hd_X1_ahead : yX1_ahead.cls = RX1 ∧ yX1_ahead.cls ≠ "java/lang/invoke/MethodHandle" ∧ yX1_ahead.cls ≠ "java/lang/invoke/VarHandle" ∧ (parseMethodDescriptor yX1_ahead.desc).map (fun d => d.parameters.length) = some 2 := by decide +kernel
set_option maxHeartbeats 4000000 in
set_option maxRecDepth 100000 in
theorem mm_X1_ahead {o : Nat} {a0 : Int32} {a1 : Int32} {out : Int32 × AH × Nat × Nat} (hE : IfOK l G E fE lE) (hf : f_X1_ahead E h nx o a0 a1 = some out) : Met l yX1_ahead (ws_ yX1_ahead cX1_ahead 4 (some .int)) (rC (fE + 6) (lE + 3100) out.2.2.1 out.2.2.2) (bPc G E.1 hSites h nx [.ref o, .int a0, .int a1]) (bQ G (some (.int out.1)) True out.2.1 (nx + out.2.2.1) (AA h nx)) out.2.2.1 out.2.2.2 (AA h nx) := by
  refine bGo (by decide +kernel) (Nat.le_of_ble_eq_true rfl) (fun p e s m below meth c ls S hr hlocks hin hnm hS hB hl => ?_)
  have S : CallFix p m c cX1_ahead 4 s _ lw_all RX1 := S
  obtain ⟨hx, hb, hml, hown, hts⟩ := id S
  have hl : lv_has ls 4 [(0, .ref o), (1, .int a0), (2, .int a1)] := hl
  have w26 : ∀ (x0 : Nat) (x1 : Int32) (x2 : Int32) (y0 : Nat) (y1 : Int32) (hc : AH) (nc : Nat) (ls : Array Slot) (H : Heap) (locs : List Loc) (ce sl : Nat) (o1 : Int32 × AH × Nat × Nat), BI G (AA h nx) s.heap hc nc H locs → nc = nx + ce → TL out o1 ce sl → lv_has ls 4 [(0, .ref x0), (1, .int x1), (2, .int x2)] → f_X1_ahead_26 E x0 x1 x2 y0 y1 hc nc = some o1 → W p l e (rC (fE + 6) (lE + 3100) out.2.2.1 out.2.2.2) s m ([.ref o, .int a0, .int a1] : List Value).toArray below meth c H locs ce sl (MQ below (bQ G (some (.int out.1)) True out.2.1 (nx + out.2.2.1) (AA h nx)) ([.ref o, .int a0, .int a1] : List Value).toArray s out.2.2.1 out.2.2.2 (AA h nx)) (F0 m 26 ls [.int y1, .ref y0]) := by
    intro x0 x1 x2 y0 y1 hc nc ls H locs ce sl o1 hB hn hT hl hf
    rw [f_X1_ahead_26] at hf
    obtain ⟨g1, hf⟩ := gd_t hf
    obtain ⟨v2, hv2, hf⟩ := ob_s hf
    obtain ⟨o3, hf, hT⟩ := TL_c hT hf
    refine mc_X1_155 (fE := fE) (lE := lE) S hS hB g1 hv2 hl.1 ⟨(by show _ ≤ (fE + 6); omega), (by show _ ≤ (lE + 3100); omega)⟩ (Nat.le_of_ble_eq_true rfl) ⟨(TL_m hT).1, (TL_m hT).2⟩ dX1_ahead_26 (fun H locs hnv2 hB => ?_)
    refine lv_if_ne (tgt := 34) hx hb dX1_ahead_29 (by decide) (fun c4 => ?_) (fun c4 => ?_)
    · replace hf := it_f c4 hf
      refine lv_aload_n hx hb dX1_ahead_34 rfl (lv_at hl 0 rfl) ?_
      obtain ⟨v5, hv5, hf⟩ := ob_s hf
      refine bg_X1_51 S hS hB (vR_s hv5) dX1_ahead_35 ?_
      obtain ⟨g6, hf⟩ := gd_t hf
      obtain ⟨v7, hv7, hf⟩ := ob_s hf
      refine mc_X1_130 (fE := fE) (lE := lE) S hS hB g6 hv7 hl.1 ⟨(by show _ ≤ (fE + 6); omega), (by show _ ≤ (lE + 3100); omega)⟩ (Nat.le_of_ble_eq_true rfl) ⟨(TL_m hT).1, (TL_m hT).2⟩ dX1_ahead_38 (fun _ => ?_)
      refine lv_aload_n hx hb dX1_ahead_41 rfl (lv_at hl 0 rfl) ?_
      refine lv_iload_n hx hb dX1_ahead_42 rfl (lv_at hl 1 rfl) ?_
      refine lv_iload_n hx hb dX1_ahead_43 rfl (lv_at hl 2 rfl) ?_
      obtain ⟨o8, hf, hT⟩ := TL_c hT hf
      refine b_lam S hS hB (k := 21) (vs := [.ref x0, .int x1, .int x2]) hnm rfl lamL_21 (lamV_c rfl rfl (lamV_c rfl rfl (lamV_c rfl rfl lamV_n))) rfl hl.1 (by show _ ≤ (lE + 3100); simp only [List.map, List.sum_cons, List.sum_nil, Value.category]; omega) (TL_m hT).1 (TL_m hT).2 dX1_ahead_44 (fun H hB => ?_)
      obtain ⟨h9, eh9⟩ : ∃ z, z = (hu v2.2.1 (nc + v2.2.2.1) (.inr (.inr (21, [.ref x0, .int x1, .int x2])))) := ⟨_, rfl⟩
      replace hf := bd_e eh9 hf
      rw [← eh9] at hB
      obtain ⟨v10, hv10, hf⟩ := ob_s hf
      obtain ⟨o11, hf, hT⟩ := TL_c hT hf
      refine mc_X1_192 (fE := fE) (lE := lE) S hE hS hB hv10 hl.1 ⟨(by show _ ≤ (fE + 6); omega), (by show _ ≤ (lE + 3100); omega)⟩ (Nat.le_of_ble_eq_true rfl) ⟨(TL_m hT).1, (TL_m hT).2⟩ dX1_ahead_49 (fun H locs _ hB => ?_)
      have hE9 := TL_e hT hf
      subst hE9
      exact bt_i S hr hlocks hB (by omega) trivial dX1_ahead_52
    · replace hf := it_t c4 hf
      refine lv_iconst hx hb dX1_ahead_32 kc_im1 ?_
      have hE9 := TL_e hT hf
      subst hE9
      exact bt_i S hr hlocks hB (by omega) trivial dX1_ahead_33
  have hT : TL out out 0 0 := TL_0
  rw [f_X1_ahead] at hf
  refine lv_aload_n hx hb dX1_ahead_0 rfl (lv_at hl 0 rfl) ?_
  refine lv_iload_n hx hb dX1_ahead_1 rfl (lv_at hl 1 rfl) ?_
  refine lv_iload_n hx hb dX1_ahead_2 rfl (lv_at hl 2 rfl) ?_
  obtain ⟨g1, hf⟩ := gd_t hf
  obtain ⟨v2, hv2, hf⟩ := ob_s hf
  refine mc_X1_319 (fE := fE) (lE := lE) S hS hB g1 hv2 hl.1 ⟨(by show _ ≤ (fE + 6); omega), (by show _ ≤ (lE + 3100); omega)⟩ (Nat.le_of_ble_eq_true rfl) ⟨(TL_m hT).1, (TL_m hT).2⟩ dX1_ahead_3 (fun _ => ?_)
  refine lv_istore_n (i := 3) (lv' := [(3, .int v2), (0, .ref o), (1, .int a0), (2, .int a1)]) hx hb dX1_ahead_6 rfl hl (by decide) rfl (fun ls hl => ?_)
  refine lv_aload_n hx hb dX1_ahead_7 rfl (lv_at hl 1 rfl) ?_
  refine lv_iload_n hx hb dX1_ahead_8 rfl (lv_at hl 0 rfl) ?_
  refine lv_if_ne (tgt := 25) hx hb dX1_ahead_9 (by decide) (fun c3 => ?_) (fun c3 => ?_)
  · replace hf := it_f c3 hf
    refine lv_iload_n hx hb dX1_ahead_25 rfl (lv_at hl 0 rfl) ?_
    exact (w26) o a0 a1 o v2 h nx ls s.heap [] 0 0 out hB (by omega) hT (lv_sub (l' := [(0, .ref o), (1, .int a0), (2, .int a1)]) hl [1, 2, 3] rfl) hf
  · replace hf := it_t c3 hf
    refine lv_aload_n hx hb dX1_ahead_12 rfl (lv_at hl 1 rfl) ?_
    refine lv_iload_n hx hb dX1_ahead_13 rfl (lv_at hl 2 rfl) ?_
    refine lv_iload_n hx hb dX1_ahead_14 rfl (lv_at hl 3 rfl) ?_
    obtain ⟨g4, hf⟩ := gd_t hf
    obtain ⟨v5, hv5, hf⟩ := ob_s hf
    refine mc_X1_341 (fE := fE) (lE := lE) S hS hB g4 hv5 hl.1 ⟨(by show _ ≤ (fE + 6); omega), (by show _ ≤ (lE + 3100); omega)⟩ (Nat.le_of_ble_eq_true rfl) ⟨(TL_m hT).1, (TL_m hT).2⟩ dX1_ahead_15 (fun hnv5 => ?_)
    refine lv_if_ne (tgt := 25) hx hb dX1_ahead_18 (by decide) (fun c6 => ?_) (fun c6 => ?_)
    · replace hf := it_f c6 hf
      refine lv_iload_n hx hb dX1_ahead_25 rfl (lv_at hl 0 rfl) ?_
      exact (w26) o a0 a1 o v2 h nx ls s.heap [] 0 0 out hB (by omega) hT (lv_sub (l' := [(0, .ref o), (1, .int a0), (2, .int a1)]) hl [1, 2, 3] rfl) hf
    · replace hf := it_t c6 hf
      refine lv_iconst hx hb dX1_ahead_21 kc_i5 ?_
      refine lv_goto (tgt := 26) hx hb dX1_ahead_22 (by decide) ?_
      exact (w26) o a0 a1 o (nI 5) h nx ls s.heap [] 0 0 out hB (by omega) hT (lv_sub (l' := [(0, .ref o), (1, .int a0), (2, .int a1)]) hl [1, 2, 3] rfl) hf
theorem hd_X1_lambda_ahead_11 : yX1_lambda_ahead_11.cls = RX1 ∧ yX1_lambda_ahead_11.cls ≠ "java/lang/invoke/MethodHandle" ∧ yX1_lambda_ahead_11.cls ≠ "java/lang/invoke/VarHandle" ∧ (parseMethodDescriptor yX1_lambda_ahead_11.desc).map (fun d => d.parameters.length) = some 3 := by decide +kernel
set_option maxHeartbeats 4000000 in
set_option maxRecDepth 100000 in
theorem mm_X1_lambda_ahead_11 {o : Nat} {a0 : Int32} {a1 : Int32} {a2 : Int32} {out : Int32 × AH × Nat × Nat} (hE : IfOK l G E fE lE) (hf : f_X1_lambda_ahead_11 E h nx o a0 a1 a2 = some out) : Met l yX1_lambda_ahead_11 (ws_ yX1_lambda_ahead_11 cX1_lambda_ahead_11 4 (some .boolean)) (rC (fE + 6) (lE + 129) out.2.2.1 out.2.2.2) (bPc G E.1 hSites h nx [.ref o, .int a0, .int a1, .int a2]) (bQ G (some (.int out.1)) (narrow .boolean (.int out.1) = .int out.1) out.2.1 (nx + out.2.2.1) (AA h nx)) out.2.2.1 out.2.2.2 (AA h nx) := by
  refine bGo (by decide +kernel) (Nat.le_of_ble_eq_true rfl) (fun p e s m below meth c ls S hr hlocks hin hnm hS hB hl => ?_)
  have S : CallFix p m c cX1_lambda_ahead_11 4 s _ lw_all RX1 := S
  obtain ⟨hx, hb, hml, hown, hts⟩ := id S
  have hl : lv_has ls 4 [(0, .ref o), (1, .int a0), (2, .int a1), (3, .int a2)] := hl
  have hT : TL out out 0 0 := TL_0
  rw [f_X1_lambda_ahead_11] at hf
  refine lv_iload_n hx hb dX1_lambda_ahead_11_0 rfl (lv_at hl 3 rfl) ?_
  refine lv_iload_n hx hb dX1_lambda_ahead_11_1 rfl (lv_at hl 1 rfl) ?_
  refine lv_icmp_eq (tgt := 31) hx hb dX1_lambda_ahead_11_2 (by decide) (fun c1 => ?_) (fun c1 => ?_)
  · replace hf := it_t c1 hf
    refine lv_iconst hx hb dX1_lambda_ahead_11_31 kc_i0 ?_
    have hE9 := TL_e hT hf
    subst hE9
    exact bt_z S hr hlocks hB (by omega) nb0 dX1_lambda_ahead_11_32
  · replace hf := it_f c1 hf
    refine lv_aload_n hx hb dX1_lambda_ahead_11_5 rfl (lv_at hl 0 rfl) ?_
    refine lv_iload_n hx hb dX1_lambda_ahead_11_6 rfl (lv_at hl 3 rfl) ?_
    refine lv_iload_n hx hb dX1_lambda_ahead_11_7 rfl (lv_at hl 2 rfl) ?_
    obtain ⟨g2, hf⟩ := gd_t hf
    obtain ⟨v3, hv3, hf⟩ := ob_s hf
    refine mc_X1_341 (fE := fE) (lE := lE) S hS hB g2 hv3 hl.1 ⟨(by show _ ≤ (fE + 6); omega), (by show _ ≤ (lE + 129); omega)⟩ (Nat.le_of_ble_eq_true rfl) ⟨(TL_m hT).1, (TL_m hT).2⟩ dX1_lambda_ahead_11_8 (fun hnv3 => ?_)
    refine lv_if_eq (tgt := 31) hx hb dX1_lambda_ahead_11_11 (by decide) (fun c4 => ?_) (fun c4 => ?_)
    · replace hf := it_t c4 hf
      refine lv_iconst hx hb dX1_lambda_ahead_11_31 kc_i0 ?_
      have hE9 := TL_e hT hf
      subst hE9
      exact bt_z S hr hlocks hB (by omega) nb0 dX1_lambda_ahead_11_32
    · replace hf := it_f c4 hf
      refine lv_aload_n hx hb dX1_lambda_ahead_11_14 rfl (lv_at hl 0 rfl) ?_
      obtain ⟨v5, hv5, hf⟩ := ob_s hf
      refine bg_X1_70 S hS hB (vR_s hv5) dX1_lambda_ahead_11_15 ?_
      refine lv_iload_n hx hb dX1_lambda_ahead_11_18 rfl (lv_at hl 2 rfl) ?_
      refine lv_iload_n hx hb dX1_lambda_ahead_11_19 rfl (lv_at hl 3 rfl) ?_
      refine lv_iload_n hx hb dX1_lambda_ahead_11_20 rfl (lv_at hl 1 rfl) ?_
      obtain ⟨g6, hf⟩ := gd_t hf
      obtain ⟨v7, hv7, hf⟩ := ob_s hf
      obtain ⟨o8, hf, hT⟩ := TL_c hT hf
      refine mc_X1_628 (fE := fE) (lE := lE) S hE hS hB g6 hv7 hl.1 ⟨(by show _ ≤ (fE + 6); omega), (by show _ ≤ (lE + 129); omega)⟩ (Nat.le_of_ble_eq_true rfl) ⟨(TL_m hT).1, (TL_m hT).2⟩ dX1_lambda_ahead_11_21 (fun H locs _ hB => ?_)
      refine lv_if_ge (tgt := 31) hx hb dX1_lambda_ahead_11_24 (by decide) (fun c9 => ?_) (fun c9 => ?_)
      · replace hf := it_t c9 hf
        refine lv_iconst hx hb dX1_lambda_ahead_11_31 kc_i0 ?_
        have hE9 := TL_e hT hf
        subst hE9
        exact bt_z S hr hlocks hB (by omega) nb0 dX1_lambda_ahead_11_32
      · replace hf := it_f c9 hf
        refine lv_iconst hx hb dX1_lambda_ahead_11_27 kc_i1 ?_
        refine lv_goto (tgt := 32) hx hb dX1_lambda_ahead_11_28 (by decide) ?_
        have hE9 := TL_e hT hf
        subst hE9
        exact bt_z S hr hlocks hB (by omega) nb1 dX1_lambda_ahead_11_32
theorem hd_X1_turn : yX1_turn.cls = RX1 ∧ yX1_turn.cls ≠ "java/lang/invoke/MethodHandle" ∧ yX1_turn.cls ≠ "java/lang/invoke/VarHandle" ∧ (parseMethodDescriptor yX1_turn.desc).map (fun d => d.parameters.length) = some 2 := by decide +kernel
set_option maxHeartbeats 4000000 in
set_option maxRecDepth 100000 in
theorem mm_X1_turn {o : Nat} {a0 : Int32} {a1 : Int32} {out : Int32 × AH × Nat × Nat} (hf : f_X1_turn E h nx o a0 a1 = some out) : Met l yX1_turn (ws_ yX1_turn cX1_turn 3 (some .int)) (rC (fE + 6) (lE + 129) out.2.2.1 out.2.2.2) (bPc G E.1 hSites h nx [.ref o, .int a0, .int a1]) (bQ G (some (.int out.1)) True out.2.1 (nx + out.2.2.1) (AA h nx)) out.2.2.1 out.2.2.2 (AA h nx) := by
  refine bGo (by decide +kernel) (Nat.le_of_ble_eq_true rfl) (fun p e s m below meth c ls S hr hlocks hin hnm hS hB hl => ?_)
  have S : CallFix p m c cX1_turn 3 s _ lw_all RX1 := S
  obtain ⟨hx, hb, hml, hown, hts⟩ := id S
  have hl : lv_has ls 3 [(0, .ref o), (1, .int a0), (2, .int a1)] := hl
  have w58 : ∀ (y0 : Int32) (hc : AH) (nc : Nat) (ls : Array Slot) (H : Heap) (locs : List Loc) (ce sl : Nat) (o1 : Int32 × AH × Nat × Nat), BI G (AA h nx) s.heap hc nc H locs → nc = nx + ce → TL out o1 ce sl → lv_has ls 3 [] → f_X1_turn_58 E y0 hc nc = some o1 → W p l e (rC (fE + 6) (lE + 129) out.2.2.1 out.2.2.2) s m ([.ref o, .int a0, .int a1] : List Value).toArray below meth c H locs ce sl (MQ below (bQ G (some (.int out.1)) True out.2.1 (nx + out.2.2.1) (AA h nx)) ([.ref o, .int a0, .int a1] : List Value).toArray s out.2.2.1 out.2.2.2 (AA h nx)) (F0 m 58 ls [.int y0]) := by
    intro y0 hc nc ls H locs ce sl o1 hB hn hT hl hf
    rw [f_X1_turn_58] at hf
    obtain ⟨v1, hv1, hf⟩ := ob_s hf
    refine mc_X1_7 S hS.1 hv1 hl.1 ⟨(by show _ ≤ (fE + 6); omega), (by show _ ≤ (lE + 129); omega)⟩ (Nat.le_of_ble_eq_true rfl) ⟨(TL_m hT).1, (TL_m hT).2⟩ dX1_turn_58 (fun _ => ?_)
    have hE9 := TL_e hT hf
    subst hE9
    exact bt_i S hr hlocks hB (by omega) trivial dX1_turn_61
  have w28 : ∀ (x0 : Nat) (x1 : Int32) (x2 : Int32) (y0 : Nat) (y1 : Int32) (hc : AH) (nc : Nat) (ls : Array Slot) (H : Heap) (locs : List Loc) (ce sl : Nat) (o1 : Int32 × AH × Nat × Nat), BI G (AA h nx) s.heap hc nc H locs → nc = nx + ce → TL out o1 ce sl → lv_has ls 3 [(0, .ref x0), (1, .int x1), (2, .int x2)] → f_X1_turn_28 E x0 x1 x2 y0 y1 hc nc = some o1 → W p l e (rC (fE + 6) (lE + 129) out.2.2.1 out.2.2.2) s m ([.ref o, .int a0, .int a1] : List Value).toArray below meth c H locs ce sl (MQ below (bQ G (some (.int out.1)) True out.2.1 (nx + out.2.2.1) (AA h nx)) ([.ref o, .int a0, .int a1] : List Value).toArray s out.2.2.1 out.2.2.2 (AA h nx)) (F0 m 28 ls [.int y1, .ref y0]) := by
    intro x0 x1 x2 y0 y1 hc nc ls H locs ce sl o1 hB hn hT hl hf
    rw [f_X1_turn_28] at hf
    obtain ⟨g1, hf⟩ := gd_t hf
    obtain ⟨v2, hv2, hf⟩ := ob_s hf
    obtain ⟨o3, hf, hT⟩ := TL_c hT hf
    refine mc_X1_155 (fE := fE) (lE := lE) S hS hB g1 hv2 hl.1 ⟨(by show _ ≤ (fE + 6); omega), (by show _ ≤ (lE + 129); omega)⟩ (Nat.le_of_ble_eq_true rfl) ⟨(TL_m hT).1, (TL_m hT).2⟩ dX1_turn_28 (fun H locs hnv2 hB => ?_)
    refine lv_if_ne (tgt := 36) hx hb dX1_turn_31 (by decide) (fun c4 => ?_) (fun c4 => ?_)
    · replace hf := it_f c4 hf
      refine lv_iload_n hx hb dX1_turn_36 rfl (lv_at hl 2 rfl) ?_
      refine lv_if_ne (tgt := 51) hx hb dX1_turn_37 (by decide) (fun c5 => ?_) (fun c5 => ?_)
      · replace hf := it_f c5 hf
        refine lv_aload_n hx hb dX1_turn_51 rfl (lv_at hl 0 rfl) ?_
        obtain ⟨v6, hv6, hf⟩ := ob_s hf
        refine bg_X1_70 S hS hB (vR_s hv6) dX1_turn_52 ?_
        obtain ⟨g7, hf⟩ := gd_t hf
        obtain ⟨v8, hv8, hf⟩ := ob_s hf
        refine mc_X1_350 (fE := fE) (lE := lE) S hS hB g7 hv8 hl.1 ⟨(by show _ ≤ (fE + 6); omega), (by show _ ≤ (lE + 129); omega)⟩ (Nat.le_of_ble_eq_true rfl) ⟨(TL_m hT).1, (TL_m hT).2⟩ dX1_turn_55 (fun hnv8 => ?_)
        exact (w58) v8 v2.2.1 (nc + v2.2.2.1) ls H locs (ce + v2.2.2.1) (sl + v2.2.2.2) o3 hB (by omega) hT (lv_sub (l' := []) hl [] rfl) hf
      · replace hf := it_t c5 hf
        refine lv_aload_n hx hb dX1_turn_40 rfl (lv_at hl 0 rfl) ?_
        obtain ⟨v9, hv9, hf⟩ := ob_s hf
        refine bg_X1_70 S hS hB (vR_s hv9) dX1_turn_41 ?_
        refine lv_iload_n hx hb dX1_turn_44 rfl (lv_at hl 1 rfl) ?_
        obtain ⟨g10, hf⟩ := gd_t hf
        obtain ⟨v11, hv11, hf⟩ := ob_s hf
        refine mc_X1_347 (fE := fE) (lE := lE) S hS hB g10 hv11 hl.1 ⟨(by show _ ≤ (fE + 6); omega), (by show _ ≤ (lE + 129); omega)⟩ (Nat.le_of_ble_eq_true rfl) ⟨(TL_m hT).1, (TL_m hT).2⟩ dX1_turn_45 (fun hnv11 => ?_)
        refine lv_goto (tgt := 58) hx hb dX1_turn_48 (by decide) ?_
        exact (w58) v11 v2.2.1 (nc + v2.2.2.1) ls H locs (ce + v2.2.2.1) (sl + v2.2.2.2) o3 hB (by omega) hT (lv_sub (l' := []) hl [] rfl) hf
    · replace hf := it_t c4 hf
      refine lv_iconst hx hb dX1_turn_34 kc_im1 ?_
      have hE9 := TL_e hT hf
      subst hE9
      exact bt_i S hr hlocks hB (by omega) trivial dX1_turn_35
  have hT : TL out out 0 0 := TL_0
  rw [f_X1_turn] at hf
  refine lv_aload_n hx hb dX1_turn_0 rfl (lv_at hl 0 rfl) ?_
  refine lv_iload_n hx hb dX1_turn_1 rfl (lv_at hl 2 rfl) ?_
  refine lv_i2l hx hb dX1_turn_2 rfl ?_
  refine lv_lconst (v := 0) hx hb dX1_turn_3 (by decide) ?_
  refine lv_lconst (v := 1) hx hb dX1_turn_4 (by decide) ?_
  obtain ⟨v1, hv1, hf⟩ := ob_s hf
  refine mc_X1_134 S hS.1 hv1 hl.1 ⟨(by show _ ≤ (fE + 6); omega), (by show _ ≤ (lE + 129); omega)⟩ (Nat.le_of_ble_eq_true rfl) ⟨(TL_m hT).1, (TL_m hT).2⟩ dX1_turn_5 (fun hnv1 => ?_)
  refine lv_if_ne (tgt := 15) hx hb dX1_turn_8 (by decide) (fun c2 => ?_) (fun c2 => ?_)
  · replace hf := it_f c2 hf
    refine lv_aload_n hx hb dX1_turn_15 rfl (lv_at hl 0 rfl) ?_
    refine lv_iload_n hx hb dX1_turn_16 rfl (lv_at hl 1 rfl) ?_
    obtain ⟨g3, hf⟩ := gd_t hf
    obtain ⟨v4, hv4, hf⟩ := ob_s hf
    refine mc_X1_141 (fE := fE) (lE := lE) S hS hB g3 hv4 hl.1 ⟨(by show _ ≤ (fE + 6); omega), (by show _ ≤ (lE + 129); omega)⟩ (Nat.le_of_ble_eq_true rfl) ⟨(TL_m hT).1, (TL_m hT).2⟩ dX1_turn_17 (fun hnv4 => ?_)
    refine lv_if_eq (tgt := 27) hx hb dX1_turn_20 (by decide) (fun c5 => ?_) (fun c5 => ?_)
    · replace hf := it_t c5 hf
      refine lv_iconst hx hb dX1_turn_27 kc_i2 ?_
      exact (w28) o a0 a1 o (nI 2) h nx ls s.heap [] 0 0 out hB (by omega) hT hl hf
    · replace hf := it_f c5 hf
      refine lv_iconst hx hb dX1_turn_23 kc_i0 ?_
      refine lv_goto (tgt := 28) hx hb dX1_turn_24 (by decide) ?_
      exact (w28) o a0 a1 o 0 h nx ls s.heap [] 0 0 out hB (by omega) hT hl hf
  · replace hf := it_t c2 hf
    refine lv_iconst hx hb dX1_turn_11 kc_i1 ?_
    refine lv_goto (tgt := 28) hx hb dX1_turn_12 (by decide) ?_
    exact (w28) o a0 a1 o 1 h nx ls s.heap [] 0 0 out hB (by omega) hT hl hf
theorem hd_X1_let : yX1_let.cls = RX1 ∧ yX1_let.cls ≠ "java/lang/invoke/MethodHandle" ∧ yX1_let.cls ≠ "java/lang/invoke/VarHandle" ∧ (parseMethodDescriptor yX1_let.desc).map (fun d => d.parameters.length) = some 2 := by decide +kernel
set_option maxHeartbeats 4000000 in
set_option maxRecDepth 100000 in
theorem mm_X1_let {o : Nat} {a0 : Int32} {a1 : Int32} {out : Int32 × AH × Nat × Nat} (hf : f_X1_let E h nx o a0 a1 = some out) : Met l yX1_let (ws_ yX1_let cX1_let 4 (some .int)) (rC (fE + 3) (lE + 64) out.2.2.1 out.2.2.2) (bPc G E.1 hSites h nx [.ref o, .int a0, .int a1]) (bQ G (some (.int out.1)) True out.2.1 (nx + out.2.2.1) (AA h nx)) out.2.2.1 out.2.2.2 (AA h nx) := by
  refine bGo (by decide +kernel) (Nat.le_of_ble_eq_true rfl) (fun p e s m below meth c ls S hr hlocks hin hnm hS hB hl => ?_)
  have S : CallFix p m c cX1_let 4 s _ lw_all RX1 := S
  obtain ⟨hx, hb, hml, hown, hts⟩ := id S
  have hl : lv_has ls 4 [(0, .ref o), (1, .int a0), (2, .int a1)] := hl
  have w44 : ∀ (x0 : Nat) (x1 : Int32) (x2 : Int32) (y0 : Nat) (y1 : Int32) (hc : AH) (nc : Nat) (ls : Array Slot) (H : Heap) (locs : List Loc) (ce sl : Nat) (o1 : Int32 × AH × Nat × Nat), BI G (AA h nx) s.heap hc nc H locs → nc = nx + ce → TL out o1 ce sl → lv_has ls 4 [(0, .ref x0), (1, .int x1), (2, .int x2)] → f_X1_let_44 E x0 x1 x2 y0 y1 hc nc = some o1 → W p l e (rC (fE + 3) (lE + 64) out.2.2.1 out.2.2.2) s m ([.ref o, .int a0, .int a1] : List Value).toArray below meth c H locs ce sl (MQ below (bQ G (some (.int out.1)) True out.2.1 (nx + out.2.2.1) (AA h nx)) ([.ref o, .int a0, .int a1] : List Value).toArray s out.2.2.1 out.2.2.2 (AA h nx)) (F0 m 44 ls [.int y1, .ref y0]) := by
    intro x0 x1 x2 y0 y1 hc nc ls H locs ce sl o1 hB hn hT hl hf
    rw [f_X1_let_44] at hf
    obtain ⟨g1, hf⟩ := gd_t hf
    obtain ⟨v2, hv2, hf⟩ := ob_s hf
    obtain ⟨o3, hf, hT⟩ := TL_c hT hf
    refine mc_X1_155 (fE := fE) (lE := lE) S hS hB g1 hv2 hl.1 ⟨(by show _ ≤ (fE + 3); omega), (by show _ ≤ (lE + 64); omega)⟩ (Nat.le_of_ble_eq_true rfl) ⟨(TL_m hT).1, (TL_m hT).2⟩ dX1_let_44 (fun H locs hnv2 hB => ?_)
    refine lv_if_ne (tgt := 52) hx hb dX1_let_47 (by decide) (fun c4 => ?_) (fun c4 => ?_)
    · replace hf := it_f c4 hf
      refine lv_aload_n hx hb dX1_let_52 rfl (lv_at hl 0 rfl) ?_
      obtain ⟨v5, hv5, hf⟩ := ob_s hf
      refine bg_X1_70 S hS hB (vR_s hv5) dX1_let_53 ?_
      obtain ⟨v6, hv6, hf⟩ := ob_s hf
      refine bg_X1_204 S hS hB (vR_s hv6) dX1_let_56 ?_
      refine lv_iload_n hx hb dX1_let_59 rfl (lv_at hl 1 rfl) ?_
      obtain ⟨g7, hf⟩ := gd_t hf
      obtain ⟨v8, hv8, hf⟩ := ob_s hf
      refine mc_X1_43 (fE := fE) (lE := lE) S hS hB g7 hv8 hl.1 ⟨(by show _ ≤ (fE + 3); omega), (by show _ ≤ (lE + 64); omega)⟩ (Nat.le_of_ble_eq_true rfl) ⟨(TL_m hT).1, (TL_m hT).2⟩ dX1_let_60 (fun _ => ?_)
      obtain ⟨g9, hf⟩ := gd_t hf
      refine b_castO S hS.1 hB (ci := 7) rfl (hts _ q1230) g9 dX1_let_63 ?_
      refine lv_astore_n (i := 3) (lv' := [(3, .ref v8), (0, .ref x0), (1, .int x1), (2, .int x2)]) hx hb dX1_let_66 rfl hl (by decide) rfl (fun ls hl => ?_)
      refine lv_iload_n hx hb dX1_let_67 rfl (lv_at hl 3 rfl) ?_
      by_cases c10 : x2 = 0
      · replace hf := it_t c10 hf
        refine lv_tableIn (tgt := 112) (off := 44) hx hb dX1_let_68 (by rw [c10]; decide) (by rw [c10]; decide) (by rw [c10]; decide) (by decide) ?_
        refine lv_aload_n hx hb dX1_let_112 rfl (lv_at hl 0 rfl) ?_
        obtain ⟨v11, hv11, hf⟩ := ob_s hf
        refine bg_X1_356 S hS hB (vI_s hv11) dX1_let_113 ?_
        have hE9 := TL_e hT hf
        subst hE9
        exact bt_i S hr hlocks hB (by omega) trivial dX1_let_116
      · replace hf := it_f c10 hf
        by_cases c12 : x2 = 1
        · replace hf := it_t c12 hf
          refine lv_tableIn (tgt := 117) (off := 49) hx hb dX1_let_68 (by rw [c12]; decide) (by rw [c12]; decide) (by rw [c12]; decide) (by decide) ?_
          refine lv_aload_n hx hb dX1_let_117 rfl (lv_at hl 0 rfl) ?_
          obtain ⟨v13, hv13, hf⟩ := ob_s hf
          refine bg_X1_358 S hS hB (vI_s hv13) dX1_let_118 ?_
          have hE9 := TL_e hT hf
          subst hE9
          exact bt_i S hr hlocks hB (by omega) trivial dX1_let_121
        · replace hf := it_f c12 hf
          by_cases c14 : x2 = (nI 2)
          · replace hf := it_t c14 hf
            refine lv_tableIn (tgt := 122) (off := 54) hx hb dX1_let_68 (by rw [c14]; decide) (by rw [c14]; decide) (by rw [c14]; decide) (by decide) ?_
            refine lv_aload_n hx hb dX1_let_122 rfl (lv_at hl 0 rfl) ?_
            obtain ⟨v15, hv15, hf⟩ := ob_s hf
            refine bg_X1_360 S hS hB (vI_s hv15) dX1_let_123 ?_
            have hE9 := TL_e hT hf
            subst hE9
            exact bt_i S hr hlocks hB (by omega) trivial dX1_let_126
          · replace hf := it_f c14 hf
            by_cases c16 : x2 = (nI 3)
            · replace hf := it_t c16 hf
              refine lv_tableIn (tgt := 127) (off := 59) hx hb dX1_let_68 (by rw [c16]; decide) (by rw [c16]; decide) (by rw [c16]; decide) (by decide) ?_
              refine lv_aload_n hx hb dX1_let_127 rfl (lv_at hl 0 rfl) ?_
              obtain ⟨v17, hv17, hf⟩ := ob_s hf
              refine bg_X1_361 S hS hB (vI_s hv17) dX1_let_128 ?_
              have hE9 := TL_e hT hf
              subst hE9
              exact bt_i S hr hlocks hB (by omega) trivial dX1_let_131
            · replace hf := it_f c16 hf
              by_cases c18 : x2 = (nI 4)
              · replace hf := it_t c18 hf
                refine lv_tableIn (tgt := 132) (off := 64) hx hb dX1_let_68 (by rw [c18]; decide) (by rw [c18]; decide) (by rw [c18]; decide) (by decide) ?_
                refine lv_aload_n hx hb dX1_let_132 rfl (lv_at hl 0 rfl) ?_
                obtain ⟨v19, hv19, hf⟩ := ob_s hf
                refine bg_X1_364 S hS hB (vI_s hv19) dX1_let_133 ?_
                obtain ⟨v20, hv20, hf⟩ := ob_s hf
                refine mc_X1_7 S hS.1 hv20 hl.1 ⟨(by show _ ≤ (fE + 3); omega), (by show _ ≤ (lE + 64); omega)⟩ (Nat.le_of_ble_eq_true rfl) ⟨(TL_m hT).1, (TL_m hT).2⟩ dX1_let_136 (fun _ => ?_)
                have hE9 := TL_e hT hf
                subst hE9
                exact bt_i S hr hlocks hB (by omega) trivial dX1_let_139
              · replace hf := it_f c18 hf
                by_cases c21 : x2 = (nI 5)
                · replace hf := it_t c21 hf
                  refine lv_tableIn (tgt := 140) (off := 72) hx hb dX1_let_68 (by rw [c21]; decide) (by rw [c21]; decide) (by rw [c21]; decide) (by decide) ?_
                  refine lv_aload_n hx hb dX1_let_140 rfl (lv_at hl 0 rfl) ?_
                  obtain ⟨v22, hv22, hf⟩ := ob_s hf
                  refine bg_X1_367 S hS hB (vI_s hv22) dX1_let_141 ?_
                  obtain ⟨v23, hv23, hf⟩ := ob_s hf
                  refine mc_X1_7 S hS.1 hv23 hl.1 ⟨(by show _ ≤ (fE + 3); omega), (by show _ ≤ (lE + 64); omega)⟩ (Nat.le_of_ble_eq_true rfl) ⟨(TL_m hT).1, (TL_m hT).2⟩ dX1_let_144 (fun _ => ?_)
                  have hE9 := TL_e hT hf
                  subst hE9
                  exact bt_i S hr hlocks hB (by omega) trivial dX1_let_147
                · replace hf := it_f c21 hf
                  by_cases c24 : x2 = (nI 6)
                  · replace hf := it_t c24 hf
                    refine lv_tableIn (tgt := 148) (off := 80) hx hb dX1_let_68 (by rw [c24]; decide) (by rw [c24]; decide) (by rw [c24]; decide) (by decide) ?_
                    refine lv_aload_n hx hb dX1_let_148 rfl (lv_at hl 0 rfl) ?_
                    obtain ⟨v25, hv25, hf⟩ := ob_s hf
                    refine bg_X1_369 S hS hB (vI_s hv25) dX1_let_149 ?_
                    have hE9 := TL_e hT hf
                    subst hE9
                    exact bt_i S hr hlocks hB (by omega) trivial dX1_let_152
                  · replace hf := it_f c24 hf
                    refine lv_tableOut (tgt := 153) hx hb dX1_let_68 (by have n0 := lv_neT (a := 0) c10 (by decide); have n1 := lv_neT (a := 1) c12 (by decide); have n2 := lv_neT (a := 2) c14 (by decide); have n3 := lv_neT (a := 3) c16 (by decide); have n4 := lv_neT (a := 4) c18 (by decide); have n5 := lv_neT (a := 5) c21 (by decide); have n6 := lv_neT (a := 6) c24 (by decide); omega) (by decide) ?_
                    refine lv_aload_n hx hb dX1_let_153 rfl (lv_at hl 0 rfl) ?_
                    obtain ⟨v26, hv26, hf⟩ := ob_s hf
                    refine bg_X1_372 S hS hB (vI_s hv26) dX1_let_154 ?_
                    have hE9 := TL_e hT hf
                    subst hE9
                    exact bt_i S hr hlocks hB (by omega) trivial dX1_let_157
    · replace hf := it_t c4 hf
      refine lv_iconst hx hb dX1_let_50 kc_im1 ?_
      have hE9 := TL_e hT hf
      subst hE9
      exact bt_i S hr hlocks hB (by omega) trivial dX1_let_51
  have hT : TL out out 0 0 := TL_0
  rw [f_X1_let] at hf
  refine lv_aload_n hx hb dX1_let_0 rfl (lv_at hl 0 rfl) ?_
  refine lv_iload_n hx hb dX1_let_1 rfl (lv_at hl 2 rfl) ?_
  refine lv_i2l hx hb dX1_let_2 rfl ?_
  refine lv_lconst (v := 0) hx hb dX1_let_3 (by decide) ?_
  refine lv_ldc2 hx hb hown (hts _ q1212) dX1_let_4 ?_
  obtain ⟨v1, hv1, hf⟩ := ob_s hf
  refine mc_X1_134 S hS.1 hv1 hl.1 ⟨(by show _ ≤ (fE + 3); omega), (by show _ ≤ (lE + 64); omega)⟩ (Nat.le_of_ble_eq_true rfl) ⟨(TL_m hT).1, (TL_m hT).2⟩ dX1_let_7 (fun hnv1 => ?_)
  refine lv_if_ne (tgt := 17) hx hb dX1_let_10 (by decide) (fun c2 => ?_) (fun c2 => ?_)
  · replace hf := it_f c2 hf
    refine lv_iload_n hx hb dX1_let_17 rfl (lv_at hl 1 rfl) ?_
    refine lv_i2l hx hb dX1_let_18 rfl ?_
    refine lv_lconst (v := 0) hx hb dX1_let_19 (by decide) ?_
    refine lv_aload_n hx hb dX1_let_20 rfl (lv_at hl 0 rfl) ?_
    obtain ⟨v3, hv3, hf⟩ := ob_s hf
    refine bg_X1_70 S hS hB (vR_s hv3) dX1_let_21 ?_
    obtain ⟨v4, hv4, hf⟩ := ob_s hf
    refine bg_X1_204 S hS hB (vR_s hv4) dX1_let_24 ?_
    obtain ⟨g5, hf⟩ := gd_t hf
    obtain ⟨v6, hv6, hf⟩ := ob_s hf
    refine mc_X1_130 (fE := fE) (lE := lE) S hS hB g5 hv6 hl.1 ⟨(by show _ ≤ (fE + 3); omega), (by show _ ≤ (lE + 64); omega)⟩ (Nat.le_of_ble_eq_true rfl) ⟨(TL_m hT).1, (TL_m hT).2⟩ dX1_let_27 (fun _ => ?_)
    refine lv_iconst hx hb dX1_let_30 kc_i1 ?_
    refine lv_isub hx hb dX1_let_31 ?_
    refine lv_i2l hx hb dX1_let_32 rfl ?_
    obtain ⟨v7, hv7, hf⟩ := ob_s hf
    refine mc_X1_134 S hS.1 hv7 hl.1 ⟨(by show _ ≤ (fE + 3); omega), (by show _ ≤ (lE + 64); omega)⟩ (Nat.le_of_ble_eq_true rfl) ⟨(TL_m hT).1, (TL_m hT).2⟩ dX1_let_33 (fun hnv7 => ?_)
    refine lv_if_eq (tgt := 43) hx hb dX1_let_36 (by decide) (fun c8 => ?_) (fun c8 => ?_)
    · replace hf := it_t c8 hf
      refine lv_iconst hx hb dX1_let_43 kc_i2 ?_
      exact (w44) o a0 a1 o (nI 2) h nx ls s.heap [] 0 0 out hB (by omega) hT hl hf
    · replace hf := it_f c8 hf
      refine lv_iconst hx hb dX1_let_39 kc_i0 ?_
      refine lv_goto (tgt := 44) hx hb dX1_let_40 (by decide) ?_
      exact (w44) o a0 a1 o 0 h nx ls s.heap [] 0 0 out hB (by omega) hT hl hf
  · replace hf := it_t c2 hf
    refine lv_iconst hx hb dX1_let_13 kc_i1 ?_
    refine lv_goto (tgt := 44) hx hb dX1_let_14 (by decide) ?_
    exact (w44) o a0 a1 o 1 h nx ls s.heap [] 0 0 out hB (by omega) hT hl hf
theorem hd_X1_offer : yX1_offer.cls = RX1 ∧ yX1_offer.cls ≠ "java/lang/invoke/MethodHandle" ∧ yX1_offer.cls ≠ "java/lang/invoke/VarHandle" ∧ (parseMethodDescriptor yX1_offer.desc).map (fun d => d.parameters.length) = some 2 := by decide +kernel
set_option maxHeartbeats 4000000 in
set_option maxRecDepth 100000 in
theorem mm_X1_offer {o : Nat} {a0 : Int32} {a1 : Int32} {out : Int32 × AH × Nat × Nat} (hf : f_X1_offer E h nx o a0 a1 = some out) : Met l yX1_offer (ws_ yX1_offer cX1_offer 3 (some .int)) (rC (fE + 3) (lE + 64) out.2.2.1 out.2.2.2) (bPc G E.1 hSites h nx [.ref o, .int a0, .int a1]) (bQ G (some (.int out.1)) True out.2.1 (nx + out.2.2.1) (AA h nx)) out.2.2.1 out.2.2.2 (AA h nx) := by
  refine bGo (by decide +kernel) (Nat.le_of_ble_eq_true rfl) (fun p e s m below meth c ls S hr hlocks hin hnm hS hB hl => ?_)
  have S : CallFix p m c cX1_offer 3 s _ lw_all RX1 := S
  obtain ⟨hx, hb, hml, hown, hts⟩ := id S
  have hl : lv_has ls 3 [(0, .ref o), (1, .int a0), (2, .int a1)] := hl
  have w44 : ∀ (x0 : Nat) (x1 : Int32) (x2 : Int32) (y0 : Nat) (y1 : Int32) (hc : AH) (nc : Nat) (ls : Array Slot) (H : Heap) (locs : List Loc) (ce sl : Nat) (o1 : Int32 × AH × Nat × Nat), BI G (AA h nx) s.heap hc nc H locs → nc = nx + ce → TL out o1 ce sl → lv_has ls 3 [(0, .ref x0), (1, .int x1), (2, .int x2)] → f_X1_offer_44 E x0 x1 x2 y0 y1 hc nc = some o1 → W p l e (rC (fE + 3) (lE + 64) out.2.2.1 out.2.2.2) s m ([.ref o, .int a0, .int a1] : List Value).toArray below meth c H locs ce sl (MQ below (bQ G (some (.int out.1)) True out.2.1 (nx + out.2.2.1) (AA h nx)) ([.ref o, .int a0, .int a1] : List Value).toArray s out.2.2.1 out.2.2.2 (AA h nx)) (F0 m 44 ls [.int y1, .ref y0]) := by
    intro x0 x1 x2 y0 y1 hc nc ls H locs ce sl o1 hB hn hT hl hf
    rw [f_X1_offer_44] at hf
    obtain ⟨g1, hf⟩ := gd_t hf
    obtain ⟨v2, hv2, hf⟩ := ob_s hf
    obtain ⟨o3, hf, hT⟩ := TL_c hT hf
    refine mc_X1_155 (fE := fE) (lE := lE) S hS hB g1 hv2 hl.1 ⟨(by show _ ≤ (fE + 3); omega), (by show _ ≤ (lE + 64); omega)⟩ (Nat.le_of_ble_eq_true rfl) ⟨(TL_m hT).1, (TL_m hT).2⟩ dX1_offer_44 (fun H locs hnv2 hB => ?_)
    refine lv_if_ne (tgt := 52) hx hb dX1_offer_47 (by decide) (fun c4 => ?_) (fun c4 => ?_)
    · replace hf := it_f c4 hf
      refine lv_aload_n hx hb dX1_offer_52 rfl (lv_at hl 0 rfl) ?_
      obtain ⟨v5, hv5, hf⟩ := ob_s hf
      refine bg_X1_70 S hS hB (vR_s hv5) dX1_offer_53 ?_
      obtain ⟨v6, hv6, hf⟩ := ob_s hf
      refine bg_X1_229 S hS hB (vR_s hv6) dX1_offer_56 ?_
      refine lv_iload_n hx hb dX1_offer_59 rfl (lv_at hl 1 rfl) ?_
      obtain ⟨g7, hf⟩ := gd_t hf
      obtain ⟨v8, hv8, hf⟩ := ob_s hf
      refine mc_X1_43 (fE := fE) (lE := lE) S hS hB g7 hv8 hl.1 ⟨(by show _ ≤ (fE + 3); omega), (by show _ ≤ (lE + 64); omega)⟩ (Nat.le_of_ble_eq_true rfl) ⟨(TL_m hT).1, (TL_m hT).2⟩ dX1_offer_60 (fun _ => ?_)
      obtain ⟨g9, hf⟩ := gd_t hf
      refine b_castA S hB 0 rfl (hS.1.2 0 _ rfl).2 (hts _ q1326) g9 dX1_offer_63 ?_
      refine lv_iload_n hx hb dX1_offer_66 rfl (lv_at hl 2 rfl) ?_
      obtain ⟨v10, hv10, hf⟩ := ob_s hf
      refine b_iald S hS.1 hB hv10 dX1_offer_67 ?_
      have hE9 := TL_e hT hf
      subst hE9
      exact bt_i S hr hlocks hB (by omega) trivial dX1_offer_68
    · replace hf := it_t c4 hf
      refine lv_iconst hx hb dX1_offer_50 kc_im1 ?_
      have hE9 := TL_e hT hf
      subst hE9
      exact bt_i S hr hlocks hB (by omega) trivial dX1_offer_51
  have hT : TL out out 0 0 := TL_0
  rw [f_X1_offer] at hf
  refine lv_aload_n hx hb dX1_offer_0 rfl (lv_at hl 0 rfl) ?_
  refine lv_iload_n hx hb dX1_offer_1 rfl (lv_at hl 2 rfl) ?_
  refine lv_i2l hx hb dX1_offer_2 rfl ?_
  refine lv_lconst (v := 0) hx hb dX1_offer_3 (by decide) ?_
  refine lv_ldc2 hx hb hown (hts _ q1325) dX1_offer_4 ?_
  obtain ⟨v1, hv1, hf⟩ := ob_s hf
  refine mc_X1_134 S hS.1 hv1 hl.1 ⟨(by show _ ≤ (fE + 3); omega), (by show _ ≤ (lE + 64); omega)⟩ (Nat.le_of_ble_eq_true rfl) ⟨(TL_m hT).1, (TL_m hT).2⟩ dX1_offer_7 (fun hnv1 => ?_)
  refine lv_if_ne (tgt := 17) hx hb dX1_offer_10 (by decide) (fun c2 => ?_) (fun c2 => ?_)
  · replace hf := it_f c2 hf
    refine lv_iload_n hx hb dX1_offer_17 rfl (lv_at hl 1 rfl) ?_
    refine lv_i2l hx hb dX1_offer_18 rfl ?_
    refine lv_lconst (v := 0) hx hb dX1_offer_19 (by decide) ?_
    refine lv_aload_n hx hb dX1_offer_20 rfl (lv_at hl 0 rfl) ?_
    obtain ⟨v3, hv3, hf⟩ := ob_s hf
    refine bg_X1_70 S hS hB (vR_s hv3) dX1_offer_21 ?_
    obtain ⟨v4, hv4, hf⟩ := ob_s hf
    refine bg_X1_229 S hS hB (vR_s hv4) dX1_offer_24 ?_
    obtain ⟨g5, hf⟩ := gd_t hf
    obtain ⟨v6, hv6, hf⟩ := ob_s hf
    refine mc_X1_130 (fE := fE) (lE := lE) S hS hB g5 hv6 hl.1 ⟨(by show _ ≤ (fE + 3); omega), (by show _ ≤ (lE + 64); omega)⟩ (Nat.le_of_ble_eq_true rfl) ⟨(TL_m hT).1, (TL_m hT).2⟩ dX1_offer_27 (fun _ => ?_)
    refine lv_iconst hx hb dX1_offer_30 kc_i1 ?_
    refine lv_isub hx hb dX1_offer_31 ?_
    refine lv_i2l hx hb dX1_offer_32 rfl ?_
    obtain ⟨v7, hv7, hf⟩ := ob_s hf
    refine mc_X1_134 S hS.1 hv7 hl.1 ⟨(by show _ ≤ (fE + 3); omega), (by show _ ≤ (lE + 64); omega)⟩ (Nat.le_of_ble_eq_true rfl) ⟨(TL_m hT).1, (TL_m hT).2⟩ dX1_offer_33 (fun hnv7 => ?_)
    refine lv_if_eq (tgt := 43) hx hb dX1_offer_36 (by decide) (fun c8 => ?_) (fun c8 => ?_)
    · replace hf := it_t c8 hf
      refine lv_iconst hx hb dX1_offer_43 kc_i2 ?_
      exact (w44) o a0 a1 o (nI 2) h nx ls s.heap [] 0 0 out hB (by omega) hT hl hf
    · replace hf := it_f c8 hf
      refine lv_iconst hx hb dX1_offer_39 kc_i0 ?_
      refine lv_goto (tgt := 44) hx hb dX1_offer_40 (by decide) ?_
      exact (w44) o a0 a1 o 0 h nx ls s.heap [] 0 0 out hB (by omega) hT hl hf
  · replace hf := it_t c2 hf
    refine lv_iconst hx hb dX1_offer_13 kc_i1 ?_
    refine lv_goto (tgt := 44) hx hb dX1_offer_14 (by decide) ?_
    exact (w44) o a0 a1 o 1 h nx ls s.heap [] 0 0 out hB (by omega) hT hl hf
theorem hd_X1_greatest : yX1_greatest.cls ≠ "java/lang/invoke/MethodHandle" ∧ yX1_greatest.cls ≠ "java/lang/invoke/VarHandle" ∧ (parseMethodDescriptor yX1_greatest.desc).map (fun d => d.parameters.length) = some 2 := by decide +kernel
set_option maxHeartbeats 4000000 in
set_option maxRecDepth 100000 in
theorem mm_X1_greatest {a0 : Int32} {a1 : Nat} {out : Int32 × AH × Nat × Nat} (hE : IfOK l G E fE lE) (hf : f_X1_greatest E h nx a0 a1 = some out) : Met l yX1_greatest (ws_ yX1_greatest cX1_greatest 4 (some .int)) (rC (fE + 1) (lE + 40) out.2.2.1 out.2.2.2) (bPc G E.1 hSites h nx [.int a0, .ref a1]) (bQ G (some (.int out.1)) True out.2.1 (nx + out.2.2.1) (AA h nx)) out.2.2.1 out.2.2.2 (AA h nx) := by
  refine bGo (by decide +kernel) (Nat.le_of_ble_eq_true rfl) (fun p e s m below meth c ls S hr hlocks hin hnm hS hB hl => ?_)
  have S : CallFix p m c cX1_greatest 4 s _ lw_all RX1 := S
  obtain ⟨hx, hb, hml, hown, hts⟩ := id S
  have hl : lv_has ls 4 [(0, .int a0), (1, .ref a1)] := hl
  have w4 : ∀ (n : Nat) , ∀ (x0 : Int32) (x1 : Nat) (x2 : Int32) (x3 : Int32) (hc : AH) (nc : Nat) (ls : Array Slot) (H : Heap) (locs : List Loc) (ce sl : Nat) (o1 : Int32 × AH × Nat × Nat), BI G (AA h nx) s.heap hc nc H locs → nc = nx + ce → TL out o1 ce sl → lv_has ls 4 [(0, .int x0), (1, .ref x1), (2, .int x2), (3, .int x3)] → f_X1_greatest_4 n E x0 x1 x2 x3 hc nc = some o1 → W p l e (rC (fE + 1) (lE + 40) out.2.2.1 out.2.2.2) s m ([.int a0, .ref a1] : List Value).toArray below meth c H locs ce sl (MQ below (bQ G (some (.int out.1)) True out.2.1 (nx + out.2.2.1) (AA h nx)) ([.int a0, .ref a1] : List Value).toArray s out.2.2.1 out.2.2.2 (AA h nx)) (F0 m 4 ls []) := by
    intro n
    induction n with
    | zero =>
      intro x0 x1 x2 x3 hc nc ls H locs ce sl o1 hB hn hT hl hf
      exact absurd hf (by rw [f_X1_greatest_4]; exact nofun)
    | succ n ih =>
      intro x0 x1 x2 x3 hc nc ls H locs ce sl o1 hB hn hT hl hf
      rw [f_X1_greatest_4] at hf
      refine lv_iload_n hx hb dX1_greatest_4 rfl (lv_at hl 3 rfl) ?_
      refine lv_iload_n hx hb dX1_greatest_5 rfl (lv_at hl 0 rfl) ?_
      refine lv_icmp_ge (tgt := 27) hx hb dX1_greatest_6 (by decide) (fun c1 => ?_) (fun c1 => ?_)
      · replace hf := it_t c1 hf
        refine lv_iload_n hx hb dX1_greatest_27 rfl (lv_at hl 2 rfl) ?_
        have hE9 := TL_e hT hf
        subst hE9
        exact bt_i S hr hlocks hB (by omega) trivial dX1_greatest_28
      · replace hf := it_f c1 hf
        refine lv_iload_n hx hb dX1_greatest_9 rfl (lv_at hl 2 rfl) ?_
        refine lv_aload_n hx hb dX1_greatest_10 rfl (lv_at hl 1 rfl) ?_
        refine lv_iload_n hx hb dX1_greatest_11 rfl (lv_at hl 3 rfl) ?_
        obtain ⟨v2, hv2, hf⟩ := ob_s hf
        obtain ⟨o3, hf, hT⟩ := TL_c hT hf
        refine hE.2.2 _ _ _ _ _ _ _ _ _ _ _ _ _ _ _ _ _ _ _ _ _ _ _ _ _ _ _ _ S hS hB (hts _ q365) hv2 hl.1 ⟨(by show _ ≤ (fE + 1); omega), (by show _ ≤ (lE + 40); omega)⟩ (Nat.le_of_ble_eq_true rfl) ⟨(TL_m hT).1, (TL_m hT).2⟩ dX1_greatest_12 (fun H locs _ hB => ?_)
        obtain ⟨v4, hv4, hf⟩ := ob_s hf
        refine mc_X1_19 S hS.1 hv4 hl.1 ⟨(by show _ ≤ (fE + 1); omega), (by show _ ≤ (lE + 40); omega)⟩ (Nat.le_of_ble_eq_true rfl) ⟨(TL_m hT).1, (TL_m hT).2⟩ dX1_greatest_17 (fun _ => ?_)
        refine lv_istore_n (i := 2) (lv' := [(2, .int v4), (0, .int x0), (1, .ref x1), (3, .int x3)]) hx hb dX1_greatest_20 rfl hl (by decide) rfl (fun ls hl => ?_)
        refine lv_iinc (v := (x3 + 1)) (lv' := [(3, .int (x3 + 1)), (2, .int v4), (0, .int x0), (1, .ref x1)]) hx hb dX1_greatest_21 hl (k := 3) rfl rfl (by decide) rfl (fun ls hl => ?_)
        refine lv_goto (tgt := 4) hx hb dX1_greatest_24 (by decide) ?_
        exact (ih) x0 x1 v4 (x3 + 1) v2.2.1 (nc + v2.2.2.1) ls H locs (ce + v2.2.2.1) (sl + v2.2.2.2) o3 hB (by omega) hT (lv_sub (l' := [(0, .int x0), (1, .ref x1), (2, .int v4), (3, .int (x3 + 1))]) hl [2, 3, 1, 0] rfl) hf
  have hT : TL out out 0 0 := TL_0
  rw [f_X1_greatest] at hf
  refine lv_iconst hx hb dX1_greatest_0 kc_i0 ?_
  refine lv_istore_n (i := 2) (lv' := [(2, .int 0), (0, .int a0), (1, .ref a1)]) hx hb dX1_greatest_1 rfl hl (by decide) rfl (fun ls hl => ?_)
  refine lv_iconst hx hb dX1_greatest_2 kc_i0 ?_
  refine lv_istore_n (i := 3) (lv' := [(3, .int 0), (2, .int 0), (0, .int a0), (1, .ref a1)]) hx hb dX1_greatest_3 rfl hl (by decide) rfl (fun ls hl => ?_)
  exact (w4 FU) a0 a1 0 0 h nx ls s.heap [] 0 0 out hB (by omega) hT (lv_sub (l' := [(0, .int a0), (1, .ref a1), (2, .int 0), (3, .int 0)]) hl [2, 3, 1, 0] rfl) hf
set_option maxRecDepth 100000 in
theorem mc_X1_208 {a0 : Int32} {a1 : Nat} {out : Int32 × AH × Nat × Nat} (S : CallFix p m c cc nL s args lw_all RX1) (hE : IfOK l G E fE lE) (hS : SK G E.1 hSites A s) (hB : BI G A s.heap h nx H locs) (hf : f_X1_greatest E h nx a0 a1 = some out) (hsz : ls.size = nL) (hR : (fE + 1) + 1 ≤ R.frames ∧ 8 + (4 + 11) + (lE + 40) ≤ R.locals) (hW : (rest.map fun v => v.category).sum ≤ 8) (hcs : cells + out.2.2.1 ≤ R.cells ∧ slots + out.2.2.2 ≤ R.slots) (hdg : decode cc pc = .ok (.invokestatic 208, 3))  (kk : ∀ (H1 : Heap) (locs1 : List Loc), True → BI G A s.heap out.2.1 (nx + out.2.2.1) H1 locs1 → W p l e R s m args below meth c H1 locs1 (cells + out.2.2.1) (slots + out.2.2.2) Q (F0 m (pc + 3) ls (.int out.1 :: rest))) : W p l e R s m args below meth c H locs cells slots Q (F0 m pc ls (.ref a1 :: .int a0 :: rest)) := by
  have hN := hS.2.1
  exact br_w (va_runS (As := [.int a0, .ref a1]) S (mm_X1_greatest hE hf) (va_cwS 2 S.2.2.2.2 (lw_S q1342 q1343 q174 q1344) rfl rfl rfl hd_X1_greatest hR) (bPreS hS hB) rfl rfl hsz rfl (lv_room hW) hdg hcs) hB kk
theorem hd_X1_greatestChain : yX1_greatestChain.cls = RX1 ∧ yX1_greatestChain.cls ≠ "java/lang/invoke/MethodHandle" ∧ yX1_greatestChain.cls ≠ "java/lang/invoke/VarHandle" ∧ (parseMethodDescriptor yX1_greatestChain.desc).map (fun d => d.parameters.length) = some 1 := by decide +kernel
set_option maxHeartbeats 4000000 in
set_option maxRecDepth 100000 in
theorem mm_X1_greatestChain {o : Nat} {a0 : Nat} {out : Int32 × AH × Nat × Nat} (hE : IfOK l G E fE lE) (hf : f_X1_greatestChain E h nx o a0 = some out) : Met l yX1_greatestChain (ws_ yX1_greatestChain cX1_greatestChain 2 (some .int)) (rC (fE + 2) (lE + 3100) out.2.2.1 out.2.2.2) (bPc G E.1 hSites h nx [.ref o, .ref a0]) (bQ G (some (.int out.1)) True out.2.1 (nx + out.2.2.1) (AA h nx)) out.2.2.1 out.2.2.2 (AA h nx) := by
  refine bGo (by decide +kernel) (Nat.le_of_ble_eq_true rfl) (fun p e s m below meth c ls S hr hlocks hin hnm hS hB hl => ?_)
  have S : CallFix p m c cX1_greatestChain 2 s _ lw_all RX1 := S
  obtain ⟨hx, hb, hml, hown, hts⟩ := id S
  have hl : lv_has ls 2 [(0, .ref o), (1, .ref a0)] := hl
  have hT : TL out out 0 0 := TL_0
  rw [f_X1_greatestChain] at hf
  refine lv_aload_n hx hb dX1_greatestChain_0 rfl (lv_at hl 1 rfl) ?_
  obtain ⟨v1, hv1, hf⟩ := ob_s hf
  refine bg_X1_204 S hS hB (vR_s hv1) dX1_greatestChain_1 ?_
  obtain ⟨g2, hf⟩ := gd_t hf
  obtain ⟨v3, hv3, hf⟩ := ob_s hf
  refine mc_X1_130 (fE := fE) (lE := lE) S hS hB g2 hv3 hl.1 ⟨(by show _ ≤ (fE + 2); omega), (by show _ ≤ (lE + 3100); omega)⟩ (Nat.le_of_ble_eq_true rfl) ⟨(TL_m hT).1, (TL_m hT).2⟩ dX1_greatestChain_4 (fun _ => ?_)
  refine lv_aload_n hx hb dX1_greatestChain_7 rfl (lv_at hl 1 rfl) ?_
  obtain ⟨o4, hf, hT⟩ := TL_c hT hf
  refine b_lam S hS hB (k := 22) (vs := [.ref a0]) hnm rfl lamL_22 (lamV_c rfl rfl lamV_n) rfl hl.1 (by show _ ≤ (lE + 3100); simp only [List.map, List.sum_cons, List.sum_nil, Value.category]; omega) (TL_m hT).1 (TL_m hT).2 dX1_greatestChain_8 (fun H hB => ?_)
  obtain ⟨v5, hv5, hf⟩ := ob_s hf
  obtain ⟨o6, hf, hT⟩ := TL_c hT hf
  refine mc_X1_208 (fE := fE) (lE := lE) S hE hS hB hv5 hl.1 ⟨(by show _ ≤ (fE + 2); omega), (by show _ ≤ (lE + 3100); omega)⟩ (Nat.le_of_ble_eq_true rfl) ⟨(TL_m hT).1, (TL_m hT).2⟩ dX1_greatestChain_13 (fun H locs _ hB => ?_)
  have hE9 := TL_e hT hf
  subst hE9
  exact bt_i S hr hlocks hB (by omega) trivial dX1_greatestChain_16
set_option maxRecDepth 100000 in
theorem mc_X1_379 {o : Nat} {a0 : Nat} {out : Int32 × AH × Nat × Nat} (S : CallFix p m c cc nL s args lw_all RX1) (hE : IfOK l G E fE lE) (hS : SK G E.1 hSites A s) (hB : BI G A s.heap h nx H locs) (ho : isO h o 0 = true) (hf : f_X1_greatestChain E h nx o a0 = some out) (hsz : ls.size = nL) (hR : (fE + 2) + 1 ≤ R.frames ∧ 8 + (2 + 11) + (lE + 3100) ≤ R.locals) (hW : (rest.map fun v => v.category).sum ≤ 8) (hcs : cells + out.2.2.1 ≤ R.cells ∧ slots + out.2.2.2 ≤ R.slots) (hdg : decode cc pc = .ok (.invokevirtual 379, 3))  (kk : ∀ (H1 : Heap) (locs1 : List Loc), True → BI G A s.heap out.2.1 (nx + out.2.2.1) H1 locs1 → W p l e R s m args below meth c H1 locs1 (cells + out.2.2.1) (slots + out.2.2.2) Q (F0 m (pc + 3) ls (.int out.1 :: rest))) : W p l e R s m args below meth c H locs cells slots Q (F0 m pc ls (.ref a0 :: .ref o :: rest)) := by
  have hN := hS.2.1
  obtain ⟨fs, he⟩ := isO_s ho
  exact br_w (va_runV (As := [.ref a0]) S (mm_X1_greatestChain hE hf) (cwV 1 S.2.2.2.2 (lw_V q1332 q1334 qs47 q174 q1335) rfl rfl rfl hd_X1_greatestChain hR) (bPreV hS hB (ci := 0) rfl he) rfl rfl hsz rfl (lv_room hW) hdg hcs) hB kk
theorem hd_X1_passedBy : yX1_passedBy.cls = RX1 ∧ yX1_passedBy.cls ≠ "java/lang/invoke/MethodHandle" ∧ yX1_passedBy.cls ≠ "java/lang/invoke/VarHandle" ∧ (parseMethodDescriptor yX1_passedBy.desc).map (fun d => d.parameters.length) = some 1 := by decide +kernel
set_option maxHeartbeats 4000000 in
set_option maxRecDepth 100000 in
theorem mm_X1_passedBy {o : Nat} {a0 : Nat} {out : Int32 × AH × Nat × Nat} (hE : IfOK l G E fE lE) (hf : f_X1_passedBy E h nx o a0 = some out) : Met l yX1_passedBy (ws_ yX1_passedBy cX1_passedBy 2 (some .int)) (rC (fE + 2) (lE + 3100) out.2.2.1 out.2.2.2) (bPc G E.1 hSites h nx [.ref o, .ref a0]) (bQ G (some (.int out.1)) True out.2.1 (nx + out.2.2.1) (AA h nx)) out.2.2.1 out.2.2.2 (AA h nx) := by
  refine bGo (by decide +kernel) (Nat.le_of_ble_eq_true rfl) (fun p e s m below meth c ls S hr hlocks hin hnm hS hB hl => ?_)
  have S : CallFix p m c cX1_passedBy 2 s _ lw_all RX1 := S
  obtain ⟨hx, hb, hml, hown, hts⟩ := id S
  have hl : lv_has ls 2 [(0, .ref o), (1, .ref a0)] := hl
  have hT : TL out out 0 0 := TL_0
  rw [f_X1_passedBy] at hf
  refine lv_aload_n hx hb dX1_passedBy_0 rfl (lv_at hl 0 rfl) ?_
  obtain ⟨v1, hv1, hf⟩ := ob_s hf
  refine bg_X1_51 S hS hB (vR_s hv1) dX1_passedBy_1 ?_
  obtain ⟨g2, hf⟩ := gd_t hf
  obtain ⟨v3, hv3, hf⟩ := ob_s hf
  refine mc_X1_130 (fE := fE) (lE := lE) S hS hB g2 hv3 hl.1 ⟨(by show _ ≤ (fE + 2); omega), (by show _ ≤ (lE + 3100); omega)⟩ (Nat.le_of_ble_eq_true rfl) ⟨(TL_m hT).1, (TL_m hT).2⟩ dX1_passedBy_4 (fun _ => ?_)
  refine lv_aload_n hx hb dX1_passedBy_7 rfl (lv_at hl 1 rfl) ?_
  obtain ⟨o4, hf, hT⟩ := TL_c hT hf
  refine b_lam S hS hB (k := 25) (vs := [.ref a0]) hnm rfl lamL_25 (lamV_c rfl rfl lamV_n) rfl hl.1 (by show _ ≤ (lE + 3100); simp only [List.map, List.sum_cons, List.sum_nil, Value.category]; omega) (TL_m hT).1 (TL_m hT).2 dX1_passedBy_8 (fun H hB => ?_)
  obtain ⟨v5, hv5, hf⟩ := ob_s hf
  obtain ⟨o6, hf, hT⟩ := TL_c hT hf
  refine mc_X1_200 (fE := fE) (lE := lE) S hE hS hB hv5 hl.1 ⟨(by show _ ≤ (fE + 2); omega), (by show _ ≤ (lE + 3100); omega)⟩ (Nat.le_of_ble_eq_true rfl) ⟨(TL_m hT).1, (TL_m hT).2⟩ dX1_passedBy_13 (fun H locs _ hB => ?_)
  have hE9 := TL_e hT hf
  subst hE9
  exact bt_i S hr hlocks hB (by omega) trivial dX1_passedBy_16
set_option maxRecDepth 100000 in
theorem mc_X1_389 {o : Nat} {a0 : Nat} {out : Int32 × AH × Nat × Nat} (S : CallFix p m c cc nL s args lw_all RX1) (hE : IfOK l G E fE lE) (hS : SK G E.1 hSites A s) (hB : BI G A s.heap h nx H locs) (ho : isO h o 0 = true) (hf : f_X1_passedBy E h nx o a0 = some out) (hsz : ls.size = nL) (hR : (fE + 2) + 1 ≤ R.frames ∧ 8 + (2 + 11) + (lE + 3100) ≤ R.locals) (hW : (rest.map fun v => v.category).sum ≤ 8) (hcs : cells + out.2.2.1 ≤ R.cells ∧ slots + out.2.2.2 ≤ R.slots) (hdg : decode cc pc = .ok (.invokevirtual 389, 3))  (kk : ∀ (H1 : Heap) (locs1 : List Loc), True → BI G A s.heap out.2.1 (nx + out.2.2.1) H1 locs1 → W p l e R s m args below meth c H1 locs1 (cells + out.2.2.1) (slots + out.2.2.2) Q (F0 m (pc + 3) ls (.int out.1 :: rest))) : W p l e R s m args below meth c H locs cells slots Q (F0 m pc ls (.ref a0 :: .ref o :: rest)) := by
  have hN := hS.2.1
  obtain ⟨fs, he⟩ := isO_s ho
  exact br_w (va_runV (As := [.ref a0]) S (mm_X1_passedBy hE hf) (cwV 1 S.2.2.2.2 (lw_V q1351 q1353 qs48 q174 q1354) rfl rfl rfl hd_X1_passedBy hR) (bPreV hS hB (ci := 0) rfl he) rfl rfl hsz rfl (lv_room hW) hdg hcs) hB kk
end
