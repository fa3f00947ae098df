section
variable {l : Launch} {D : va_G} {cl : List vw_C} {tys : List (ClassId × FieldType)} {G : hG} {E : bE} {fE lE : Nat} {h : AH} {nx : Nat} {A : Nat → Prop}
variable {p : Program} {e : Env} {R : Room} {s : State} {m : MethodId} {args : Array Value} {below : List Frame} {meth : Method} {c : Code} {H H0 : Heap} {locs : List Loc} {cells slots : Nat} {Q : State → Prop} {cc : ByteArray} {nL pc : Nat} {ls : Array Slot} {rest : List Value}
theorem hd_X1_can : yX1_can.cls = RX1 ∧ yX1_can.cls ≠ "java/lang/invoke/MethodHandle" ∧ yX1_can.cls ≠ "java/lang/invoke/VarHandle" ∧ (parseMethodDescriptor yX1_can.desc).map (fun d => d.parameters.length) = some 1 := by decide +kernel
set_option maxHeartbeats 4000000 in
set_option maxRecDepth 100000 in
theorem mm_X1_can {o : Nat} {a0 : Int32} {out : Int32 × AH × Nat × Nat} (hf : f_X1_can E h nx o a0 = some out) : Met l yX1_can (ws_ yX1_can cX1_can 2 (some .boolean)) (rC (fE + 0) (lE + 0) out.2.2.1 out.2.2.2) (bPc G E.1 hSites h nx [.ref o, .int a0]) (bQ G (some (.int out.1)) (narrow .boolean (.int out.1) = .int out.1) out.2.1 (nx + out.2.2.1) (AA h nx)) out.2.2.1 out.2.2.2 (AA h nx) := by
  refine bGo (by decide +kernel) (Nat.le_of_ble_eq_true rfl) (fun p e s m below meth c ls S hr hlocks hin hnm hS hB hl => ?_)
  have S : CallFix p m c cX1_can 2 s _ lw_all RX1 := S
  obtain ⟨hx, hb, hml, hown, hts⟩ := id S
  have hl : lv_has ls 2 [(0, .ref o), (1, .int a0)] := hl
  have hT : TL out out 0 0 := TL_0
  rw [f_X1_can] at hf
  refine lv_aload_n hx hb dX1_can_0 rfl (lv_at hl 0 rfl) ?_
  refine lv_iload_n hx hb dX1_can_1 rfl (lv_at hl 1 rfl) ?_
  obtain ⟨h1, hh1, hf⟩ := ob_s hf
  refine bp_X1_127 S hS hB hh1 dX1_can_2 (fun H locs hB => ?_)
  refine lv_iload_n hx hb dX1_can_5 rfl (lv_at hl 1 rfl) ?_
  refine lv_if_ne (tgt := 13) hx hb dX1_can_6 (by decide) (fun c2 => ?_) (fun c2 => ?_)
  · replace hf := it_f c2 hf
    refine lv_iconst hx hb dX1_can_13 kc_i0 ?_
    have hE9 := TL_e hT hf
    subst hE9
    exact bt_z S hr hlocks hB (by omega) nb0 dX1_can_14
  · replace hf := it_t c2 hf
    refine lv_iconst hx hb dX1_can_9 kc_i1 ?_
    refine lv_goto (tgt := 14) hx hb dX1_can_10 (by decide) ?_
    have hE9 := TL_e hT hf
    subst hE9
    exact bt_z S hr hlocks hB (by omega) nb1 dX1_can_14
set_option maxRecDepth 100000 in
theorem mc_X1_155 {o : Nat} {a0 : Int32} {out : Int32 × AH × Nat × Nat} (S : CallFix p m c cc nL s args lw_all RX1) (hS : SK G E.1 hSites A s) (hB : BI G A s.heap h nx H locs) (ho : isO h o 0 = true) (hf : f_X1_can E h nx o a0 = some out) (hsz : ls.size = nL) (hR : (fE + 0) + 1 ≤ R.frames ∧ 8 + (2 + 11) + (lE + 0) ≤ R.locals) (hW : (rest.map fun v => v.category).sum ≤ 8) (hcs : cells + out.2.2.1 ≤ R.cells ∧ slots + out.2.2.2 ≤ R.slots) (hdg : decode cc pc = .ok (.invokevirtual 155, 3))  (kk : ∀ (H1 : Heap) (locs1 : List Loc), (narrow .boolean (.int out.1) = .int out.1) → BI G A s.heap out.2.1 (nx + out.2.2.1) H1 locs1 → W p l e R s m args below meth c H1 locs1 (cells + out.2.2.1) (slots + out.2.2.2) Q (F0 m (pc + 3) ls (.int out.1 :: rest))) : W p l e R s m args below meth c H locs cells slots Q (F0 m pc ls (.int a0 :: .ref o :: rest)) := by
  have hN := hS.2.1
  obtain ⟨fs, he⟩ := isO_s ho
  exact br_w (va_runV (As := [.int a0]) S (mm_X1_can (l := l) (G := G) (fE := fE) (lE := lE) hf) (cwV 1 S.2.2.2.2 (lw_V q653 q655 qs15 q174 q656) rfl rfl rfl hd_X1_can hR) (bPreV hS hB (ci := 0) rfl he) rfl rfl hsz rfl (lv_room hW) hdg hcs) hB kk
theorem hd_X4_isAt : yX4_isAt.cls = RX4 ∧ yX4_isAt.cls ≠ "java/lang/invoke/MethodHandle" ∧ yX4_isAt.cls ≠ "java/lang/invoke/VarHandle" ∧ (parseMethodDescriptor yX4_isAt.desc).map (fun d => d.parameters.length) = some 3 := by decide +kernel
set_option maxHeartbeats 4000000 in
set_option maxRecDepth 100000 in
theorem mm_X4_isAt {o : Nat} {a0 : Int32} {a1 : Int32} {a2 : Int32} {out : Int32} (hf : f_X4_isAt E h o a0 a1 a2 = some out) : Met l yX4_isAt (ws_ yX4_isAt cX4_isAt 4 (some .boolean)) (rM (fE + 1) (lE + 25)) (bPc G E.1 hSites h nx [.ref o, .int a0, .int a1, .int a2]) (gR (some (.int out)) (narrow .boolean (.int out) = .int out)) 0 0 (fun _ => False) := by
  refine bGo (by decide +kernel) (Nat.le_of_ble_eq_true rfl) (fun p e s m below meth c ls S hr hlocks hin hnm hS hB hl => ?_)
  have S : CallFix p m c cX4_isAt 4 s _ lw_all RX4 := S
  obtain ⟨hx, hb, hml, hown, hts⟩ := id S
  have hl : lv_has ls 4 [(0, .ref o), (1, .int a0), (2, .int a1), (3, .int a2)] := hl
  rw [f_X4_isAt] at hf
  refine lv_iload_n hx hb dX4_isAt_0 rfl (lv_at hl 1 rfl) ?_
  refine lv_aload_n hx hb dX4_isAt_1 rfl (lv_at hl 0 rfl) ?_
  obtain ⟨v1, hv1, hf⟩ := ob_s hf
  refine bg_X4_42 S hS hB (vI_s hv1) dX4_isAt_2 ?_
  refine lv_icmp_ge (tgt := 32) hx hb dX4_isAt_5 (by decide) (fun c2 => ?_) (fun c2 => ?_)
  · replace hf := it_t c2 hf
    refine lv_iconst hx hb dX4_isAt_32 kc_i0 ?_
    have hE9 := Option.some.inj hf
    subst hE9
    exact gt_rz S hr hlocks nb0 dX4_isAt_33
  · replace hf := it_f c2 hf
    refine lv_aload_n hx hb dX4_isAt_8 rfl (lv_at hl 0 rfl) ?_
    obtain ⟨v3, hv3, hf⟩ := ob_s hf
    refine bg_X4_3 S hS hB (vR_s hv3) dX4_isAt_9 ?_
    obtain ⟨v4, hv4, hf⟩ := ob_s hf
    refine bg_X4_49 S hS hB (vR_s hv4) dX4_isAt_12 ?_
    refine lv_iload_n hx hb dX4_isAt_15 rfl (lv_at hl 1 rfl) ?_
    obtain ⟨v5, hv5, hf⟩ := ob_s hf
    refine b_bald S hS.1 hB hv5 dX4_isAt_16 ?_
    refine lv_i2l hx hb dX4_isAt_17 rfl ?_
    refine lv_iload_n hx hb dX4_isAt_18 rfl (lv_at hl 2 rfl) ?_
    refine lv_i2l hx hb dX4_isAt_19 rfl ?_
    refine lv_iload_n hx hb dX4_isAt_20 rfl (lv_at hl 3 rfl) ?_
    refine lv_i2l hx hb dX4_isAt_21 rfl ?_
    obtain ⟨v6, hv6, hf⟩ := ob_s hf
    refine mc_X4_53 S hS.1 hS.2.1 hv6 hl.1 ⟨(by show _ ≤ (fE + 1); omega), (by show _ ≤ (lE + 25); omega)⟩ (Nat.le_of_ble_eq_true rfl) ⟨Nat.zero_le _, Nat.zero_le _⟩ dX4_isAt_22 (fun hnv6 => ?_)
    refine lv_if_eq (tgt := 32) hx hb dX4_isAt_25 (by decide) (fun c7 => ?_) (fun c7 => ?_)
    · replace hf := it_t c7 hf
      refine lv_iconst hx hb dX4_isAt_32 kc_i0 ?_
      have hE9 := Option.some.inj hf
      subst hE9
      exact gt_rz S hr hlocks nb0 dX4_isAt_33
    · replace hf := it_f c7 hf
      refine lv_iconst hx hb dX4_isAt_28 kc_i1 ?_
      refine lv_goto (tgt := 33) hx hb dX4_isAt_29 (by decide) ?_
      have hE9 := Option.some.inj hf
      subst hE9
      exact gt_rz S hr hlocks nb1 dX4_isAt_33
set_option maxRecDepth 100000 in
theorem mc_X4_63 {o : Nat} {a0 : Int32} {a1 : Int32} {a2 : Int32} {out : Int32} (S : CallFix p m c cc nL s args lw_all RX4) (hS : SK G E.1 hSites A s) (hB : BI G A s.heap h nx H locs) (ho : isO h o 3 = true) (hf : f_X4_isAt E h o a0 a1 a2 = some out) (hsz : ls.size = nL) (hR : (fE + 1) + 1 ≤ R.frames ∧ 8 + (4 + 11) + (lE + 25) ≤ R.locals) (hW : (rest.map fun v => v.category).sum ≤ 8) (hcs : cells ≤ R.cells ∧ slots ≤ R.slots) (hdg : decode cc pc = .ok (.invokevirtual 63, 3))  (kk : (narrow .boolean (.int out) = .int out) → W p l e R s m args below meth c H locs cells slots Q (F0 m (pc + 3) ls (.int out :: rest))) : W p l e R s m args below meth c H locs cells slots Q (F0 m pc ls (.int a2 :: .int a1 :: .int a0 :: .ref o :: rest)) := by
  have hN := hS.2.1
  obtain ⟨fs, he⟩ := isO_s ho
  exact br_r (va_runV (As := [.int a0, .int a1, .int a2]) S (mm_X4_isAt (l := l) (G := G) (nx := nx) (fE := fE) (lE := lE) hf) (cwV 3 S.2.2.2.2 (lw_V q672 q674 qs17 q190 q675) rfl rfl rfl hd_X4_isAt hR) (bPreV hS hB (ci := 3) rfl he) rfl rfl hsz rfl (lv_room hW) hdg hcs) kk
theorem hd_J7_getValue : yJ7_getValue.cls = RJ7 ∧ yJ7_getValue.cls ≠ "java/lang/invoke/MethodHandle" ∧ yJ7_getValue.cls ≠ "java/lang/invoke/VarHandle" ∧ (parseMethodDescriptor yJ7_getValue.desc).map (fun d => d.parameters.length) = some 0 := by decide +kernel
set_option maxHeartbeats 4000000 in
set_option maxRecDepth 100000 in
theorem mm_J7_getValue {o : Nat} {out : Nat} (hf : f_J7_getValue E h o = some out) : Met l yJ7_getValue (ws_ yJ7_getValue cJ7_getValue 1 (some (.array .byte))) (rM (fE + 0) (lE + 0)) (bPc G E.1 hSites h nx [.ref o]) (gR (some (.ref out)) True) 0 0 (fun _ => False) := by
  refine bGo (by decide +kernel) (Nat.le_of_ble_eq_true rfl) (fun p e s m below meth c ls S hr hlocks hin hnm hS hB hl => ?_)
  have S : CallFix p m c cJ7_getValue 1 s _ lw_all RJ7 := S
  obtain ⟨hx, hb, hml, hown, hts⟩ := id S
  have hl : lv_has ls 1 [(0, .ref o)] := hl
  rw [f_J7_getValue] at hf
  refine lv_aload_n hx hb dJ7_getValue_0 rfl (lv_at hl 0 rfl) ?_
  obtain ⟨v1, hv1, hf⟩ := ob_s hf
  refine bg_J7_15 S hS hB (vR_s hv1) dJ7_getValue_1 ?_
  have hE9 := Option.some.inj hf
  subst hE9
  exact gt_ra S hr (Or.inr ⟨_, rfl⟩) hlocks trivial dJ7_getValue_4
set_option maxRecDepth 100000 in
theorem mc_J9_552 {o : Nat} {out : Nat} (S : CallFix p m c cc nL s args lw_all RJ9) (hS : SK G E.1 hSites A s) (hB : BI G A s.heap h nx H locs) (ho : isO h o 12 = true) (hf : f_J7_getValue E h o = some out) (hsz : ls.size = nL) (hR : (fE + 0) + 1 ≤ R.frames ∧ 8 + (1 + 11) + (lE + 0) ≤ R.locals) (hW : (rest.map fun v => v.category).sum ≤ 8) (hcs : cells ≤ R.cells ∧ slots ≤ R.slots) (hdg : decode cc pc = .ok (.invokevirtual 552, 3))  (kk : True → W p l e R s m args below meth c H locs cells slots Q (F0 m (pc + 3) ls (.ref out :: rest))) : W p l e R s m args below meth c H locs cells slots Q (F0 m pc ls (.ref o :: rest)) := by
  have hN := hS.2.1
  obtain ⟨fs, he⟩ := isO_s ho
  exact br_r (va_runU (As := []) S (mm_J7_getValue (l := l) (G := G) (nx := nx) (fE := fE) (lE := lE) hf) (va_cwU (owner := "java/lang/AbstractStringBuilder") (x := yJ7_getValue) 0 S.2.2.2.2 (lw_app (c := ws_ yJ7_getValue cJ7_getValue 1 (some (.array .byte))) (fun w hw => by simp only [List.mem_cons, List.not_mem_nil, or_false] at hw; rcases hw with e | e | e | e | e <;> (rw [e]; first | exact q781 | exact q783 | exact q784 | exact q782 | exact q185)) (lw_meth q785)) rfl rfl rfl rfl (by decide +kernel) hR) (bPreV hS hB (ci := 12) rfl he) rfl rfl hsz rfl (lv_room hW) hdg hcs) kk
theorem hd_J7_length : yJ7_length.cls = RJ7 ∧ yJ7_length.cls ≠ "java/lang/invoke/MethodHandle" ∧ yJ7_length.cls ≠ "java/lang/invoke/VarHandle" ∧ (parseMethodDescriptor yJ7_length.desc).map (fun d => d.parameters.length) = some 0 := by decide +kernel
set_option maxHeartbeats 4000000 in
set_option maxRecDepth 100000 in
theorem mm_J7_length {o : Nat} {out : Int32} (hf : f_J7_length E h o = some out) : Met l yJ7_length (ws_ yJ7_length cJ7_length 1 (some .int)) (rM (fE + 0) (lE + 0)) (bPc G E.1 hSites h nx [.ref o]) (gR (some (.int out)) True) 0 0 (fun _ => False) := by
  refine bGo (by decide +kernel) (Nat.le_of_ble_eq_true rfl) (fun p e s m below meth c ls S hr hlocks hin hnm hS hB hl => ?_)
  have S : CallFix p m c cJ7_length 1 s _ lw_all RJ7 := S
  obtain ⟨hx, hb, hml, hown, hts⟩ := id S
  have hl : lv_has ls 1 [(0, .ref o)] := hl
  rw [f_J7_length] at hf
  refine lv_aload_n hx hb dJ7_length_0 rfl (lv_at hl 0 rfl) ?_
  obtain ⟨v1, hv1, hf⟩ := ob_s hf
  refine bg_J7_79 S hS hB (vI_s hv1) dJ7_length_1 ?_
  have hE9 := Option.some.inj hf
  subst hE9
  exact gt_ri S hr hlocks trivial dJ7_length_4
set_option maxRecDepth 100000 in
theorem mc_J8_343 {o : Nat} {out : Int32} (S : CallFix p m c cc nL s args lw_all RJ8) (hS : SK G E.1 hSites A s) (hB : BI G A s.heap h nx H locs) (ho : isO h o 12 = true) (hf : f_J7_length E h o = some out) (hsz : ls.size = nL) (hR : (fE + 0) + 1 ≤ R.frames ∧ 8 + (1 + 11) + (lE + 0) ≤ R.locals) (hW : (rest.map fun v => v.category).sum ≤ 8) (hcs : cells ≤ R.cells ∧ slots ≤ R.slots) (hdg : decode cc pc = .ok (.invokespecial 343, 3))  (kk : True → W p l e R s m args below meth c H locs cells slots Q (F0 m (pc + 3) ls (.int out :: rest))) : W p l e R s m args below meth c H locs cells slots Q (F0 m pc ls (.ref o :: rest)) := by
  have hN := hS.2.1
  obtain ⟨fs, he⟩ := isO_s ho
  exact br_r (va_runSU (hS.1.1 12 _ rfl).2 (As := []) S (mm_J7_length (l := l) (G := G) (nx := nx) (fE := fE) (lE := lE) hf) (va_cwSU 0 S.2.2.2.2 (lw_app (c := ws_ yJ7_length cJ7_length 1 (some .int)) (fun w hw => by simp only [List.mem_cons, List.not_mem_nil, or_false] at hw; rcases hw with e | e | e | e | e <;> (rw [e]; first | exact q792 | exact q788 | exact q580 | exact q787 | exact q185)) (lw_meth q793)) rfl rfl rfl (by decide +kernel) hR) (bPreV hS hB (ci := 12) rfl he) rfl rfl hsz rfl (lv_room hW) hdg hcs) kk
theorem hd_J8_length : yJ8_length.cls = RJ8 ∧ yJ8_length.cls ≠ "java/lang/invoke/MethodHandle" ∧ yJ8_length.cls ≠ "java/lang/invoke/VarHandle" ∧ (parseMethodDescriptor yJ8_length.desc).map (fun d => d.parameters.length) = some 0 := by decide +kernel
set_option maxHeartbeats 4000000 in
set_option maxRecDepth 100000 in
theorem mm_J8_length {o : Nat} {out : Int32} (hf : f_J8_length E h o = some out) : Met l yJ8_length (ws_ yJ8_length cJ8_length 1 (some .int)) (rM (fE + 1) (lE + 20)) (bPc G E.1 hSites h nx [.ref o]) (gR (some (.int out)) True) 0 0 (fun _ => False) := by
  refine bGo (by decide +kernel) (Nat.le_of_ble_eq_true rfl) (fun p e s m below meth c ls S hr hlocks hin hnm hS hB hl => ?_)
  have S : CallFix p m c cJ8_length 1 s _ lw_all RJ8 := S
  obtain ⟨hx, hb, hml, hown, hts⟩ := id S
  have hl : lv_has ls 1 [(0, .ref o)] := hl
  rw [f_J8_length] at hf
  refine lv_aload_n hx hb dJ8_length_0 rfl (lv_at hl 0 rfl) ?_
  obtain ⟨g1, hf⟩ := gd_t hf
  obtain ⟨v2, hv2, hf⟩ := ob_s hf
  refine mc_J8_343 (fE := fE) (lE := lE) S hS hB g1 hv2 hl.1 ⟨(by show _ ≤ (fE + 1); omega), (by show _ ≤ (lE + 20); omega)⟩ (Nat.le_of_ble_eq_true rfl) ⟨Nat.zero_le _, Nat.zero_le _⟩ dJ8_length_1 (fun _ => ?_)
  have hE9 := Option.some.inj hf
  subst hE9
  exact gt_ri S hr hlocks trivial dJ8_length_4
set_option maxRecDepth 100000 in
theorem mc_J9_549 {o : Nat} {out : Int32} (S : CallFix p m c cc nL s args lw_all RJ9) (hS : SK G E.1 hSites A s) (hB : BI G A s.heap h nx H locs) (ho : isO h o 12 = true) (hf : f_J8_length E h o = some out) (hsz : ls.size = nL) (hR : (fE + 1) + 1 ≤ R.frames ∧ 8 + (1 + 11) + (lE + 20) ≤ R.locals) (hW : (rest.map fun v => v.category).sum ≤ 8) (hcs : cells ≤ R.cells ∧ slots ≤ R.slots) (hdg : decode cc pc = .ok (.invokevirtual 549, 3))  (kk : True → W p l e R s m args below meth c H locs cells slots Q (F0 m (pc + 3) ls (.int out :: rest))) : W p l e R s m args below meth c H locs cells slots Q (F0 m pc ls (.ref o :: rest)) := by
  have hN := hS.2.1
  obtain ⟨fs, he⟩ := isO_s ho
  exact br_r (va_runU (As := []) S (mm_J8_length (l := l) (G := G) (nx := nx) (fE := fE) (lE := lE) hf) (va_cwO (owner := "java/lang/AbstractStringBuilder") (x := yJ7_length) 0 S.2.2.2.2 (lw_app (c := ws_ yJ8_length cJ8_length 1 (some .int)) (fun w hw => by simp only [List.mem_cons, List.not_mem_nil, or_false] at hw; rcases hw with e | e | e | e | e | e <;> (rw [e]; first | exact q786 | exact q788 | exact q787 | exact q789 | exact q790 | exact q186)) (lw_meth q791)) rfl rfl rfl q793 (by decide +kernel) hR) (bPreV hS hB (ci := 12) rfl he) rfl rfl hsz rfl (lv_room hW) hdg hcs) kk
set_option maxRecDepth 100000 in
theorem mc_X1_611 {o : Nat} {out : Int32} (S : CallFix p m c cc nL s args lw_all RX1) (hS : SK G E.1 hSites A s) (hB : BI G A s.heap h nx H locs) (ho : isO h o 12 = true) (hf : f_J8_length E h o = some out) (hsz : ls.size = nL) (hR : (fE + 1) + 1 ≤ R.frames ∧ 8 + (1 + 11) + (lE + 20) ≤ R.locals) (hW : (rest.map fun v => v.category).sum ≤ 8) (hcs : cells ≤ R.cells ∧ slots ≤ R.slots) (hdg : decode cc pc = .ok (.invokevirtual 611, 3))  (kk : True → W p l e R s m args below meth c H locs cells slots Q (F0 m (pc + 3) ls (.int out :: rest))) : W p l e R s m args below meth c H locs cells slots Q (F0 m pc ls (.ref o :: rest)) := by
  have hN := hS.2.1
  obtain ⟨fs, he⟩ := isO_s ho
  exact br_r (va_runV (As := []) S (mm_J8_length (l := l) (G := G) (nx := nx) (fE := fE) (lE := lE) hf) (cwV 0 S.2.2.2.2 (lw_V q1966 q790 q2658 q186 q791) rfl rfl rfl hd_J8_length hR) (bPreV hS hB (ci := 12) rfl he) rfl rfl hsz rfl (lv_room hW) hdg hcs) kk
theorem hd_J7_isLatin1 : yJ7_isLatin1.cls = RJ7 ∧ yJ7_isLatin1.cls ≠ "java/lang/invoke/MethodHandle" ∧ yJ7_isLatin1.cls ≠ "java/lang/invoke/VarHandle" ∧ (parseMethodDescriptor yJ7_isLatin1.desc).map (fun d => d.parameters.length) = some 0 := by decide +kernel
set_option maxHeartbeats 4000000 in
set_option maxRecDepth 100000 in
theorem mm_J7_isLatin1 {o : Nat} {out : Int32} (hf : f_J7_isLatin1 E h o = some out) : Met l yJ7_isLatin1 (ws_ yJ7_isLatin1 cJ7_isLatin1 1 (some .boolean)) (rM (fE + 0) (lE + 0)) (bPc G E.1 hSites h nx [.ref o]) (gR (some (.int out)) (narrow .boolean (.int out) = .int out)) 0 0 (fun _ => False) := by
  refine bGo (by decide +kernel) (Nat.le_of_ble_eq_true rfl) (fun p e s m below meth c ls S hr hlocks hin hnm hS hB hl => ?_)
  have S : CallFix p m c cJ7_isLatin1 1 s _ lw_all RJ7 := S
  obtain ⟨hx, hb, hml, hown, hts⟩ := id S
  have hl : lv_has ls 1 [(0, .ref o)] := hl
  rw [f_J7_isLatin1] at hf
  refine b_gets S hS hB 5 rfl (hts _ q558) dJ7_isLatin1_0 ?_
  refine lv_if_eq (tgt := 17) hx hb dJ7_isLatin1_3 (by decide) (fun c1 => ?_) (fun c1 => ?_)
  · replace hf := it_t c1 hf
    refine lv_iconst hx hb dJ7_isLatin1_17 kc_i0 ?_
    have hE9 := Option.some.inj hf
    subst hE9
    exact gt_rz S hr hlocks nb0 dJ7_isLatin1_18
  · replace hf := it_f c1 hf
    refine lv_aload_n hx hb dJ7_isLatin1_6 rfl (lv_at hl 0 rfl) ?_
    obtain ⟨v2, hv2, hf⟩ := ob_s hf
    refine bg_J7_22 S hS hB (vI_s hv2) dJ7_isLatin1_7 ?_
    refine lv_if_ne (tgt := 17) hx hb dJ7_isLatin1_10 (by decide) (fun c3 => ?_) (fun c3 => ?_)
    · replace hf := it_f c3 hf
      refine lv_iconst hx hb dJ7_isLatin1_17 kc_i0 ?_
      have hE9 := Option.some.inj hf
      subst hE9
      exact gt_rz S hr hlocks nb0 dJ7_isLatin1_18
    · replace hf := it_t c3 hf
      refine lv_iconst hx hb dJ7_isLatin1_13 kc_i1 ?_
      refine lv_goto (tgt := 18) hx hb dJ7_isLatin1_14 (by decide) ?_
      have hE9 := Option.some.inj hf
      subst hE9
      exact gt_rz S hr hlocks nb1 dJ7_isLatin1_18
set_option maxRecDepth 100000 in
theorem mc_J7_83 {o : Nat} {out : Int32} (S : CallFix p m c cc nL s args lw_all RJ7) (hS : SK G E.1 hSites A s) (hB : BI G A s.heap h nx H locs) (ho : isO h o 12 = true) (hf : f_J7_isLatin1 E h o = some out) (hsz : ls.size = nL) (hR : (fE + 0) + 1 ≤ R.frames ∧ 8 + (1 + 11) + (lE + 0) ≤ R.locals) (hW : (rest.map fun v => v.category).sum ≤ 8) (hcs : cells ≤ R.cells ∧ slots ≤ R.slots) (hdg : decode cc pc = .ok (.invokevirtual 83, 3))  (kk : (narrow .boolean (.int out) = .int out) → W p l e R s m args below meth c H locs cells slots Q (F0 m (pc + 3) ls (.int out :: rest))) : W p l e R s m args below meth c H locs cells slots Q (F0 m pc ls (.ref o :: rest)) := by
  have hN := hS.2.1
  obtain ⟨fs, he⟩ := isO_s ho
  exact br_r (va_runU (As := []) S (mm_J7_isLatin1 (l := l) (G := G) (nx := nx) (fE := fE) (lE := lE) hf) (va_cwU (owner := "java/lang/AbstractStringBuilder") (x := yJ7_isLatin1) 0 S.2.2.2.2 (lw_app (c := ws_ yJ7_isLatin1 cJ7_isLatin1 1 (some .boolean)) (fun w hw => by simp only [List.mem_cons, List.not_mem_nil, or_false] at hw; rcases hw with e | e | e | e | e <;> (rw [e]; first | exact q717 | exact q719 | exact q720 | exact q718 | exact q185)) (lw_meth q721)) rfl rfl rfl rfl (by decide +kernel) hR) (bPreV hS hB (ci := 12) rfl he) rfl rfl hsz rfl (lv_room hW) hdg hcs) kk
set_option maxRecDepth 100000 in
theorem mc_J9_1047 {o : Nat} {out : Int32} (S : CallFix p m c cc nL s args lw_all RJ9) (hS : SK G E.1 hSites A s) (hB : BI G A s.heap h nx H locs) (ho : isO h o 12 = true) (hf : f_J7_isLatin1 E h o = some out) (hsz : ls.size = nL) (hR : (fE + 0) + 1 ≤ R.frames ∧ 8 + (1 + 11) + (lE + 0) ≤ R.locals) (hW : (rest.map fun v => v.category).sum ≤ 8) (hcs : cells ≤ R.cells ∧ slots ≤ R.slots) (hdg : decode cc pc = .ok (.invokevirtual 1047, 3))  (kk : (narrow .boolean (.int out) = .int out) → W p l e R s m args below meth c H locs cells slots Q (F0 m (pc + 3) ls (.int out :: rest))) : W p l e R s m args below meth c H locs cells slots Q (F0 m pc ls (.ref o :: rest)) := by
  have hN := hS.2.1
  obtain ⟨fs, he⟩ := isO_s ho
  exact br_r (va_runU (As := []) S (mm_J7_isLatin1 (l := l) (G := G) (nx := nx) (fE := fE) (lE := lE) hf) (va_cwU (owner := "java/lang/AbstractStringBuilder") (x := yJ7_isLatin1) 0 S.2.2.2.2 (lw_app (c := ws_ yJ7_isLatin1 cJ7_isLatin1 1 (some .boolean)) (fun w hw => by simp only [List.mem_cons, List.not_mem_nil, or_false] at hw; rcases hw with e | e | e | e | e <;> (rw [e]; first | exact q794 | exact q719 | exact q720 | exact q718 | exact q185)) (lw_meth q721)) rfl rfl rfl rfl (by decide +kernel) hR) (bPreV hS hB (ci := 12) rfl he) rfl rfl hsz rfl (lv_room hW) hdg hcs) kk
theorem hd_J12_checkLength : yJ12_checkLength.cls ≠ "java/lang/invoke/MethodHandle" ∧ yJ12_checkLength.cls ≠ "java/lang/invoke/VarHandle" ∧ (parseMethodDescriptor yJ12_checkLength.desc).map (fun d => d.parameters.length) = some 2 := by decide +kernel
set_option maxHeartbeats 4000000 in
set_option maxRecDepth 100000 in
theorem mm_J12_checkLength {a0 : Int32} {a1 : Int32} {out : Unit} (hf : f_J12_checkLength a0 a1 = some out) : Met l yJ12_checkLength (ws_ yJ12_checkLength cJ12_checkLength 2 none) (rM 0 0) (gPc D cl tys [.int a0, .int a1] []) (gR none True) 0 0 (fun _ => False) := by
  refine gGo (by decide +kernel) (Nat.le_of_ble_eq_true rfl) (fun p e s m below meth c ls S hr hlocks hK hP hl => ?_)
  have S : CallFix p m c cJ12_checkLength 2 s _ lw_all RJ12 := S
  obtain ⟨hx, hb, hml, hown, hts⟩ := id S
  have hl : lv_has ls 2 [(0, .int a0), (1, .int a1)] := hl
  rw [f_J12_checkLength] at hf
  refine lv_iload_n hx hb dJ12_checkLength_0 rfl (lv_at hl 1 rfl) ?_
  refine lv_iload_n hx hb dJ12_checkLength_1 rfl (lv_at hl 0 rfl) ?_
  refine lv_icmp_ge (tgt := 37) hx hb dJ12_checkLength_2 (by decide) (fun c1 => ?_) (fun c1 => ?_)
  · replace hf := it_t c1 hf
    have hE9 := Option.some.inj hf
    subst hE9
    exact gt_rv S hr hlocks trivial dJ12_checkLength_37
  · replace hf := it_f c1 hf
    exact absurd hf (by nofun)
set_option maxRecDepth 100000 in
theorem mc_J12_343 {a0 : Int32} {a1 : Int32} {out : Unit} (S : CallFix p m c cc nL s args lw_all RJ12) (hK : va_K D cl tys s) (hf : f_J12_checkLength a0 a1 = some out) (hsz : ls.size = nL) (hR : 0 + 1 ≤ R.frames ∧ 8 + (2 + 11) + 0 ≤ R.locals) (hW : (rest.map fun v => v.category).sum ≤ 8) (hcs : cells ≤ R.cells ∧ slots ≤ R.slots) (hdg : decode cc pc = .ok (.invokestatic 343, 3))  (kk : True → W p l e R s m args below meth c H locs cells slots Q (F0 m (pc + 3) ls (rest))) : W p l e R s m args below meth c H locs cells slots Q (F0 m pc ls (.int a1 :: .int a0 :: rest)) := by
  exact br_rv (va_runS (As := [.int a0, .int a1]) S (mm_J12_checkLength hf) (va_cwS 2 S.2.2.2.2 (lw_S q801 q802 q192 q803) rfl rfl rfl hd_J12_checkLength hR) (gPreS hK gP0) rfl rfl hsz rfl (lv_room hW) hdg hcs) kk
theorem hd_J12_copyOfRangeByte : yJ12_copyOfRangeByte.cls ≠ "java/lang/invoke/MethodHandle" ∧ yJ12_copyOfRangeByte.cls ≠ "java/lang/invoke/VarHandle" ∧ (parseMethodDescriptor yJ12_copyOfRangeByte.desc).map (fun d => d.parameters.length) = some 3 := by decide +kernel
set_option maxHeartbeats 4000000 in
set_option maxRecDepth 100000 in
theorem mm_J12_copyOfRangeByte {a0 : Nat} {a1 : Int32} {a2 : Int32} {out : Nat × AH × Nat × Nat} (hf : f_J12_copyOfRangeByte E h nx a0 a1 a2 = some out) : Met l yJ12_copyOfRangeByte (ws_ yJ12_copyOfRangeByte cJ12_copyOfRangeByte 5 (some (.array .byte))) (rC (fE + 1) (lE + 120) out.2.2.1 out.2.2.2) (bPc G E.1 hSites h nx [.ref a0, .int a1, .int a2]) (bQ G (some (.ref out.1)) True out.2.1 (nx + out.2.2.1) (AA h nx)) out.2.2.1 out.2.2.2 (AA h nx) := by
  refine bGo (by decide +kernel) (Nat.le_of_ble_eq_true rfl) (fun p e s m below meth c ls S hr hlocks hin hnm hS hB hl => ?_)
  have S : CallFix p m c cJ12_copyOfRangeByte 5 s _ lw_all RJ12 := S
  obtain ⟨hx, hb, hml, hown, hts⟩ := id S
  have hl : lv_has ls 5 [(0, .ref a0), (1, .int a1), (2, .int a2)] := hl
  have hT : TL out out 0 0 := TL_0
  rw [f_J12_copyOfRangeByte] at hf
  refine lv_iload_n hx hb dJ12_copyOfRangeByte_0 rfl (lv_at hl 1 rfl) ?_
  refine lv_iload_n hx hb dJ12_copyOfRangeByte_1 rfl (lv_at hl 2 rfl) ?_
  obtain ⟨v1, hv1, hf⟩ := ob_s hf
  refine mc_J12_343 S hS.1 hv1 hl.1 ⟨(by show _ ≤ (fE + 1); omega), (by show _ ≤ (lE + 120); omega)⟩ (Nat.le_of_ble_eq_true rfl) ⟨(TL_m hT).1, (TL_m hT).2⟩ dJ12_copyOfRangeByte_2 (fun _ => ?_)
  refine lv_iload_n hx hb dJ12_copyOfRangeByte_5 rfl (lv_at hl 2 rfl) ?_
  refine lv_iload_n hx hb dJ12_copyOfRangeByte_6 rfl (lv_at hl 1 rfl) ?_
  refine lv_isub hx hb dJ12_copyOfRangeByte_7 ?_
  refine lv_istore_n (i := 3) (lv' := [(3, .int (a2 - a1)), (0, .ref a0), (1, .int a1), (2, .int a2)]) hx hb dJ12_copyOfRangeByte_8 rfl hl (by decide) rfl (fun ls hl => ?_)
  refine lv_iload_n hx hb dJ12_copyOfRangeByte_9 rfl (lv_at hl 0 rfl) ?_
  obtain ⟨g2, hf⟩ := gd_t hf
  obtain ⟨o3, hf, hT⟩ := TL_c hT hf
  refine b_newB S hS hB rfl g2 (TL_m hT).1 (TL_m hT).2 dJ12_copyOfRangeByte_10 (fun H hB => ?_)
  refine lv_astore (lv' := [(4, .ref nx), (3, .int (a2 - a1)), (0, .ref a0), (1, .int a1), (2, .int a2)]) hx hb dJ12_copyOfRangeByte_12 hl (by decide) rfl (fun ls hl => ?_)
  refine lv_aload_n hx hb dJ12_copyOfRangeByte_14 rfl (lv_at hl 2 rfl) ?_
  refine lv_iload_n hx hb dJ12_copyOfRangeByte_15 rfl (lv_at hl 3 rfl) ?_
  refine lv_aload hx hb dJ12_copyOfRangeByte_16 (lv_at hl 0 rfl) ?_
  refine lv_iconst hx hb dJ12_copyOfRangeByte_18 kc_i0 ?_
  refine lv_aload_n hx hb dJ12_copyOfRangeByte_19 rfl (lv_at hl 2 rfl) ?_
  obtain ⟨v4, hv4, hf⟩ := ob_s hf
  refine b_alen S hS.1 hB hv4 dJ12_copyOfRangeByte_20 ?_
  refine lv_iload_n hx hb dJ12_copyOfRangeByte_21 rfl (lv_at hl 3 rfl) ?_
  refine lv_isub hx hb dJ12_copyOfRangeByte_22 ?_
  refine lv_iload_n hx hb dJ12_copyOfRangeByte_23 rfl (lv_at hl 1 rfl) ?_
  obtain ⟨v5, hv5, hf⟩ := ob_s hf
  refine mc_J12_304 S hS.1 hv5 hl.1 ⟨(by show _ ≤ (fE + 1); omega), (by show _ ≤ (lE + 120); omega)⟩ (Nat.le_of_ble_eq_true rfl) ⟨(TL_m hT).1, (TL_m hT).2⟩ dJ12_copyOfRangeByte_24 (fun _ => ?_)
  obtain ⟨h6, hh6, hf⟩ := ob_s hf
  refine b_copyI S hS.1 hB (by rw [hml]; exact hl.1.symm) (hts _ q716) (hts _ q257) (hts _ q256) (hts _ q179) 2 rfl rfl hh6 (by show _ ≤ (fE + 1); omega) (by show _ ≤ (lE + 120); simp only [List.map, List.sum_cons, List.sum_nil, Value.category]; exact Nat.le_trans (Nat.le_of_ble_eq_true rfl : _ ≤ 120) (by omega)) dJ12_copyOfRangeByte_27 (fun H locs hB => ?_)
  refine lv_aload hx hb dJ12_copyOfRangeByte_30 (lv_at hl 0 rfl) ?_
  have hE9 := TL_e hT hf
  subst hE9
  exact bt_a S hr (Or.inr ⟨_, rfl⟩) hlocks hB (by omega) trivial dJ12_copyOfRangeByte_32
set_option maxRecDepth 100000 in
theorem mc_J12_339 {a0 : Nat} {a1 : Int32} {a2 : Int32} {out : Nat × AH × Nat × Nat} (S : CallFix p m c cc nL s args lw_all RJ12) (hS : SK G E.1 hSites A s) (hB : BI G A s.heap h nx H locs) (hf : f_J12_copyOfRangeByte E h nx a0 a1 a2 = some out) (hsz : ls.size = nL) (hR : (fE + 1) + 1 ≤ R.frames ∧ 8 + (5 + 11) + (lE + 120) ≤ R.locals) (hW : (rest.map fun v => v.category).sum ≤ 8) (hcs : cells + out.2.2.1 ≤ R.cells ∧ slots + out.2.2.2 ≤ R.slots) (hdg : decode cc pc = .ok (.invokestatic 339, 3))  (kk : ∀ (H1 : Heap) (locs1 : List Loc), True → BI G A s.heap out.2.1 (nx + out.2.2.1) H1 locs1 → W p l e R s m args below meth c H1 locs1 (cells + out.2.2.1) (slots + out.2.2.2) Q (F0 m (pc + 3) ls (.ref out.1 :: rest))) : W p l e R s m args below meth c H locs cells slots Q (F0 m pc ls (.int a2 :: .int a1 :: .ref a0 :: rest)) := by
  have hN := hS.2.1
  exact br_w (va_runS (As := [.ref a0, .int a1, .int a2]) S (mm_J12_copyOfRangeByte (l := l) (G := G) (fE := fE) (lE := lE) hf) (va_cwS 3 S.2.2.2.2 (lw_S q798 q799 q192 q800) rfl rfl rfl hd_J12_copyOfRangeByte hR) (bPreS hS hB) rfl rfl hsz rfl (lv_room hW) hdg hcs) hB kk
theorem hd_J12_copyOfRange : yJ12_copyOfRange.cls ≠ "java/lang/invoke/MethodHandle" ∧ yJ12_copyOfRange.cls ≠ "java/lang/invoke/VarHandle" ∧ (parseMethodDescriptor yJ12_copyOfRange.desc).map (fun d => d.parameters.length) = some 3 := by decide +kernel
set_option maxHeartbeats 4000000 in
set_option maxRecDepth 100000 in
theorem mm_J12_copyOfRange {a0 : Nat} {a1 : Int32} {a2 : Int32} {out : Nat × AH × Nat × Nat} (hf : f_J12_copyOfRange E h nx a0 a1 a2 = some out) : Met l yJ12_copyOfRange (ws_ yJ12_copyOfRange cJ12_copyOfRange 3 (some (.array .byte))) (rC (fE + 2) (lE + 144) out.2.2.1 out.2.2.2) (bPc G E.1 hSites h nx [.ref a0, .int a1, .int a2]) (bQ G (some (.ref out.1)) True out.2.1 (nx + out.2.2.1) (AA h nx)) out.2.2.1 out.2.2.2 (AA h nx) := by
  refine bGo (by decide +kernel) (Nat.le_of_ble_eq_true rfl) (fun p e s m below meth c ls S hr hlocks hin hnm hS hB hl => ?_)
  have S : CallFix p m c cJ12_copyOfRange 3 s _ lw_all RJ12 := S
  obtain ⟨hx, hb, hml, hown, hts⟩ := id S
  have hl : lv_has ls 3 [(0, .ref a0), (1, .int a1), (2, .int a2)] := hl
  have w10 : ∀ (x0 : Nat) (x1 : Int32) (x2 : Int32) (hc : AH) (nc : Nat) (ls : Array Slot) (H : Heap) (locs : List Loc) (ce sl : Nat) (o1 : Nat × AH × Nat × Nat), BI G (AA h nx) s.heap hc nc H locs → nc = nx + ce → TL out o1 ce sl → lv_has ls 3 [(0, .ref x0), (1, .int x1), (2, .int x2)] → f_J12_copyOfRange_10 E x0 x1 x2 hc nc = some o1 → W p l e (rC (fE + 2) (lE + 144) out.2.2.1 out.2.2.2) s m ([.ref a0, .int a1, .int a2] : List Value).toArray below meth c H locs ce sl (MQ below (bQ G (some (.ref out.1)) True out.2.1 (nx + out.2.2.1) (AA h nx)) ([.ref a0, .int a1, .int a2] : List Value).toArray s out.2.2.1 out.2.2.2 (AA h nx)) (F0 m 10 ls []) := by
    intro x0 x1 x2 hc nc ls H locs ce sl o1 hB hn hT hl hf
    rw [f_J12_copyOfRange_10] at hf
    refine lv_aload_n hx hb dJ12_copyOfRange_10 rfl (lv_at hl 0 rfl) ?_
    refine lv_iload_n hx hb dJ12_copyOfRange_11 rfl (lv_at hl 1 rfl) ?_
    refine lv_iload_n hx hb dJ12_copyOfRange_12 rfl (lv_at hl 2 rfl) ?_
    obtain ⟨v1, hv1, hf⟩ := ob_s hf
    obtain ⟨o2, hf, hT⟩ := TL_c hT hf
    refine mc_J12_339 (fE := fE) (lE := lE) S hS hB hv1 hl.1 ⟨(by show _ ≤ (fE + 2); omega), (by show _ ≤ (lE + 144); omega)⟩ (Nat.le_of_ble_eq_true rfl) ⟨(TL_m hT).1, (TL_m hT).2⟩ dJ12_copyOfRange_13 (fun H locs _ hB => ?_)
    have hE9 := TL_e hT hf
    subst hE9
    exact bt_a S hr (Or.inr ⟨_, rfl⟩) hlocks hB (by omega) trivial dJ12_copyOfRange_16
  have hT : TL out out 0 0 := TL_0
  rw [f_J12_copyOfRange] at hf
  refine lv_iload_n hx hb dJ12_copyOfRange_0 rfl (lv_at hl 1 rfl) ?_
  refine lv_if_ne (tgt := 10) hx hb dJ12_copyOfRange_1 (by decide) (fun c1 => ?_) (fun c1 => ?_)
  · replace hf := it_f c1 hf
    exact (w10) a0 a1 a2 h nx ls s.heap [] 0 0 out hB (by omega) hT hl hf
  · replace hf := it_t c1 hf
    refine lv_iload_n hx hb dJ12_copyOfRange_4 rfl (lv_at hl 2 rfl) ?_
    refine lv_aload_n hx hb dJ12_copyOfRange_5 rfl (lv_at hl 0 rfl) ?_
    obtain ⟨v2, hv2, hf⟩ := ob_s hf
    refine b_alen S hS.1 hB hv2 dJ12_copyOfRange_6 ?_
    refine lv_icmp_eq (tgt := 17) hx hb dJ12_copyOfRange_7 (by decide) (fun c3 => ?_) (fun c3 => ?_)
    · replace hf := it_t c3 hf
      refine lv_aload_n hx hb dJ12_copyOfRange_17 rfl (lv_at hl 0 rfl) ?_
      obtain ⟨v4, hv4, hf⟩ := ob_s hf
      obtain ⟨o5, hf, hT⟩ := TL_c hT hf
      refine b_clone S hS hB (by rw [hml]; exact hl.1.symm) (hts _ q706) (hts _ q707) (hts _ q708) (hts _ q709) (hts _ q710) q711 hv4 (by show _ ≤ (fE + 2); omega) (by show _ ≤ (lE + 144); simp only [List.map, List.sum_cons, List.sum_nil, Value.category]; omega) (TL_m hT).1 (TL_m hT).2 dJ12_copyOfRange_18 (fun H hB => ?_)
      obtain ⟨g6, hf⟩ := gd_t hf
      refine b_castA S hB 2 rfl (hS.1.2 2 _ rfl).2 (hts _ q712) g6 dJ12_copyOfRange_21 ?_
      have hE9 := TL_e hT hf
      subst hE9
      exact bt_a S hr (Or.inr ⟨_, rfl⟩) hlocks hB (by omega) trivial dJ12_copyOfRange_24
    · replace hf := it_f c3 hf
      exact (w10) a0 a1 a2 h nx ls s.heap [] 0 0 out hB (by omega) hT hl hf
set_option maxRecDepth 100000 in
theorem mc_J9_54 {a0 : Nat} {a1 : Int32} {a2 : Int32} {out : Nat × AH × Nat × Nat} (S : CallFix p m c cc nL s args lw_all RJ9) (hS : SK G E.1 hSites A s) (hB : BI G A s.heap h nx H locs) (hf : f_J12_copyOfRange E h nx a0 a1 a2 = some out) (hsz : ls.size = nL) (hR : (fE + 2) + 1 ≤ R.frames ∧ 8 + (3 + 11) + (lE + 144) ≤ R.locals) (hW : (rest.map fun v => v.category).sum ≤ 8) (hcs : cells + out.2.2.1 ≤ R.cells ∧ slots + out.2.2.2 ≤ R.slots) (hdg : decode cc pc = .ok (.invokestatic 54, 3))  (kk : ∀ (H1 : Heap) (locs1 : List Loc), True → BI G A s.heap out.2.1 (nx + out.2.2.1) H1 locs1 → W p l e R s m args below meth c H1 locs1 (cells + out.2.2.1) (slots + out.2.2.2) Q (F0 m (pc + 3) ls (.ref out.1 :: rest))) : W p l e R s m args below meth c H locs cells slots Q (F0 m pc ls (.int a2 :: .int a1 :: .ref a0 :: rest)) := by
  have hN := hS.2.1
  exact br_w (va_runS (As := [.ref a0, .int a1, .int a2]) S (mm_J12_copyOfRange (l := l) (G := G) (fE := fE) (lE := lE) hf) (va_cwS 3 S.2.2.2.2 (lw_S q795 q796 q192 q797) rfl rfl rfl hd_J12_copyOfRange hR) (bPreS hS hB) rfl rfl hsz rfl (lv_room hW) hdg hcs) hB kk
theorem hd_J9_init_2 : yJ9_init_2.cls ≠ "java/lang/invoke/MethodHandle" ∧ yJ9_init_2.cls ≠ "java/lang/invoke/VarHandle" ∧ (parseMethodDescriptor yJ9_init_2.desc).map (fun d => d.parameters.length) = some 2 := by decide +kernel
set_option maxHeartbeats 4000000 in
set_option maxRecDepth 100000 in
theorem mm_J9_init_2 {o : Nat} {a0 : Nat} {a1 : Option Nat} {out : Unit × AH × Nat × Nat} (hf : f_J9_init_2 E h nx o a0 a1 = some out) : Met l yJ9_init_2 (ws_ yJ9_init_2 cJ9_init_2 5 none) (rC (fE + 3) (lE + 166) out.2.2.1 out.2.2.2) (bPc G E.1 hSites h nx [.ref o, .ref a0, va_rf a1]) (bQ G none True out.2.1 (nx + out.2.2.1) (AA h nx)) out.2.2.1 out.2.2.2 (AA h nx) := by
  refine bGo (by decide +kernel) (by cases a1 <;> exact Nat.le_of_ble_eq_true rfl) (fun p e s m below meth c ls S hr hlocks hin hnm hS hB hl => ?_)
  have S : CallFix p m c cJ9_init_2 5 s _ lw_all RJ9 := S
  obtain ⟨hx, hb, hml, hown, hts⟩ := id S
  have hl : lv_has ls 5 [(0, .ref o), (1, .ref a0), (2, va_rf a1)] := hl
  have hl : lv_has ls 5 [(0, .ref o), (1, .ref a0)] := lv_sub (l' := [(0, .ref o), (1, .ref a0)]) hl [0, 1] rfl
  have w79 : ∀ (x0 : Nat) (x3 : Nat) (x4 : Int32) (hc : AH) (nc : Nat) (ls : Array Slot) (H : Heap) (locs : List Loc) (ce sl : Nat) (o1 : Unit × AH × Nat × Nat), BI G (AA h nx) s.heap hc nc H locs → nc = nx + ce → TL out o1 ce sl → lv_has ls 5 [(0, .ref x0), (3, .ref x3), (4, .int x4)] → f_J9_init_2_79 E x0 x3 x4 hc nc = some o1 → W p l e (rC (fE + 3) (lE + 166) out.2.2.1 out.2.2.2) s m ([.ref o, .ref a0, va_rf a1] : List Value).toArray below meth c H locs ce sl (MQ below (bQ G none True out.2.1 (nx + out.2.2.1) (AA h nx)) ([.ref o, .ref a0, va_rf a1] : List Value).toArray s out.2.2.1 out.2.2.2 (AA h nx)) (F0 m 79 ls []) := by
    intro x0 x3 x4 hc nc ls H locs ce sl o1 hB hn hT hl hf
    rw [f_J9_init_2_79] at hf
    refine lv_aload_n hx hb dJ9_init_2_79 rfl (lv_at hl 0 rfl) ?_
    refine lv_iconst hx hb dJ9_init_2_80 kc_i1 ?_
    obtain ⟨g1, hf⟩ := gd_t hf
    obtain ⟨h2, hh2, hf⟩ := ob_s hf
    refine bp_J9_15 S hS hB hin (isY_n g1) (isY_f g1) hh2 dJ9_init_2_81 (fun H locs hB => ?_)
    refine lv_aload_n hx hb dJ9_init_2_84 rfl (lv_at hl 0 rfl) ?_
    refine lv_aload_n hx hb dJ9_init_2_85 rfl (lv_at hl 1 rfl) ?_
    refine lv_iconst hx hb dJ9_init_2_86 kc_i0 ?_
    refine lv_iload hx hb dJ9_init_2_87 (lv_at hl 2 rfl) ?_
    refine lv_iconst hx hb dJ9_init_2_89 kc_i1 ?_
    refine lv_ishl hx hb dJ9_init_2_90 ?_
    obtain ⟨v3, hv3, hf⟩ := ob_s hf
    obtain ⟨o4, hf, hT⟩ := TL_c hT hf
    refine mc_J9_54 (fE := fE) (lE := lE) S hS hB hv3 hl.1 ⟨(by show _ ≤ (fE + 3); omega), (by show _ ≤ (lE + 166); omega)⟩ (Nat.le_of_ble_eq_true rfl) ⟨(TL_m hT).1, (TL_m hT).2⟩ dJ9_init_2_91 (fun H locs _ hB => ?_)
    obtain ⟨h5, hh5, hf⟩ := ob_s hf
    refine bp_J9_9 S hS hB hin hh5 dJ9_init_2_94 (fun H locs hB => ?_)
    have hE9 := TL_e hT hf
    subst hE9
    exact bt_v S hr hlocks hB (by omega) trivial dJ9_init_2_97
  have hT : TL out out 0 0 := TL_0
  rw [f_J9_init_2] at hf
  refine lv_aload_n hx hb dJ9_init_2_0 rfl (lv_at hl 0 rfl) ?_
  refine W.objInit hx hb hown (hts _ q780) (hts _ q212) (hts _ q213) rfl (by rw [hml]; exact hl.1) rfl dJ9_init_2_1 (by show _ ≤ (fE + 3); omega) (by show _ ≤ (lE + 166); simp only [F0, JFrame.monitorRoom, List.map, List.sum_cons, List.sum_nil, Value.category]; omega) ?_
  refine W.eq (g2 := F0 m 4 ls []) rfl ?_
  refine lv_aload_n hx hb dJ9_init_2_4 rfl (lv_at hl 1 rfl) ?_
  obtain ⟨g1, hf⟩ := gd_t hf
  obtain ⟨v2, hv2, hf⟩ := ob_s hf
  refine mc_J9_552 (fE := fE) (lE := lE) S hS hB g1 hv2 hl.1 ⟨(by show _ ≤ (fE + 3); omega), (by show _ ≤ (lE + 166); omega)⟩ (Nat.le_of_ble_eq_true rfl) ⟨(TL_m hT).1, (TL_m hT).2⟩ dJ9_init_2_5 (fun _ => ?_)
  refine lv_astore_n (i := 3) (lv' := [(3, .ref v2), (0, .ref o), (1, .ref a0)]) hx hb dJ9_init_2_8 rfl hl (by decide) rfl (fun ls hl => ?_)
  refine lv_aload_n hx hb dJ9_init_2_9 rfl (lv_at hl 2 rfl) ?_
  obtain ⟨g3, hf⟩ := gd_t hf
  obtain ⟨v4, hv4, hf⟩ := ob_s hf
  refine mc_J9_549 (fE := fE) (lE := lE) S hS hB g3 hv4 hl.1 ⟨(by show _ ≤ (fE + 3); omega), (by show _ ≤ (lE + 166); omega)⟩ (Nat.le_of_ble_eq_true rfl) ⟨(TL_m hT).1, (TL_m hT).2⟩ dJ9_init_2_10 (fun _ => ?_)
  refine lv_istore (lv' := [(4, .int v4), (3, .ref v2), (0, .ref o), (1, .ref a0)]) hx hb dJ9_init_2_13 hl (by decide) rfl (fun ls hl => ?_)
  refine lv_aload_n hx hb dJ9_init_2_15 rfl (lv_at hl 3 rfl) ?_
  obtain ⟨g5, hf⟩ := gd_t hf
  obtain ⟨v6, hv6, hf⟩ := ob_s hf
  refine mc_J9_1047 (fE := fE) (lE := lE) S hS hB g5 hv6 hl.1 ⟨(by show _ ≤ (fE + 3); omega), (by show _ ≤ (lE + 166); omega)⟩ (Nat.le_of_ble_eq_true rfl) ⟨(TL_m hT).1, (TL_m hT).2⟩ dJ9_init_2_16 (fun hnv6 => ?_)
  refine lv_if_eq (tgt := 41) hx hb dJ9_init_2_19 (by decide) (fun c7 => ?_) (fun c7 => ?_)
  · replace hf := it_t c7 hf
    refine b_gets S hS hB 5 rfl (hts _ q804) dJ9_init_2_41 ?_
    refine lv_if_eq (tgt := 79) hx hb dJ9_init_2_44 (by decide) (fun c8 => ?_) (fun c8 => ?_)
    · replace hf := it_t c8 hf
      exact (w79) o v2 v4 h nx ls s.heap [] 0 0 out hB (by omega) hT (lv_sub (l' := [(0, .ref o), (3, .ref v2), (4, .int v4)]) hl [2, 1, 0] rfl) hf
    · replace hf := it_f c8 hf
      refine lv_aload_n hx hb dJ9_init_2_47 rfl (lv_at hl 3 rfl) ?_
      obtain ⟨v9, hv9, hf⟩ := ob_s hf
      refine bg_J9_1048 S hS hB (vI_s hv9) dJ9_init_2_48 ?_
      refine lv_if_eq (tgt := 79) hx hb dJ9_init_2_51 (by decide) (fun c10 => ?_) (fun c10 => ?_)
      · replace hf := it_t c10 hf
        exact (w79) o v2 v4 h nx ls s.heap [] 0 0 out hB (by omega) hT (lv_sub (l' := [(0, .ref o), (3, .ref v2), (4, .int v4)]) hl [2, 1, 0] rfl) hf
      · replace hf := it_f c10 hf
        exact absurd hf (by nofun)
  · replace hf := it_f c7 hf
    refine lv_aload_n hx hb dJ9_init_2_22 rfl (lv_at hl 2 rfl) ?_
    refine lv_iconst hx hb dJ9_init_2_23 kc_i0 ?_
    obtain ⟨g11, hf⟩ := gd_t hf
    obtain ⟨h12, hh12, hf⟩ := ob_s hf
    refine bp_J9_15 S hS hB hin (isY_n g11) (isY_f g11) hh12 dJ9_init_2_24 (fun H locs hB => ?_)
    refine lv_aload_n hx hb dJ9_init_2_27 rfl (lv_at hl 2 rfl) ?_
    refine lv_aload_n hx hb dJ9_init_2_28 rfl (lv_at hl 1 rfl) ?_
    refine lv_iconst hx hb dJ9_init_2_29 kc_i0 ?_
    refine lv_iload hx hb dJ9_init_2_30 (lv_at hl 0 rfl) ?_
    obtain ⟨v13, hv13, hf⟩ := ob_s hf
    obtain ⟨o14, hf, hT⟩ := TL_c hT hf
    refine mc_J9_54 (fE := fE) (lE := lE) S hS hB hv13 hl.1 ⟨(by show _ ≤ (fE + 3); omega), (by show _ ≤ (lE + 166); omega)⟩ (Nat.le_of_ble_eq_true rfl) ⟨(TL_m hT).1, (TL_m hT).2⟩ dJ9_init_2_32 (fun H locs _ hB => ?_)
    obtain ⟨h15, hh15, hf⟩ := ob_s hf
    refine bp_J9_9 S hS hB hin hh15 dJ9_init_2_35 (fun H locs hB => ?_)
    refine lv_goto (tgt := 97) hx hb dJ9_init_2_38 (by decide) ?_
    have hE9 := TL_e hT hf
    subst hE9
    exact bt_v S hr hlocks hB (by omega) trivial dJ9_init_2_97
set_option maxRecDepth 100000 in
theorem mc_J9_489 {o : Nat} {a0 : Nat} {a1 : Option Nat} {out : Unit × AH × Nat × Nat} (S : CallFix p m c cc nL s args lw_all RJ9) (hS : SK G E.1 hSites A s) (hB : BI G A s.heap h nx H locs) (hf : f_J9_init_2 E h nx o a0 a1 = some out) (hsz : ls.size = nL) (hR : (fE + 3) + 1 ≤ R.frames ∧ 8 + (5 + 11) + (lE + 166) ≤ R.locals) (hW : (rest.map fun v => v.category).sum ≤ 8) (hcs : cells + out.2.2.1 ≤ R.cells ∧ slots + out.2.2.2 ≤ R.slots) (hdg : decode cc pc = .ok (.invokespecial 489, 3))  (kk : ∀ (H1 : Heap) (locs1 : List Loc), True → BI G A s.heap out.2.1 (nx + out.2.2.1) H1 locs1 → W p l e R s m args below meth c H1 locs1 (cells + out.2.2.1) (slots + out.2.2.2) Q (F0 m (pc + 3) ls (rest))) : W p l e R s m args below meth c H locs cells slots Q (F0 m pc ls (va_rf a1 :: .ref a0 :: .ref o :: rest)) := by
  have hN := hS.2.1
  cases a1 with
  | none => exact br_v (va_runI (As := [.ref a0, va_rf none]) S (mm_J9_init_2 (l := l) (G := G) (fE := fE) (lE := lE) hf) (⟨callB_of 2 S.2.2.2.2 (lw_meth q779) rfl rfl rfl (S.2.2.2.2 _ q187) (S.2.2.2.2 _ q777) hd_J9_init_2 hR, rfl, S.2.2.2.2 _ q778⟩) (bPreS hS hB) rfl rfl hsz rfl (lv_room hW) hdg hcs) hB kk
  | some a1 => exact br_v (va_runI (As := [.ref a0, va_rf (some a1)]) S (mm_J9_init_2 (l := l) (G := G) (fE := fE) (lE := lE) hf) (⟨callB_of 2 S.2.2.2.2 (lw_meth q779) rfl rfl rfl (S.2.2.2.2 _ q187) (S.2.2.2.2 _ q777) hd_J9_init_2 hR, rfl, S.2.2.2.2 _ q778⟩) (bPreS hS hB) rfl rfl hsz rfl (lv_room hW) hdg hcs) hB kk
theorem hd_J9_init : yJ9_init.cls ≠ "java/lang/invoke/MethodHandle" ∧ yJ9_init.cls ≠ "java/lang/invoke/VarHandle" ∧ (parseMethodDescriptor yJ9_init.desc).map (fun d => d.parameters.length) = some 1 := by decide +kernel
set_option maxHeartbeats 4000000 in
set_option maxRecDepth 100000 in
theorem mm_J9_init {o : Nat} {a0 : Nat} {out : Unit × AH × Nat × Nat} (hf : f_J9_init E h nx o a0 = some out) : Met l yJ9_init (ws_ yJ9_init cJ9_init 2 none) (rC (fE + 4) (lE + 190) out.2.2.1 out.2.2.2) (bPc G E.1 hSites h nx [.ref o, .ref a0]) (bQ G none True out.2.1 (nx + out.2.2.1) (AA h nx)) out.2.2.1 out.2.2.2 (AA h nx) := by
  refine bGo (by decide +kernel) (Nat.le_of_ble_eq_true rfl) (fun p e s m below meth c ls S hr hlocks hin hnm hS hB hl => ?_)
  have S : CallFix p m c cJ9_init 2 s _ lw_all RJ9 := S
  obtain ⟨hx, hb, hml, hown, hts⟩ := id S
  have hl : lv_has ls 2 [(0, .ref o), (1, .ref a0)] := hl
  have hT : TL out out 0 0 := TL_0
  rw [f_J9_init] at hf
  refine lv_aload_n hx hb dJ9_init_0 rfl (lv_at hl 0 rfl) ?_
  refine lv_aload_n hx hb dJ9_init_1 rfl (lv_at hl 1 rfl) ?_
  refine lv_null hx hb dJ9_init_2 ?_
  obtain ⟨v1, hv1, hf⟩ := ob_s hf
  obtain ⟨o2, hf, hT⟩ := TL_c hT hf
  refine mc_J9_489 (fE := fE) (lE := lE) S hS hB hv1 hl.1 ⟨(by show _ ≤ (fE + 4); omega), (by show _ ≤ (lE + 190); omega)⟩ (Nat.le_of_ble_eq_true rfl) ⟨(TL_m hT).1, (TL_m hT).2⟩ dJ9_init_3 (fun H locs _ hB => ?_)
  have hE9 := TL_e hT hf
  subst hE9
  exact bt_v S hr hlocks hB (by omega) trivial dJ9_init_6
set_option maxRecDepth 100000 in
theorem mc_J8_137 {o : Nat} {a0 : Nat} {out : Unit × AH × Nat × Nat} (S : CallFix p m c cc nL s args lw_all RJ8) (hS : SK G E.1 hSites A s) (hB : BI G A s.heap h nx H locs) (hf : f_J9_init E h nx o a0 = some out) (hsz : ls.size = nL) (hR : (fE + 4) + 1 ≤ R.frames ∧ 8 + (2 + 11) + (lE + 190) ≤ R.locals) (hW : (rest.map fun v => v.category).sum ≤ 8) (hcs : cells + out.2.2.1 ≤ R.cells ∧ slots + out.2.2.2 ≤ R.slots) (hdg : decode cc pc = .ok (.invokespecial 137, 3))  (kk : ∀ (H1 : Heap) (locs1 : List Loc), True → BI G A s.heap out.2.1 (nx + out.2.2.1) H1 locs1 → W p l e R s m args below meth c H1 locs1 (cells + out.2.2.1) (slots + out.2.2.2) Q (F0 m (pc + 3) ls (rest))) : W p l e R s m args below meth c H locs cells slots Q (F0 m pc ls (.ref a0 :: .ref o :: rest)) := by
  have hN := hS.2.1
  exact br_v (va_runI (As := [.ref a0]) S (mm_J9_init (l := l) (G := G) (fE := fE) (lE := lE) hf) (⟨callB_of 1 S.2.2.2.2 (lw_meth q776) rfl rfl rfl (S.2.2.2.2 _ q187) (S.2.2.2.2 _ q774) hd_J9_init hR, rfl, S.2.2.2.2 _ q775⟩) (bPreS hS hB) rfl rfl hsz rfl (lv_room hW) hdg hcs) hB kk
theorem hd_J8_toString : yJ8_toString.cls = RJ8 ∧ yJ8_toString.cls ≠ "java/lang/invoke/MethodHandle" ∧ yJ8_toString.cls ≠ "java/lang/invoke/VarHandle" ∧ (parseMethodDescriptor yJ8_toString.desc).map (fun d => d.parameters.length) = some 0 := by decide +kernel
set_option maxHeartbeats 4000000 in
set_option maxRecDepth 100000 in
theorem mm_J8_toString {o : Nat} {out : Nat × AH × Nat × Nat} (hf : f_J8_toString E h nx o = some out) : Met l yJ8_toString (ws_ yJ8_toString cJ8_toString 1 (some (.object "java/lang/String"))) (rC (fE + 5) (lE + 211) out.2.2.1 out.2.2.2) (bPc G E.1 hSites h nx [.ref o]) (bQ G (some (.ref out.1)) True out.2.1 (nx + out.2.2.1) (AA h nx)) out.2.2.1 out.2.2.2 (AA h nx) := by
  refine bGo (by decide +kernel) (Nat.le_of_ble_eq_true rfl) (fun p e s m below meth c ls S hr hlocks hin hnm hS hB hl => ?_)
  have S : CallFix p m c cJ8_toString 1 s _ lw_all RJ8 := S
  obtain ⟨hx, hb, hml, hown, hts⟩ := id S
  have hl : lv_has ls 1 [(0, .ref o)] := hl
  have hT : TL out out 0 0 := TL_0
  rw [f_J8_toString] at hf
  obtain ⟨o1, hf, hT⟩ := TL_c hT hf
  refine bn_J8_18 S hS hB (TL_m hT).1 (TL_m hT).2 dJ8_toString_0 (fun H hB => ?_)
  refine lv_dup hx hb dJ8_toString_3 rfl ?_
  refine lv_aload_n hx hb dJ8_toString_4 rfl (lv_at hl 0 rfl) ?_
  obtain ⟨v2, hv2, hf⟩ := ob_s hf
  obtain ⟨o3, hf, hT⟩ := TL_c hT hf
  refine mc_J8_137 (fE := fE) (lE := lE) S hS hB hv2 hl.1 ⟨(by show _ ≤ (fE + 5); omega), (by show _ ≤ (lE + 211); omega)⟩ (Nat.le_of_ble_eq_true rfl) ⟨(TL_m hT).1, (TL_m hT).2⟩ dJ8_toString_5 (fun H locs _ hB => ?_)
  have hE9 := TL_e hT hf
  subst hE9
  exact bt_a S hr (Or.inl ⟨_, rfl⟩) hlocks hB (by omega) trivial dJ8_toString_8
set_option maxRecDepth 100000 in
theorem mc_X1_583 {o : Nat} {out : Nat × AH × Nat × Nat} (S : CallFix p m c cc nL s args lw_all RX1) (hS : SK G E.1 hSites A s) (hB : BI G A s.heap h nx H locs) (ho : isO h o 12 = true) (hf : f_J8_toString E h nx o = some out) (hsz : ls.size = nL) (hR : (fE + 5) + 1 ≤ R.frames ∧ 8 + (1 + 11) + (lE + 211) ≤ R.locals) (hW : (rest.map fun v => v.category).sum ≤ 8) (hcs : cells + out.2.2.1 ≤ R.cells ∧ slots + out.2.2.2 ≤ R.slots) (hdg : decode cc pc = .ok (.invokevirtual 583, 3))  (kk : ∀ (H1 : Heap) (locs1 : List Loc), True → BI G A s.heap out.2.1 (nx + out.2.2.1) H1 locs1 → W p l e R s m args below meth c H1 locs1 (cells + out.2.2.1) (slots + out.2.2.2) Q (F0 m (pc + 3) ls (.ref out.1 :: rest))) : W p l e R s m args below meth c H locs cells slots Q (F0 m pc ls (.ref o :: rest)) := by
  have hN := hS.2.1
  obtain ⟨fs, he⟩ := isO_s ho
  exact br_w (va_runV (As := []) S (mm_J8_toString (l := l) (G := G) (fE := fE) (lE := lE) hf) (cwV 0 S.2.2.2.2 (lw_V q1922 q769 q770 q186 q771) rfl rfl rfl hd_J8_toString hR) (bPreV hS hB (ci := 12) rfl he) rfl rfl hsz rfl (lv_room hW) hdg hcs) hB kk
set_option maxRecDepth 100000 in
theorem mc_X4_77 {o : Nat} {out : Nat × AH × Nat × Nat} (S : CallFix p m c cc nL s args lw_all RX4) (hS : SK G E.1 hSites A s) (hB : BI G A s.heap h nx H locs) (ho : isO h o 12 = true) (hf : f_J8_toString E h nx o = some out) (hsz : ls.size = nL) (hR : (fE + 5) + 1 ≤ R.frames ∧ 8 + (1 + 11) + (lE + 211) ≤ R.locals) (hW : (rest.map fun v => v.category).sum ≤ 8) (hcs : cells + out.2.2.1 ≤ R.cells ∧ slots + out.2.2.2 ≤ R.slots) (hdg : decode cc pc = .ok (.invokevirtual 77, 3))  (kk : ∀ (H1 : Heap) (locs1 : List Loc), True → BI G A s.heap out.2.1 (nx + out.2.2.1) H1 locs1 → W p l e R s m args below meth c H1 locs1 (cells + out.2.2.1) (slots + out.2.2.2) Q (F0 m (pc + 3) ls (.ref out.1 :: rest))) : W p l e R s m args below meth c H locs cells slots Q (F0 m pc ls (.ref o :: rest)) := by
  have hN := hS.2.1
  obtain ⟨fs, he⟩ := isO_s ho
  exact br_w (va_runV (As := []) S (mm_J8_toString (l := l) (G := G) (fE := fE) (lE := lE) hf) (cwV 0 S.2.2.2.2 (lw_V q768 q769 q770 q186 q771) rfl rfl rfl hd_J8_toString hR) (bPreV hS hB (ci := 12) rfl he) rfl rfl hsz rfl (lv_room hW) hdg hcs) hB kk
theorem hd_J7_newCapacity : yJ7_newCapacity.cls = RJ7 ∧ yJ7_newCapacity.cls ≠ "java/lang/invoke/MethodHandle" ∧ yJ7_newCapacity.cls ≠ "java/lang/invoke/VarHandle" ∧ (parseMethodDescriptor yJ7_newCapacity.desc).map (fun d => d.parameters.length) = some 1 := by decide +kernel
set_option maxHeartbeats 4000000 in
set_option maxRecDepth 100000 in
theorem mm_J7_newCapacity {o : Nat} {a0 : Int32} {out : Int32} (hf : f_J7_newCapacity E h o a0 = some out) : Met l yJ7_newCapacity (ws_ yJ7_newCapacity cJ7_newCapacity 6 (some .int)) (rM (fE + 2) (lE + 44)) (bPc G E.1 hSites h nx [.ref o, .int a0]) (gR (some (.int out)) True) 0 0 (fun _ => False) := by
  refine bGo (by decide +kernel) (Nat.le_of_ble_eq_true rfl) (fun p e s m below meth c ls S hr hlocks hin hnm hS hB hl => ?_)
  have S : CallFix p m c cJ7_newCapacity 6 s _ lw_all RJ7 := S
  obtain ⟨hx, hb, hml, hown, hts⟩ := id S
  have hl : lv_has ls 6 [(0, .ref o), (1, .int a0)] := hl
  rw [f_J7_newCapacity] at hf
  refine lv_aload_n hx hb dJ7_newCapacity_0 rfl (lv_at hl 0 rfl) ?_
  obtain ⟨v1, hv1, hf⟩ := ob_s hf
  refine bg_J7_15 S hS hB (vR_s hv1) dJ7_newCapacity_1 ?_
  obtain ⟨v2, hv2, hf⟩ := ob_s hf
  refine b_alen S hS.1 hB hv2 dJ7_newCapacity_4 ?_
  refine lv_istore_n (i := 2) (lv' := [(2, .int v2), (0, .ref o), (1, .int a0)]) hx hb dJ7_newCapacity_5 rfl hl (by decide) rfl (fun ls hl => ?_)
  refine lv_iload_n hx hb dJ7_newCapacity_6 rfl (lv_at hl 2 rfl) ?_
  refine lv_aload_n hx hb dJ7_newCapacity_7 rfl (lv_at hl 1 rfl) ?_
  obtain ⟨v3, hv3, hf⟩ := ob_s hf
  refine bg_J7_22 S hS hB (vI_s hv3) dJ7_newCapacity_8 ?_
  refine lv_ishl hx hb dJ7_newCapacity_11 ?_
  refine lv_istore_n (i := 3) (lv' := [(3, .int (a0 <<< (v3 &&& 31))), (2, .int v2), (0, .ref o), (1, .int a0)]) hx hb dJ7_newCapacity_12 rfl hl (by decide) rfl (fun ls hl => ?_)
  refine lv_iload_n hx hb dJ7_newCapacity_13 rfl (lv_at hl 0 rfl) ?_
  refine lv_iload_n hx hb dJ7_newCapacity_14 rfl (lv_at hl 1 rfl) ?_
  refine lv_isub hx hb dJ7_newCapacity_15 ?_
  refine lv_istore (lv' := [(4, .int ((a0 <<< (v3 &&& 31)) - v2)), (3, .int (a0 <<< (v3 &&& 31))), (2, .int v2), (0, .ref o), (1, .int a0)]) hx hb dJ7_newCapacity_16 hl (by decide) rfl (fun ls hl => ?_)
  refine lv_iload_n hx hb dJ7_newCapacity_18 rfl (lv_at hl 2 rfl) ?_
  refine lv_iload hx hb dJ7_newCapacity_19 (lv_at hl 0 rfl) ?_
  refine lv_iload_n hx hb dJ7_newCapacity_21 rfl (lv_at hl 2 rfl) ?_
  refine lv_iconst hx hb dJ7_newCapacity_22 kc_i2 ?_
  refine lv_aload_n hx hb dJ7_newCapacity_23 rfl (lv_at hl 3 rfl) ?_
  obtain ⟨v4, hv4, hf⟩ := ob_s hf
  refine bg_J7_22 S hS hB (vI_s hv4) dJ7_newCapacity_24 ?_
  refine lv_ishl hx hb dJ7_newCapacity_27 ?_
  refine lv_iadd hx hb dJ7_newCapacity_28 ?_
  obtain ⟨v5, hv5, hf⟩ := ob_s hf
  refine mc_J7_114 S hS.1 hv5 hl.1 ⟨(by show _ ≤ (fE + 2); omega), (by show _ ≤ (lE + 44); omega)⟩ (Nat.le_of_ble_eq_true rfl) ⟨Nat.zero_le _, Nat.zero_le _⟩ dJ7_newCapacity_29 (fun _ => ?_)
  refine lv_istore (lv' := [(5, .int v5), (4, .int ((a0 <<< (v3 &&& 31)) - v2)), (3, .int (a0 <<< (v3 &&& 31))), (2, .int v2), (0, .ref o), (1, .int a0)]) hx hb dJ7_newCapacity_32 hl (by decide) rfl (fun ls hl => ?_)
  refine lv_iload hx hb dJ7_newCapacity_34 (lv_at hl 0 rfl) ?_
  refine lv_ldc hx hb hown (hts _ q702) dJ7_newCapacity_36 ?_
  refine lv_icmp_ne (tgt := 51) hx hb dJ7_newCapacity_38 (by decide) (fun c6 => ?_) (fun c6 => ?_)
  · replace hf := it_f c6 hf
    refine lv_iload hx hb dJ7_newCapacity_51 (lv_at hl 0 rfl) ?_
    refine lv_aload_n hx hb dJ7_newCapacity_53 rfl (lv_at hl 4 rfl) ?_
    obtain ⟨v7, hv7, hf⟩ := ob_s hf
    refine bg_J7_22 S hS hB (vI_s hv7) dJ7_newCapacity_54 ?_
    refine lv_ishr hx hb dJ7_newCapacity_57 ?_
    have hE9 := Option.some.inj hf
    subst hE9
    exact gt_ri S hr hlocks trivial dJ7_newCapacity_58
  · replace hf := it_t c6 hf
    exact absurd hf (by nofun)
set_option maxRecDepth 100000 in
theorem mc_J7_104 {o : Nat} {a0 : Int32} {out : Int32} (S : CallFix p m c cc nL s args lw_all RJ7) (hS : SK G E.1 hSites A s) (hB : BI G A s.heap h nx H locs) (ho : isO h o 12 = true) (hf : f_J7_newCapacity E h o a0 = some out) (hsz : ls.size = nL) (hR : (fE + 2) + 1 ≤ R.frames ∧ 8 + (6 + 11) + (lE + 44) ≤ R.locals) (hW : (rest.map fun v => v.category).sum ≤ 8) (hcs : cells ≤ R.cells ∧ slots ≤ R.slots) (hdg : decode cc pc = .ok (.invokevirtual 104, 3))  (kk : True → W p l e R s m args below meth c H locs cells slots Q (F0 m (pc + 3) ls (.int out :: rest))) : W p l e R s m args below meth c H locs cells slots Q (F0 m pc ls (.int a0 :: .ref o :: rest)) := by
  have hN := hS.2.1
  obtain ⟨fs, he⟩ := isO_s ho
  exact br_r (b_runP (As := [.int a0]) S (hS.2.1 _ q691 rfl) (mm_J7_newCapacity (l := l) (G := G) (nx := nx) (fE := fE) (lE := lE) hf) (callB_of 1 S.2.2.2.2 (lw_meth q693) rfl rfl rfl (S.2.2.2.2 _ q185) (S.2.2.2.2 _ q690) hd_J7_newCapacity.2 hR) (S.2.2.2.2 _ q2649) (S.2.2.2.2 _ q692) (bPreV hS hB (ci := 12) rfl he) rfl rfl hsz rfl (lv_room hW) hdg hcs) kk
theorem hd_J12_copyOf : yJ12_copyOf.cls ≠ "java/lang/invoke/MethodHandle" ∧ yJ12_copyOf.cls ≠ "java/lang/invoke/VarHandle" ∧ (parseMethodDescriptor yJ12_copyOf.desc).map (fun d => d.parameters.length) = some 2 := by decide +kernel
set_option maxHeartbeats 4000000 in
set_option maxRecDepth 100000 in
theorem mm_J12_copyOf {a0 : Nat} {a1 : Int32} {out : Nat × AH × Nat × Nat} (hf : f_J12_copyOf E h nx a0 a1 = some out) : Met l yJ12_copyOf (ws_ yJ12_copyOf cJ12_copyOf 3 (some (.array .byte))) (rC (fE + 1) (lE + 120) out.2.2.1 out.2.2.2) (bPc G E.1 hSites h nx [.ref a0, .int a1]) (bQ G (some (.ref out.1)) True out.2.1 (nx + out.2.2.1) (AA h nx)) out.2.2.1 out.2.2.2 (AA h nx) := by
  refine bGo (by decide +kernel) (Nat.le_of_ble_eq_true rfl) (fun p e s m below meth c ls S hr hlocks hin hnm hS hB hl => ?_)
  have S : CallFix p m c cJ12_copyOf 3 s _ lw_all RJ12 := S
  obtain ⟨hx, hb, hml, hown, hts⟩ := id S
  have hl : lv_has ls 3 [(0, .ref a0), (1, .int a1)] := hl
  have hT : TL out out 0 0 := TL_0
  rw [f_J12_copyOf] at hf
  refine lv_iload_n hx hb dJ12_copyOf_0 rfl (lv_at hl 1 rfl) ?_
  refine lv_aload_n hx hb dJ12_copyOf_1 rfl (lv_at hl 0 rfl) ?_
  obtain ⟨v1, hv1, hf⟩ := ob_s hf
  refine b_alen S hS.1 hB hv1 dJ12_copyOf_2 ?_
  refine lv_icmp_ne (tgt := 14) hx hb dJ12_copyOf_3 (by decide) (fun c2 => ?_) (fun c2 => ?_)
  · replace hf := it_f c2 hf
    refine lv_iload_n hx hb dJ12_copyOf_14 rfl (lv_at hl 1 rfl) ?_
    obtain ⟨g3, hf⟩ := gd_t hf
    obtain ⟨o4, hf, hT⟩ := TL_c hT hf
    refine b_newB S hS hB rfl g3 (TL_m hT).1 (TL_m hT).2 dJ12_copyOf_15 (fun H hB => ?_)
    refine lv_astore_n (i := 2) (lv' := [(2, .ref nx), (0, .ref a0), (1, .int a1)]) hx hb dJ12_copyOf_17 rfl hl (by decide) rfl (fun ls hl => ?_)
    refine lv_aload_n hx hb dJ12_copyOf_18 rfl (lv_at hl 1 rfl) ?_
    refine lv_iconst hx hb dJ12_copyOf_19 kc_i0 ?_
    refine lv_aload_n hx hb dJ12_copyOf_20 rfl (lv_at hl 0 rfl) ?_
    refine lv_iconst hx hb dJ12_copyOf_21 kc_i0 ?_
    refine lv_aload_n hx hb dJ12_copyOf_22 rfl (lv_at hl 1 rfl) ?_
    obtain ⟨v5, hv5, hf⟩ := ob_s hf
    refine b_alen S hS.1 hB hv5 dJ12_copyOf_23 ?_
    refine lv_iload_n hx hb dJ12_copyOf_24 rfl (lv_at hl 2 rfl) ?_
    obtain ⟨v6, hv6, hf⟩ := ob_s hf
    refine mc_J12_304 S hS.1 hv6 hl.1 ⟨(by show _ ≤ (fE + 1); omega), (by show _ ≤ (lE + 120); omega)⟩ (Nat.le_of_ble_eq_true rfl) ⟨(TL_m hT).1, (TL_m hT).2⟩ dJ12_copyOf_25 (fun _ => ?_)
    obtain ⟨h7, hh7, hf⟩ := ob_s hf
    refine b_copyI S hS.1 hB (by rw [hml]; exact hl.1.symm) (hts _ q716) (hts _ q257) (hts _ q256) (hts _ q179) 2 rfl rfl hh7 (by show _ ≤ (fE + 1); omega) (by show _ ≤ (lE + 120); simp only [List.map, List.sum_cons, List.sum_nil, Value.category]; exact Nat.le_trans (Nat.le_of_ble_eq_true rfl : _ ≤ 120) (by omega)) dJ12_copyOf_28 (fun H locs hB => ?_)
    refine lv_aload_n hx hb dJ12_copyOf_31 rfl (lv_at hl 0 rfl) ?_
    have hE9 := TL_e hT hf
    subst hE9
    exact bt_a S hr (Or.inr ⟨_, rfl⟩) hlocks hB (by omega) trivial dJ12_copyOf_32
  · replace hf := it_t c2 hf
    refine lv_aload_n hx hb dJ12_copyOf_6 rfl (lv_at hl 0 rfl) ?_
    obtain ⟨v8, hv8, hf⟩ := ob_s hf
    obtain ⟨o9, hf, hT⟩ := TL_c hT hf
    refine b_clone S hS hB (by rw [hml]; exact hl.1.symm) (hts _ q706) (hts _ q707) (hts _ q708) (hts _ q709) (hts _ q710) q711 hv8 (by show _ ≤ (fE + 1); omega) (by show _ ≤ (lE + 120); simp only [List.map, List.sum_cons, List.sum_nil, Value.category]; omega) (TL_m hT).1 (TL_m hT).2 dJ12_copyOf_7 (fun H hB => ?_)
    obtain ⟨g10, hf⟩ := gd_t hf
    refine b_castA S hB 2 rfl (hS.1.2 2 _ rfl).2 (hts _ q712) g10 dJ12_copyOf_10 ?_
    have hE9 := TL_e hT hf
    subst hE9
    exact bt_a S hr (Or.inr ⟨_, rfl⟩) hlocks hB (by omega) trivial dJ12_copyOf_13
set_option maxRecDepth 100000 in
theorem mc_J7_108 {a0 : Nat} {a1 : Int32} {out : Nat × AH × Nat × Nat} (S : CallFix p m c cc nL s args lw_all RJ7) (hS : SK G E.1 hSites A s) (hB : BI G A s.heap h nx H locs) (hf : f_J12_copyOf E h nx a0 a1 = some out) (hsz : ls.size = nL) (hR : (fE + 1) + 1 ≤ R.frames ∧ 8 + (3 + 11) + (lE + 120) ≤ R.locals) (hW : (rest.map fun v => v.category).sum ≤ 8) (hcs : cells + out.2.2.1 ≤ R.cells ∧ slots + out.2.2.2 ≤ R.slots) (hdg : decode cc pc = .ok (.invokestatic 108, 3))  (kk : ∀ (H1 : Heap) (locs1 : List Loc), True → BI G A s.heap out.2.1 (nx + out.2.2.1) H1 locs1 → W p l e R s m args below meth c H1 locs1 (cells + out.2.2.1) (slots + out.2.2.2) Q (F0 m (pc + 3) ls (.ref out.1 :: rest))) : W p l e R s m args below meth c H locs cells slots Q (F0 m pc ls (.int a1 :: .ref a0 :: rest)) := by
  have hN := hS.2.1
  exact br_w (va_runS (As := [.ref a0, .int a1]) S (mm_J12_copyOf (l := l) (G := G) (fE := fE) (lE := lE) hf) (va_cwS 2 S.2.2.2.2 (lw_S q703 q704 q192 q705) rfl rfl rfl hd_J12_copyOf hR) (bPreS hS hB) rfl rfl hsz rfl (lv_room hW) hdg hcs) hB kk
theorem hd_J7_ensureCapacityInternal : yJ7_ensureCapacityInternal.cls = RJ7 ∧ yJ7_ensureCapacityInternal.cls ≠ "java/lang/invoke/MethodHandle" ∧ yJ7_ensureCapacityInternal.cls ≠ "java/lang/invoke/VarHandle" ∧ (parseMethodDescriptor yJ7_ensureCapacityInternal.desc).map (fun d => d.parameters.length) = some 1 := by decide +kernel
set_option maxHeartbeats 4000000 in
set_option maxRecDepth 100000 in
theorem mm_J7_ensureCapacityInternal {o : Nat} {a0 : Int32} {out : Unit × AH × Nat × Nat} (hf : f_J7_ensureCapacityInternal E h nx o a0 = some out) : Met l yJ7_ensureCapacityInternal (ws_ yJ7_ensureCapacityInternal cJ7_ensureCapacityInternal 3 none) (rC (fE + 3) (lE + 142) out.2.2.1 out.2.2.2) (bPc G E.1 hSites h nx [.ref o, .int a0]) (bQ G none True out.2.1 (nx + out.2.2.1) (AA h nx)) out.2.2.1 out.2.2.2 (AA h nx) := by
  refine bGo (by decide +kernel) (Nat.le_of_ble_eq_true rfl) (fun p e s m below meth c ls S hr hlocks hin hnm hS hB hl => ?_)
  have S : CallFix p m c cJ7_ensureCapacityInternal 3 s _ lw_all RJ7 := S
  obtain ⟨hx, hb, hml, hown, hts⟩ := id S
  have hl : lv_has ls 3 [(0, .ref o), (1, .int a0)] := hl
  have hT : TL out out 0 0 := TL_0
  rw [f_J7_ensureCapacityInternal] at hf
  refine lv_aload_n hx hb dJ7_ensureCapacityInternal_0 rfl (lv_at hl 0 rfl) ?_
  obtain ⟨v1, hv1, hf⟩ := ob_s hf
  refine bg_J7_15 S hS hB (vR_s hv1) dJ7_ensureCapacityInternal_1 ?_
  obtain ⟨v2, hv2, hf⟩ := ob_s hf
  refine b_alen S hS.1 hB hv2 dJ7_ensureCapacityInternal_4 ?_
  refine lv_aload_n hx hb dJ7_ensureCapacityInternal_5 rfl (lv_at hl 0 rfl) ?_
  obtain ⟨v3, hv3, hf⟩ := ob_s hf
  refine bg_J7_22 S hS hB (vI_s hv3) dJ7_ensureCapacityInternal_6 ?_
  refine lv_ishr hx hb dJ7_ensureCapacityInternal_9 ?_
  refine lv_istore_n (i := 2) (lv' := [(2, .int (v2 >>> (v3 &&& 31))), (0, .ref o), (1, .int a0)]) hx hb dJ7_ensureCapacityInternal_10 rfl hl (by decide) rfl (fun ls hl => ?_)
  refine lv_iload_n hx hb dJ7_ensureCapacityInternal_11 rfl (lv_at hl 2 rfl) ?_
  refine lv_iload_n hx hb dJ7_ensureCapacityInternal_12 rfl (lv_at hl 0 rfl) ?_
  refine lv_isub hx hb dJ7_ensureCapacityInternal_13 ?_
  refine lv_if_le (tgt := 38) hx hb dJ7_ensureCapacityInternal_14 (by decide) (fun c4 => ?_) (fun c4 => ?_)
  · replace hf := it_t c4 hf
    have hE9 := TL_e hT hf
    subst hE9
    exact bt_v S hr hlocks hB (by omega) trivial dJ7_ensureCapacityInternal_38
  · replace hf := it_f c4 hf
    refine lv_aload_n hx hb dJ7_ensureCapacityInternal_17 rfl (lv_at hl 1 rfl) ?_
    refine lv_aload_n hx hb dJ7_ensureCapacityInternal_18 rfl (lv_at hl 1 rfl) ?_
    obtain ⟨v5, hv5, hf⟩ := ob_s hf
    refine bg_J7_15 S hS hB (vR_s hv5) dJ7_ensureCapacityInternal_19 ?_
    refine lv_aload_n hx hb dJ7_ensureCapacityInternal_22 rfl (lv_at hl 1 rfl) ?_
    refine lv_iload_n hx hb dJ7_ensureCapacityInternal_23 rfl (lv_at hl 2 rfl) ?_
    obtain ⟨g6, hf⟩ := gd_t hf
    obtain ⟨v7, hv7, hf⟩ := ob_s hf
    refine mc_J7_104 (fE := fE) (lE := lE) S hS hB g6 hv7 hl.1 ⟨(by show _ ≤ (fE + 3); omega), (by show _ ≤ (lE + 142); omega)⟩ (Nat.le_of_ble_eq_true rfl) ⟨(TL_m hT).1, (TL_m hT).2⟩ dJ7_ensureCapacityInternal_24 (fun _ => ?_)
    refine lv_aload_n hx hb dJ7_ensureCapacityInternal_27 rfl (lv_at hl 1 rfl) ?_
    obtain ⟨v8, hv8, hf⟩ := ob_s hf
    refine bg_J7_22 S hS hB (vI_s hv8) dJ7_ensureCapacityInternal_28 ?_
    refine lv_ishl hx hb dJ7_ensureCapacityInternal_31 ?_
    obtain ⟨v9, hv9, hf⟩ := ob_s hf
    obtain ⟨o10, hf, hT⟩ := TL_c hT hf
    refine mc_J7_108 (fE := fE) (lE := lE) S hS hB hv9 hl.1 ⟨(by show _ ≤ (fE + 3); omega), (by show _ ≤ (lE + 142); omega)⟩ (Nat.le_of_ble_eq_true rfl) ⟨(TL_m hT).1, (TL_m hT).2⟩ dJ7_ensureCapacityInternal_32 (fun H locs _ hB => ?_)
    obtain ⟨h11, hh11, hf⟩ := ob_s hf
    refine bp_J7_15 S hS hB hh11 dJ7_ensureCapacityInternal_35 (fun H locs hB => ?_)
    have hE9 := TL_e hT hf
    subst hE9
    exact bt_v S hr hlocks hB (by omega) trivial dJ7_ensureCapacityInternal_38
set_option maxRecDepth 100000 in
theorem mc_J7_100 {o : Nat} {a0 : Int32} {out : Unit × AH × Nat × Nat} (S : CallFix p m c cc nL s args lw_all RJ7) (hS : SK G E.1 hSites A s) (hB : BI G A s.heap h nx H locs) (ho : isO h o 12 = true) (hf : f_J7_ensureCapacityInternal E h nx o a0 = some out) (hsz : ls.size = nL) (hR : (fE + 3) + 1 ≤ R.frames ∧ 8 + (3 + 11) + (lE + 142) ≤ R.locals) (hW : (rest.map fun v => v.category).sum ≤ 8) (hcs : cells + out.2.2.1 ≤ R.cells ∧ slots + out.2.2.2 ≤ R.slots) (hdg : decode cc pc = .ok (.invokevirtual 100, 3))  (kk : ∀ (H1 : Heap) (locs1 : List Loc), True → BI G A s.heap out.2.1 (nx + out.2.2.1) H1 locs1 → W p l e R s m args below meth c H1 locs1 (cells + out.2.2.1) (slots + out.2.2.2) Q (F0 m (pc + 3) ls (rest))) : W p l e R s m args below meth c H locs cells slots Q (F0 m pc ls (.int a0 :: .ref o :: rest)) := by
  have hN := hS.2.1
  obtain ⟨fs, he⟩ := isO_s ho
  exact br_v (b_runP (As := [.int a0]) S (hS.2.1 _ q687 rfl) (mm_J7_ensureCapacityInternal (l := l) (G := G) (fE := fE) (lE := lE) hf) (callB_of 1 S.2.2.2.2 (lw_meth q689) rfl rfl rfl (S.2.2.2.2 _ q185) (S.2.2.2.2 _ q686) hd_J7_ensureCapacityInternal.2 hR) (S.2.2.2.2 _ q2648) (S.2.2.2.2 _ q688) (bPreV hS hB (ci := 12) rfl he) rfl rfl hsz rfl (lv_room hW) hdg hcs) hB kk
theorem hd_J13_canEncode : yJ13_canEncode.cls ≠ "java/lang/invoke/MethodHandle" ∧ yJ13_canEncode.cls ≠ "java/lang/invoke/VarHandle" ∧ (parseMethodDescriptor yJ13_canEncode.desc).map (fun d => d.parameters.length) = some 1 := by decide +kernel
set_option maxHeartbeats 4000000 in
set_option maxRecDepth 100000 in
theorem mm_J13_canEncode {a0 : Int32} {out : Int32} (hf : f_J13_canEncode a0 = some out) : Met l yJ13_canEncode (ws_ yJ13_canEncode cJ13_canEncode 1 (some .boolean)) (rM 0 0) (gPc D cl tys [.int a0] []) (gR (some (.int out)) (narrow .boolean (.int out) = .int out)) 0 0 (fun _ => False) := by
  refine gGo (by decide +kernel) (Nat.le_of_ble_eq_true rfl) (fun p e s m below meth c ls S hr hlocks hK hP hl => ?_)
  have S : CallFix p m c cJ13_canEncode 1 s _ lw_all RJ13 := S
  obtain ⟨hx, hb, hml, hown, hts⟩ := id S
  have hl : lv_has ls 1 [(0, .int a0)] := hl
  rw [f_J13_canEncode] at hf
  refine lv_iload_n hx hb dJ13_canEncode_0 rfl (lv_at hl 0 rfl) ?_
  refine lv_sipush hx hb dJ13_canEncode_1 kc_s255 ?_
  refine lv_icmp_gt (tgt := 11) hx hb dJ13_canEncode_4 (by decide) (fun c1 => ?_) (fun c1 => ?_)
  · replace hf := it_t c1 hf
    refine lv_iconst hx hb dJ13_canEncode_11 kc_i0 ?_
    have hE9 := Option.some.inj hf
    subst hE9
    exact gt_rz S hr hlocks nb0 dJ13_canEncode_12
  · replace hf := it_f c1 hf
    refine lv_iconst hx hb dJ13_canEncode_7 kc_i1 ?_
    refine lv_goto (tgt := 12) hx hb dJ13_canEncode_8 (by decide) ?_
    have hE9 := Option.some.inj hf
    subst hE9
    exact gt_rz S hr hlocks nb1 dJ13_canEncode_12
set_option maxRecDepth 100000 in
theorem mc_J7_191 {a0 : Int32} {out : Int32} (S : CallFix p m c cc nL s args lw_all RJ7) (hK : va_K D cl tys s) (hf : f_J13_canEncode a0 = some out) (hsz : ls.size = nL) (hR : 0 + 1 ≤ R.frames ∧ 8 + (1 + 11) + 0 ≤ R.locals) (hW : (rest.map fun v => v.category).sum ≤ 8) (hcs : cells ≤ R.cells ∧ slots ≤ R.slots) (hdg : decode cc pc = .ok (.invokestatic 191, 3))  (kk : (narrow .boolean (.int out) = .int out) → W p l e R s m args below meth c H locs cells slots Q (F0 m (pc + 3) ls (.int out :: rest))) : W p l e R s m args below meth c H locs cells slots Q (F0 m pc ls (.int a0 :: rest)) := by
  exact br_r (va_runS (As := [.int a0]) S (mm_J13_canEncode hf) (va_cwS 1 S.2.2.2.2 (lw_S q722 q723 q193 q724) rfl rfl rfl hd_J13_canEncode hR) (gPreS hK gP0) rfl rfl hsz rfl (lv_room hW) hdg hcs) kk
theorem hd_J7_append : yJ7_append.cls = RJ7 ∧ yJ7_append.cls ≠ "java/lang/invoke/MethodHandle" ∧ yJ7_append.cls ≠ "java/lang/invoke/VarHandle" ∧ (parseMethodDescriptor yJ7_append.desc).map (fun d => d.parameters.length) = some 1 := by decide +kernel
set_option maxHeartbeats 4000000 in
set_option maxRecDepth 100000 in
theorem mm_J7_append {o : Nat} {a0 : Int32} {out : Nat × AH × Nat × Nat} (hf : f_J7_append E h nx o a0 = some out) : Met l yJ7_append (ws_ yJ7_append cJ7_append 2 (some (.object "java/lang/AbstractStringBuilder"))) (rC (fE + 4) (lE + 164) out.2.2.1 out.2.2.2) (bPc G E.1 hSites h nx [.ref o, .int a0]) (bQ G (some (.ref out.1)) True out.2.1 (nx + out.2.2.1) (AA h nx)) out.2.2.1 out.2.2.2 (AA h nx) := by
  refine bGo (by decide +kernel) (Nat.le_of_ble_eq_true rfl) (fun p e s m below meth c ls S hr hlocks hin hnm hS hB hl => ?_)
  have S : CallFix p m c cJ7_append 2 s _ lw_all RJ7 := S
  obtain ⟨hx, hb, hml, hown, hts⟩ := id S
  have hl : lv_has ls 2 [(0, .ref o), (1, .int a0)] := hl
  have hT : TL out out 0 0 := TL_0
  rw [f_J7_append] at hf
  refine lv_aload_n hx hb dJ7_append_0 rfl (lv_at hl 0 rfl) ?_
  refine lv_aload_n hx hb dJ7_append_1 rfl (lv_at hl 0 rfl) ?_
  obtain ⟨v1, hv1, hf⟩ := ob_s hf
  refine bg_J7_79 S hS hB (vI_s hv1) dJ7_append_2 ?_
  refine lv_iconst hx hb dJ7_append_5 kc_i1 ?_
  refine lv_iadd hx hb dJ7_append_6 ?_
  obtain ⟨g2, hf⟩ := gd_t hf
  obtain ⟨v3, hv3, hf⟩ := ob_s hf
  obtain ⟨o4, hf, hT⟩ := TL_c hT hf
  refine mc_J7_100 (fE := fE) (lE := lE) S hS hB g2 hv3 hl.1 ⟨(by show _ ≤ (fE + 4); omega), (by show _ ≤ (lE + 164); omega)⟩ (Nat.le_of_ble_eq_true rfl) ⟨(TL_m hT).1, (TL_m hT).2⟩ dJ7_append_7 (fun H locs _ hB => ?_)
  refine lv_aload_n hx hb dJ7_append_10 rfl (lv_at hl 0 rfl) ?_
  obtain ⟨g5, hf⟩ := gd_t hf
  obtain ⟨v6, hv6, hf⟩ := ob_s hf
  refine mc_J7_83 (fE := fE) (lE := lE) S hS hB g5 hv6 hl.1 ⟨(by show _ ≤ (fE + 4); omega), (by show _ ≤ (lE + 164); omega)⟩ (Nat.le_of_ble_eq_true rfl) ⟨(TL_m hT).1, (TL_m hT).2⟩ dJ7_append_11 (fun hnv6 => ?_)
  refine lv_if_eq (tgt := 45) hx hb dJ7_append_14 (by decide) (fun c7 => ?_) (fun c7 => ?_)
  · replace hf := it_t c7 hf
    exact absurd hf (by nofun)
  · replace hf := it_f c7 hf
    refine lv_iload_n hx hb dJ7_append_17 rfl (lv_at hl 1 rfl) ?_
    obtain ⟨v8, hv8, hf⟩ := ob_s hf
    refine mc_J7_191 S hS.1 hv8 hl.1 ⟨(by show _ ≤ (fE + 4); omega), (by show _ ≤ (lE + 164); omega)⟩ (Nat.le_of_ble_eq_true rfl) ⟨(TL_m hT).1, (TL_m hT).2⟩ dJ7_append_18 (fun hnv8 => ?_)
    refine lv_if_eq (tgt := 45) hx hb dJ7_append_21 (by decide) (fun c9 => ?_) (fun c9 => ?_)
    · replace hf := it_t c9 hf
      exact absurd hf (by nofun)
    · replace hf := it_f c9 hf
      refine lv_aload_n hx hb dJ7_append_24 rfl (lv_at hl 0 rfl) ?_
      obtain ⟨v10, hv10, hf⟩ := ob_s hf
      refine bg_J7_15 S hS hB (vR_s hv10) dJ7_append_25 ?_
      refine lv_aload_n hx hb dJ7_append_28 rfl (lv_at hl 0 rfl) ?_
      refine lv_dup hx hb dJ7_append_29 rfl ?_
      obtain ⟨v11, hv11, hf⟩ := ob_s hf
      refine bg_J7_79 S hS hB (vI_s hv11) dJ7_append_30 ?_
      refine lv_dup_x1 hx hb dJ7_append_33 rfl rfl ?_
      refine lv_iconst hx hb dJ7_append_34 kc_i1 ?_
      refine lv_iadd hx hb dJ7_append_35 ?_
      obtain ⟨h12, hh12, hf⟩ := ob_s hf
      refine bp_J7_79 S hS hB hh12 dJ7_append_36 (fun H locs hB => ?_)
      refine lv_iload_n hx hb dJ7_append_39 rfl (lv_at hl 1 rfl) ?_
      refine lv_i2b hx hb dJ7_append_40 rfl ?_
      obtain ⟨h13, hh13, hf⟩ := ob_s hf
      refine b_bast S hS.1 hB hh13 dJ7_append_41 (fun H locs hB => ?_)
      refine lv_goto (tgt := 75) hx hb dJ7_append_42 (by decide) ?_
      refine lv_aload_n hx hb dJ7_append_75 rfl (lv_at hl 0 rfl) ?_
      have hE9 := TL_e hT hf
      subst hE9
      exact bt_a S hr (Or.inl ⟨_, rfl⟩) hlocks hB (by omega) trivial dJ7_append_76
set_option maxRecDepth 100000 in
theorem mc_J8_50 {o : Nat} {a0 : Int32} {out : Nat × AH × Nat × Nat} (S : CallFix p m c cc nL s args lw_all RJ8) (hS : SK G E.1 hSites A s) (hB : BI G A s.heap h nx H locs) (ho : isO h o 12 = true) (hf : f_J7_append E h nx o a0 = some out) (hsz : ls.size = nL) (hR : (fE + 4) + 1 ≤ R.frames ∧ 8 + (2 + 11) + (lE + 164) ≤ R.locals) (hW : (rest.map fun v => v.category).sum ≤ 8) (hcs : cells + out.2.2.1 ≤ R.cells ∧ slots + out.2.2.2 ≤ R.slots) (hdg : decode cc pc = .ok (.invokespecial 50, 3))  (kk : ∀ (H1 : Heap) (locs1 : List Loc), True → BI G A s.heap out.2.1 (nx + out.2.2.1) H1 locs1 → W p l e R s m args below meth c H1 locs1 (cells + out.2.2.1) (slots + out.2.2.2) Q (F0 m (pc + 3) ls (.ref out.1 :: rest))) : W p l e R s m args below meth c H locs cells slots Q (F0 m pc ls (.int a0 :: .ref o :: rest)) := by
  have hN := hS.2.1
  obtain ⟨fs, he⟩ := isO_s ho
  exact br_w (va_runSU (hS.1.1 12 _ rfl).2 (As := [.int a0]) S (mm_J7_append (l := l) (G := G) (fE := fE) (lE := lE) hf) (va_cwSU 1 S.2.2.2.2 (lw_app (c := ws_ yJ7_append cJ7_append 2 (some (.object "java/lang/AbstractStringBuilder"))) (fun w hw => by simp only [List.mem_cons, List.not_mem_nil, or_false] at hw; rcases hw with e | e | e | e | e <;> (rw [e]; first | exact q683 | exact q2647 | exact q580 | exact q684 | exact q185)) (lw_meth q685)) rfl rfl rfl (by decide +kernel) hR) (bPreV hS hB (ci := 12) rfl he) rfl rfl hsz rfl (lv_room hW) hdg hcs) hB kk
theorem hd_J8_append : yJ8_append.cls = RJ8 ∧ yJ8_append.cls ≠ "java/lang/invoke/MethodHandle" ∧ yJ8_append.cls ≠ "java/lang/invoke/VarHandle" ∧ (parseMethodDescriptor yJ8_append.desc).map (fun d => d.parameters.length) = some 1 := by decide +kernel
set_option maxHeartbeats 4000000 in
set_option maxRecDepth 100000 in
theorem mm_J8_append {o : Nat} {a0 : Int32} {out : Nat × AH × Nat × Nat} (hf : f_J8_append E h nx o a0 = some out) : Met l yJ8_append (ws_ yJ8_append cJ8_append 2 (some (.object "java/lang/StringBuilder"))) (rC (fE + 5) (lE + 185) out.2.2.1 out.2.2.2) (bPc G E.1 hSites h nx [.ref o, .int a0]) (bQ G (some (.ref out.1)) True out.2.1 (nx + out.2.2.1) (AA h nx)) out.2.2.1 out.2.2.2 (AA h nx) := by
  refine bGo (by decide +kernel) (Nat.le_of_ble_eq_true rfl) (fun p e s m below meth c ls S hr hlocks hin hnm hS hB hl => ?_)
  have S : CallFix p m c cJ8_append 2 s _ lw_all RJ8 := S
  obtain ⟨hx, hb, hml, hown, hts⟩ := id S
  have hl : lv_has ls 2 [(0, .ref o), (1, .int a0)] := hl
  have hT : TL out out 0 0 := TL_0
  rw [f_J8_append] at hf
  refine lv_aload_n hx hb dJ8_append_0 rfl (lv_at hl 0 rfl) ?_
  refine lv_iload_n hx hb dJ8_append_1 rfl (lv_at hl 1 rfl) ?_
  obtain ⟨g1, hf⟩ := gd_t hf
  obtain ⟨v2, hv2, hf⟩ := ob_s hf
  obtain ⟨o3, hf, hT⟩ := TL_c hT hf
  refine mc_J8_50 (fE := fE) (lE := lE) S hS hB g1 hv2 hl.1 ⟨(by show _ ≤ (fE + 5); omega), (by show _ ≤ (lE + 185); omega)⟩ (Nat.le_of_ble_eq_true rfl) ⟨(TL_m hT).1, (TL_m hT).2⟩ dJ8_append_2 (fun H locs _ hB => ?_)
  refine lv_pop hx hb dJ8_append_5 rfl ?_
  refine lv_aload_n hx hb dJ8_append_6 rfl (lv_at hl 0 rfl) ?_
  have hE9 := TL_e hT hf
  subst hE9
  exact bt_a S hr (Or.inl ⟨_, rfl⟩) hlocks hB (by omega) trivial dJ8_append_7
set_option maxRecDepth 100000 in
theorem mc_X1_571 {o : Nat} {a0 : Int32} {out : Nat × AH × Nat × Nat} (S : CallFix p m c cc nL s args lw_all RX1) (hS : SK G E.1 hSites A s) (hB : BI G A s.heap h nx H locs) (ho : isO h o 12 = true) (hf : f_J8_append E h nx o a0 = some out) (hsz : ls.size = nL) (hR : (fE + 5) + 1 ≤ R.frames ∧ 8 + (2 + 11) + (lE + 185) ≤ R.locals) (hW : (rest.map fun v => v.category).sum ≤ 8) (hcs : cells + out.2.2.1 ≤ R.cells ∧ slots + out.2.2.2 ≤ R.slots) (hdg : decode cc pc = .ok (.invokevirtual 571, 3))  (kk : ∀ (H1 : Heap) (locs1 : List Loc), True → BI G A s.heap out.2.1 (nx + out.2.2.1) H1 locs1 → W p l e R s m args below meth c H1 locs1 (cells + out.2.2.1) (slots + out.2.2.2) Q (F0 m (pc + 3) ls (.ref out.1 :: rest))) : W p l e R s m args below meth c H locs cells slots Q (F0 m pc ls (.int a0 :: .ref o :: rest)) := by
  have hN := hS.2.1
  obtain ⟨fs, he⟩ := isO_s ho
  exact br_w (va_runV (As := [.int a0]) S (mm_J8_append (l := l) (G := G) (fE := fE) (lE := lE) hf) (cwV 1 S.2.2.2.2 (lw_V q1927 q680 q681 q186 q682) rfl rfl rfl hd_J8_append hR) (bPreV hS hB (ci := 12) rfl he) rfl rfl hsz rfl (lv_room hW) hdg hcs) hB kk
set_option maxRecDepth 100000 in
theorem mc_X4_73 {o : Nat} {a0 : Int32} {out : Nat × AH × Nat × Nat} (S : CallFix p m c cc nL s args lw_all RX4) (hS : SK G E.1 hSites A s) (hB : BI G A s.heap h nx H locs) (ho : isO h o 12 = true) (hf : f_J8_append E h nx o a0 = some out) (hsz : ls.size = nL) (hR : (fE + 5) + 1 ≤ R.frames ∧ 8 + (2 + 11) + (lE + 185) ≤ R.locals) (hW : (rest.map fun v => v.category).sum ≤ 8) (hcs : cells + out.2.2.1 ≤ R.cells ∧ slots + out.2.2.2 ≤ R.slots) (hdg : decode cc pc = .ok (.invokevirtual 73, 3))  (kk : ∀ (H1 : Heap) (locs1 : List Loc), True → BI G A s.heap out.2.1 (nx + out.2.2.1) H1 locs1 → W p l e R s m args below meth c H1 locs1 (cells + out.2.2.1) (slots + out.2.2.2) Q (F0 m (pc + 3) ls (.ref out.1 :: rest))) : W p l e R s m args below meth c H locs cells slots Q (F0 m pc ls (.int a0 :: .ref o :: rest)) := by
  have hN := hS.2.1
  obtain ⟨fs, he⟩ := isO_s ho
  exact br_w (va_runV (As := [.int a0]) S (mm_J8_append (l := l) (G := G) (fE := fE) (lE := lE) hf) (cwV 1 S.2.2.2.2 (lw_V q679 q680 q681 q186 q682) rfl rfl rfl hd_J8_append hR) (bPreV hS hB (ci := 12) rfl he) rfl rfl hsz rfl (lv_room hW) hdg hcs) hB kk
theorem hd_X4_goesOn : yX4_goesOn.cls = RX4 ∧ yX4_goesOn.cls ≠ "java/lang/invoke/MethodHandle" ∧ yX4_goesOn.cls ≠ "java/lang/invoke/VarHandle" ∧ (parseMethodDescriptor yX4_goesOn.desc).map (fun d => d.parameters.length) = some 0 := by decide +kernel
set_option maxHeartbeats 4000000 in
set_option maxRecDepth 100000 in
theorem mm_X4_goesOn {o : Nat} {out : Unit × AH × Nat × Nat} (hf : f_X4_goesOn E h nx o = some out) : Met l yX4_goesOn (ws_ yX4_goesOn cX4_goesOn 2 none) (rC (fE + 6) (lE + 231) out.2.2.1 out.2.2.2) (bPc G E.1 hSites h nx [.ref o]) (bQ G none True out.2.1 (nx + out.2.2.1) (AA h nx)) out.2.2.1 out.2.2.2 (AA h nx) := by
  refine bGo (by decide +kernel) (Nat.le_of_ble_eq_true rfl) (fun p e s m below meth c ls S hr hlocks hin hnm hS hB hl => ?_)
  have S : CallFix p m c cX4_goesOn 2 s _ lw_all RX4 := S
  obtain ⟨hx, hb, hml, hown, hts⟩ := id S
  have hl : lv_has ls 2 [(0, .ref o)] := hl
  have w38 : ∀ (k8 : Nat → AH → Nat → Option (Unit × AH × Nat × Nat)), (∀ (b0 : Nat) (b1 : AH) (b2 : Nat) (ls : Array Slot) (H : Heap) (locs : List Loc) (ce sl : Nat) (o1 : Unit × AH × Nat × Nat), BI G (AA h nx) s.heap b1 b2 H locs → b2 = nx + ce → TL out o1 ce sl → lv_has ls 2 [(0, .ref b0)] → k8 b0 b1 b2 = some o1 → W p l e (rC (fE + 6) (lE + 231) out.2.2.1 out.2.2.2) s m ([.ref o] : List Value).toArray below meth c H locs ce sl (MQ below (bQ G none True out.2.1 (nx + out.2.2.1) (AA h nx)) ([.ref o] : List Value).toArray s out.2.2.1 out.2.2.2 (AA h nx)) (F0 m 8 ls [])) → ∀ (x0 : Nat) (hc : AH) (nc : Nat) (ls : Array Slot) (H : Heap) (locs : List Loc) (ce sl : Nat) (o1 : Unit × AH × Nat × Nat), BI G (AA h nx) s.heap hc nc H locs → nc = nx + ce → TL out o1 ce sl → lv_has ls 2 [(0, .ref x0)] → f_X4_goesOn_38 k8 E x0 hc nc = some o1 → W p l e (rC (fE + 6) (lE + 231) out.2.2.1 out.2.2.2) s m ([.ref o] : List Value).toArray below meth c H locs ce sl (MQ below (bQ G none True out.2.1 (nx + out.2.2.1) (AA h nx)) ([.ref o] : List Value).toArray s out.2.2.1 out.2.2.2 (AA h nx)) (F0 m 38 ls []) := by
    intro k8 hk8 x0 hc nc ls H locs ce sl o1 hB hn hT hl hf
    rw [f_X4_goesOn_38] at hf
    refine lv_aload_n hx hb dX4_goesOn_38 rfl (lv_at hl 0 rfl) ?_
    refine lv_dup hx hb dX4_goesOn_39 rfl ?_
    obtain ⟨v1, hv1, hf⟩ := ob_s hf
    refine bg_X4_60 S hS hB (vI_s hv1) dX4_goesOn_40 ?_
    refine lv_iconst hx hb dX4_goesOn_43 kc_i1 ?_
    refine lv_iadd hx hb dX4_goesOn_44 ?_
    obtain ⟨h2, hh2, hf⟩ := ob_s hf
    refine bp_X4_60 S hS hB hh2 dX4_goesOn_45 (fun H locs hB => ?_)
    refine lv_goto (tgt := 8) hx hb dX4_goesOn_48 (by decide) ?_
    exact hk8 x0 h2 nc ls H locs ce sl o1 hB (by omega) hT hl hf
  have w154 : ∀ (k107 : Nat → Nat → AH → Nat → Option (Unit × AH × Nat × Nat)), (∀ (b0 : Nat) (b1 : Nat) (b2 : AH) (b3 : Nat) (ls : Array Slot) (H : Heap) (locs : List Loc) (ce sl : Nat) (o1 : Unit × AH × Nat × Nat), BI G (AA h nx) s.heap b2 b3 H locs → b3 = nx + ce → TL out o1 ce sl → lv_has ls 2 [(0, .ref b0), (1, .ref b1)] → k107 b0 b1 b2 b3 = some o1 → W p l e (rC (fE + 6) (lE + 231) out.2.2.1 out.2.2.2) s m ([.ref o] : List Value).toArray below meth c H locs ce sl (MQ below (bQ G none True out.2.1 (nx + out.2.2.1) (AA h nx)) ([.ref o] : List Value).toArray s out.2.2.1 out.2.2.2 (AA h nx)) (F0 m 107 ls [])) → ∀ (x0 : Nat) (x1 : Nat) (hc : AH) (nc : Nat) (ls : Array Slot) (H : Heap) (locs : List Loc) (ce sl : Nat) (o1 : Unit × AH × Nat × Nat), BI G (AA h nx) s.heap hc nc H locs → nc = nx + ce → TL out o1 ce sl → lv_has ls 2 [(0, .ref x0), (1, .ref x1)] → f_X4_goesOn_154 k107 E x0 x1 hc nc = some o1 → W p l e (rC (fE + 6) (lE + 231) out.2.2.1 out.2.2.2) s m ([.ref o] : List Value).toArray below meth c H locs ce sl (MQ below (bQ G none True out.2.1 (nx + out.2.2.1) (AA h nx)) ([.ref o] : List Value).toArray s out.2.2.1 out.2.2.2 (AA h nx)) (F0 m 154 ls []) := by
    intro k107 hk107 x0 x1 hc nc ls H locs ce sl o1 hB hn hT hl hf
    rw [f_X4_goesOn_154] at hf
    refine lv_aload_n hx hb dX4_goesOn_154 rfl (lv_at hl 0 rfl) ?_
    refine lv_dup hx hb dX4_goesOn_155 rfl ?_
    obtain ⟨v1, hv1, hf⟩ := ob_s hf
    refine bg_X4_57 S hS hB (vI_s hv1) dX4_goesOn_156 ?_
    refine lv_iconst hx hb dX4_goesOn_159 kc_i1 ?_
    refine lv_iadd hx hb dX4_goesOn_160 ?_
    obtain ⟨h2, hh2, hf⟩ := ob_s hf
    refine bp_X4_57 S hS hB hh2 dX4_goesOn_161 (fun H locs hB => ?_)
    refine lv_goto (tgt := 107) hx hb dX4_goesOn_164 (by decide) ?_
    exact hk107 x0 x1 h2 nc ls H locs ce sl o1 hB (by omega) hT hl hf
  have w195 : ∀ (y0 : Nat) (y1 : Int32) (hc : AH) (nc : Nat) (ls : Array Slot) (H : Heap) (locs : List Loc) (ce sl : Nat) (o1 : Unit × AH × Nat × Nat), BI G (AA h nx) s.heap hc nc H locs → nc = nx + ce → TL out o1 ce sl → lv_has ls 2 [] → f_X4_goesOn_195 E y0 y1 hc nc = some o1 → W p l e (rC (fE + 6) (lE + 231) out.2.2.1 out.2.2.2) s m ([.ref o] : List Value).toArray below meth c H locs ce sl (MQ below (bQ G none True out.2.1 (nx + out.2.2.1) (AA h nx)) ([.ref o] : List Value).toArray s out.2.2.1 out.2.2.2 (AA h nx)) (F0 m 195 ls [.int y1, .ref y0]) := by
    intro y0 y1 hc nc ls H locs ce sl o1 hB hn hT hl hf
    rw [f_X4_goesOn_195] at hf
    obtain ⟨h1, hh1, hf⟩ := ob_s hf
    refine bp_X4_67 S hS hB hh1 dX4_goesOn_195 (fun H locs hB => ?_)
    refine lv_goto (tgt := 357) hx hb dX4_goesOn_198 (by decide) ?_
    have hE9 := TL_e hT hf
    subst hE9
    exact bt_v S hr hlocks hB (by omega) trivial dX4_goesOn_357
  have w107 : ∀ (n : Nat) , ∀ (x0 : Nat) (x1 : Nat) (hc : AH) (nc : Nat) (ls : Array Slot) (H : Heap) (locs : List Loc) (ce sl : Nat) (o1 : Unit × AH × Nat × Nat), BI G (AA h nx) s.heap hc nc H locs → nc = nx + ce → TL out o1 ce sl → lv_has ls 2 [(0, .ref x0), (1, .ref x1)] → f_X4_goesOn_107 n E x0 x1 hc nc = some o1 → W p l e (rC (fE + 6) (lE + 231) out.2.2.1 out.2.2.2) s m ([.ref o] : List Value).toArray below meth c H locs ce sl (MQ below (bQ G none True out.2.1 (nx + out.2.2.1) (AA h nx)) ([.ref o] : List Value).toArray s out.2.2.1 out.2.2.2 (AA h nx)) (F0 m 107 ls []) := by
    intro n
    induction n with
    | zero =>
      intro x0 x1 hc nc ls H locs ce sl o1 hB hn hT hl hf
      exact absurd hf (by rw [f_X4_goesOn_107]; exact nofun)
    | succ n ih =>
      intro x0 x1 hc nc ls H locs ce sl o1 hB hn hT hl hf
      rw [f_X4_goesOn_107] at hf
      refine lv_aload_n hx hb dX4_goesOn_107 rfl (lv_at hl 0 rfl) ?_
      refine lv_aload_n hx hb dX4_goesOn_108 rfl (lv_at hl 0 rfl) ?_
      obtain ⟨v1, hv1, hf⟩ := ob_s hf
      refine bg_X4_57 S hS hB (vI_s hv1) dX4_goesOn_109 ?_
      refine lv_bipush hx hb dX4_goesOn_112 kc_b97 ?_
      refine lv_bipush hx hb dX4_goesOn_114 kc_b122 ?_
      obtain ⟨g2, hf⟩ := gd_t hf
      obtain ⟨v3, hv3, hf⟩ := ob_s hf
      refine mc_X4_63 (fE := fE) (lE := lE) S hS hB g2 hv3 hl.1 ⟨(by show _ ≤ (fE + 6); omega), (by show _ ≤ (lE + 231); omega)⟩ (Nat.le_of_ble_eq_true rfl) ⟨(TL_m hT).1, (TL_m hT).2⟩ dX4_goesOn_116 (fun hnv3 => ?_)
      refine lv_if_eq (tgt := 167) hx hb dX4_goesOn_119 (by decide) (fun c4 => ?_) (fun c4 => ?_)
      · replace hf := it_t c4 hf
        refine lv_aload_n hx hb dX4_goesOn_167 rfl (lv_at hl 0 rfl) ?_
        refine lv_aload_n hx hb dX4_goesOn_168 rfl (lv_at hl 1 rfl) ?_
        obtain ⟨g5, hf⟩ := gd_t hf
        obtain ⟨v6, hv6, hf⟩ := ob_s hf
        obtain ⟨o7, hf, hT⟩ := TL_c hT hf
        refine mc_X4_77 (fE := fE) (lE := lE) S hS hB g5 hv6 hl.1 ⟨(by show _ ≤ (fE + 6); omega), (by show _ ≤ (lE + 231); omega)⟩ (Nat.le_of_ble_eq_true rfl) ⟨(TL_m hT).1, (TL_m hT).2⟩ dX4_goesOn_169 (fun H locs _ hB => ?_)
        obtain ⟨h8, hh8, hf⟩ := ob_s hf
        refine bp_X4_17 S hS hB hh8 dX4_goesOn_172 (fun H locs hB => ?_)
        refine lv_aload_n hx hb dX4_goesOn_175 rfl (lv_at hl 0 rfl) ?_
        refine lv_aload_n hx hb dX4_goesOn_176 rfl (lv_at hl 0 rfl) ?_
        obtain ⟨v9, hv9, hf⟩ := ob_s hf
        refine bg_X4_57 S hS hB (vI_s hv9) dX4_goesOn_177 ?_
        refine lv_aload_n hx hb dX4_goesOn_180 rfl (lv_at hl 0 rfl) ?_
        obtain ⟨v10, hv10, hf⟩ := ob_s hf
        refine bg_X4_60 S hS hB (vI_s hv10) dX4_goesOn_181 ?_
        refine lv_isub hx hb dX4_goesOn_184 ?_
        refine lv_bipush hx hb dX4_goesOn_185 kc_b8 ?_
        refine lv_icmp_le (tgt := 194) hx hb dX4_goesOn_187 (by decide) (fun c11 => ?_) (fun c11 => ?_)
        · replace hf := it_t c11 hf
          refine lv_iconst hx hb dX4_goesOn_194 kc_i1 ?_
          exact (w195) x0 1 h8 (nc + v6.2.2.1) ls H locs (ce + v6.2.2.1) (sl + v6.2.2.2) o7 hB (by omega) hT (lv_sub (l' := []) hl [] rfl) hf
        · replace hf := it_f c11 hf
          refine lv_iconst hx hb dX4_goesOn_190 kc_i4 ?_
          refine lv_goto (tgt := 195) hx hb dX4_goesOn_191 (by decide) ?_
          exact (w195) x0 (nI 4) h8 (nc + v6.2.2.1) ls H locs (ce + v6.2.2.1) (sl + v6.2.2.2) o7 hB (by omega) hT (lv_sub (l' := []) hl [] rfl) hf
      · replace hf := it_f c4 hf
        refine lv_aload_n hx hb dX4_goesOn_122 rfl (lv_at hl 0 rfl) ?_
        obtain ⟨v12, hv12, hf⟩ := ob_s hf
        refine bg_X4_57 S hS hB (vI_s hv12) dX4_goesOn_123 ?_
        refine lv_aload_n hx hb dX4_goesOn_126 rfl (lv_at hl 0 rfl) ?_
        obtain ⟨v13, hv13, hf⟩ := ob_s hf
        refine bg_X4_60 S hS hB (vI_s hv13) dX4_goesOn_127 ?_
        refine lv_isub hx hb dX4_goesOn_130 ?_
        refine lv_bipush hx hb dX4_goesOn_131 kc_b8 ?_
        refine lv_icmp_ge (tgt := 154) hx hb dX4_goesOn_133 (by decide) (fun c14 => ?_) (fun c14 => ?_)
        · replace hf := it_t c14 hf
          exact (w154 (f_X4_goesOn_107 n E) (ih)) x0 x1 hc nc ls H locs ce sl o1 hB (by omega) hT hl hf
        · replace hf := it_f c14 hf
          refine lv_aload_n hx hb dX4_goesOn_136 rfl (lv_at hl 1 rfl) ?_
          refine lv_aload_n hx hb dX4_goesOn_137 rfl (lv_at hl 0 rfl) ?_
          obtain ⟨v15, hv15, hf⟩ := ob_s hf
          refine bg_X4_3 S hS hB (vR_s hv15) dX4_goesOn_138 ?_
          obtain ⟨v16, hv16, hf⟩ := ob_s hf
          refine bg_X4_49 S hS hB (vR_s hv16) dX4_goesOn_141 ?_
          refine lv_aload_n hx hb dX4_goesOn_144 rfl (lv_at hl 0 rfl) ?_
          obtain ⟨v17, hv17, hf⟩ := ob_s hf
          refine bg_X4_57 S hS hB (vI_s hv17) dX4_goesOn_145 ?_
          obtain ⟨v18, hv18, hf⟩ := ob_s hf
          refine b_bald S hS.1 hB hv18 dX4_goesOn_148 ?_
          refine lv_i2c hx hb dX4_goesOn_149 rfl ?_
          obtain ⟨g19, hf⟩ := gd_t hf
          obtain ⟨v20, hv20, hf⟩ := ob_s hf
          obtain ⟨o21, hf, hT⟩ := TL_c hT hf
          refine mc_X4_73 (fE := fE) (lE := lE) S hS hB g19 hv20 hl.1 ⟨(by show _ ≤ (fE + 6); omega), (by show _ ≤ (lE + 231); omega)⟩ (Nat.le_of_ble_eq_true rfl) ⟨(TL_m hT).1, (TL_m hT).2⟩ dX4_goesOn_150 (fun H locs _ hB => ?_)
          refine lv_pop hx hb dX4_goesOn_153 rfl ?_
          exact (w154 (f_X4_goesOn_107 n E) (ih)) x0 x1 v20.2.1 (nc + v20.2.2.1) ls H locs (ce + v20.2.2.1) (sl + v20.2.2.2) o21 hB (by omega) hT hl hf
  have w280 : ∀ (k221 : Nat → AH → Nat → Option (Unit × AH × Nat × Nat)), (∀ (b0 : Nat) (b1 : AH) (b2 : Nat) (ls : Array Slot) (H : Heap) (locs : List Loc) (ce sl : Nat) (o1 : Unit × AH × Nat × Nat), BI G (AA h nx) s.heap b1 b2 H locs → b2 = nx + ce → TL out o1 ce sl → lv_has ls 2 [(0, .ref b0)] → k221 b0 b1 b2 = some o1 → W p l e (rC (fE + 6) (lE + 231) out.2.2.1 out.2.2.2) s m ([.ref o] : List Value).toArray below meth c H locs ce sl (MQ below (bQ G none True out.2.1 (nx + out.2.2.1) (AA h nx)) ([.ref o] : List Value).toArray s out.2.2.1 out.2.2.2 (AA h nx)) (F0 m 221 ls [])) → ∀ (x0 : Nat) (y0 : Nat) (y1 : Int32) (hc : AH) (nc : Nat) (ls : Array Slot) (H : Heap) (locs : List Loc) (ce sl : Nat) (o1 : Unit × AH × Nat × Nat), BI G (AA h nx) s.heap hc nc H locs → nc = nx + ce → TL out o1 ce sl → lv_has ls 2 [(0, .ref x0)] → f_X4_goesOn_280 k221 E x0 y0 y1 hc nc = some o1 → W p l e (rC (fE + 6) (lE + 231) out.2.2.1 out.2.2.2) s m ([.ref o] : List Value).toArray below meth c H locs ce sl (MQ below (bQ G none True out.2.1 (nx + out.2.2.1) (AA h nx)) ([.ref o] : List Value).toArray s out.2.2.1 out.2.2.2 (AA h nx)) (F0 m 280 ls [.int y1, .ref y0]) := by
    intro k221 hk221 x0 y0 y1 hc nc ls H locs ce sl o1 hB hn hT hl hf
    rw [f_X4_goesOn_280] at hf
    obtain ⟨h1, hh1, hf⟩ := ob_s hf
    refine bp_X4_81 S hS hB hh1 dX4_goesOn_280 (fun H locs hB => ?_)
    refine lv_aload_n hx hb dX4_goesOn_283 rfl (lv_at hl 0 rfl) ?_
    refine lv_dup hx hb dX4_goesOn_284 rfl ?_
    obtain ⟨v2, hv2, hf⟩ := ob_s hf
    refine bg_X4_57 S hS hB (vI_s hv2) dX4_goesOn_285 ?_
    refine lv_iconst hx hb dX4_goesOn_288 kc_i1 ?_
    refine lv_iadd hx hb dX4_goesOn_289 ?_
    obtain ⟨h3, hh3, hf⟩ := ob_s hf
    refine bp_X4_57 S hS hB hh3 dX4_goesOn_290 (fun H locs hB => ?_)
    refine lv_goto (tgt := 221) hx hb dX4_goesOn_293 (by decide) ?_
    exact hk221 x0 h3 nc ls H locs ce sl o1 hB (by omega) hT hl hf
  have w315 : ∀ (y0 : Nat) (y1 : Int32) (hc : AH) (nc : Nat) (ls : Array Slot) (H : Heap) (locs : List Loc) (ce sl : Nat) (o1 : Unit × AH × Nat × Nat), BI G (AA h nx) s.heap hc nc H locs → nc = nx + ce → TL out o1 ce sl → lv_has ls 2 [] → f_X4_goesOn_315 E y0 y1 hc nc = some o1 → W p l e (rC (fE + 6) (lE + 231) out.2.2.1 out.2.2.2) s m ([.ref o] : List Value).toArray below meth c H locs ce sl (MQ below (bQ G none True out.2.1 (nx + out.2.2.1) (AA h nx)) ([.ref o] : List Value).toArray s out.2.2.1 out.2.2.2 (AA h nx)) (F0 m 315 ls [.int y1, .ref y0]) := by
    intro y0 y1 hc nc ls H locs ce sl o1 hB hn hT hl hf
    rw [f_X4_goesOn_315] at hf
    obtain ⟨h1, hh1, hf⟩ := ob_s hf
    refine bp_X4_67 S hS hB hh1 dX4_goesOn_315 (fun H locs hB => ?_)
    refine lv_goto (tgt := 357) hx hb dX4_goesOn_318 (by decide) ?_
    have hE9 := TL_e hT hf
    subst hE9
    exact bt_v S hr hlocks hB (by omega) trivial dX4_goesOn_357
  have w221 : ∀ (n : Nat) , ∀ (x0 : Nat) (hc : AH) (nc : Nat) (ls : Array Slot) (H : Heap) (locs : List Loc) (ce sl : Nat) (o1 : Unit × AH × Nat × Nat), BI G (AA h nx) s.heap hc nc H locs → nc = nx + ce → TL out o1 ce sl → lv_has ls 2 [(0, .ref x0)] → f_X4_goesOn_221 n E x0 hc nc = some o1 → W p l e (rC (fE + 6) (lE + 231) out.2.2.1 out.2.2.2) s m ([.ref o] : List Value).toArray below meth c H locs ce sl (MQ below (bQ G none True out.2.1 (nx + out.2.2.1) (AA h nx)) ([.ref o] : List Value).toArray s out.2.2.1 out.2.2.2 (AA h nx)) (F0 m 221 ls []) := by
    intro n
    induction n with
    | zero =>
      intro x0 hc nc ls H locs ce sl o1 hB hn hT hl hf
      exact absurd hf (by rw [f_X4_goesOn_221]; exact nofun)
    | succ n ih =>
      intro x0 hc nc ls H locs ce sl o1 hB hn hT hl hf
      rw [f_X4_goesOn_221] at hf
      refine lv_aload_n hx hb dX4_goesOn_221 rfl (lv_at hl 0 rfl) ?_
      refine lv_aload_n hx hb dX4_goesOn_222 rfl (lv_at hl 0 rfl) ?_
      obtain ⟨v1, hv1, hf⟩ := ob_s hf
      refine bg_X4_57 S hS hB (vI_s hv1) dX4_goesOn_223 ?_
      refine lv_bipush hx hb dX4_goesOn_226 kc_b48 ?_
      refine lv_bipush hx hb dX4_goesOn_228 kc_b57 ?_
      obtain ⟨g2, hf⟩ := gd_t hf
      obtain ⟨v3, hv3, hf⟩ := ob_s hf
      refine mc_X4_63 (fE := fE) (lE := lE) S hS hB g2 hv3 hl.1 ⟨(by show _ ≤ (fE + 6); omega), (by show _ ≤ (lE + 231); omega)⟩ (Nat.le_of_ble_eq_true rfl) ⟨(TL_m hT).1, (TL_m hT).2⟩ dX4_goesOn_230 (fun hnv3 => ?_)
      refine lv_if_eq (tgt := 296) hx hb dX4_goesOn_233 (by decide) (fun c4 => ?_) (fun c4 => ?_)
      · replace hf := it_t c4 hf
        refine lv_aload_n hx hb dX4_goesOn_296 rfl (lv_at hl 0 rfl) ?_
        refine lv_aload_n hx hb dX4_goesOn_297 rfl (lv_at hl 0 rfl) ?_
        obtain ⟨v5, hv5, hf⟩ := ob_s hf
        refine bg_X4_57 S hS hB (vI_s hv5) dX4_goesOn_298 ?_
        refine lv_aload_n hx hb dX4_goesOn_301 rfl (lv_at hl 0 rfl) ?_
        obtain ⟨v6, hv6, hf⟩ := ob_s hf
        refine bg_X4_60 S hS hB (vI_s hv6) dX4_goesOn_302 ?_
        refine lv_isub hx hb dX4_goesOn_305 ?_
        refine lv_iconst hx hb dX4_goesOn_306 kc_i3 ?_
        refine lv_icmp_le (tgt := 314) hx hb dX4_goesOn_307 (by decide) (fun c7 => ?_) (fun c7 => ?_)
        · replace hf := it_t c7 hf
          refine lv_iconst hx hb dX4_goesOn_314 kc_i2 ?_
          exact (w315) x0 (nI 2) hc nc ls H locs ce sl o1 hB (by omega) hT (lv_sub (l' := []) hl [] rfl) hf
        · replace hf := it_f c7 hf
          refine lv_iconst hx hb dX4_goesOn_310 kc_i4 ?_
          refine lv_goto (tgt := 315) hx hb dX4_goesOn_311 (by decide) ?_
          exact (w315) x0 (nI 4) hc nc ls H locs ce sl o1 hB (by omega) hT (lv_sub (l' := []) hl [] rfl) hf
      · replace hf := it_f c4 hf
        refine lv_aload_n hx hb dX4_goesOn_236 rfl (lv_at hl 0 rfl) ?_
        refine lv_aload_n hx hb dX4_goesOn_237 rfl (lv_at hl 0 rfl) ?_
        obtain ⟨v8, hv8, hf⟩ := ob_s hf
        refine bg_X4_57 S hS hB (vI_s hv8) dX4_goesOn_238 ?_
        refine lv_aload_n hx hb dX4_goesOn_241 rfl (lv_at hl 0 rfl) ?_
        obtain ⟨v9, hv9, hf⟩ := ob_s hf
        refine bg_X4_60 S hS hB (vI_s hv9) dX4_goesOn_242 ?_
        refine lv_isub hx hb dX4_goesOn_245 ?_
        refine lv_iconst hx hb dX4_goesOn_246 kc_i3 ?_
        refine lv_icmp_ge (tgt := 276) hx hb dX4_goesOn_247 (by decide) (fun c10 => ?_) (fun c10 => ?_)
        · replace hf := it_t c10 hf
          refine lv_aload_n hx hb dX4_goesOn_276 rfl (lv_at hl 0 rfl) ?_
          obtain ⟨v11, hv11, hf⟩ := ob_s hf
          refine bg_X4_81 S hS hB (vI_s hv11) dX4_goesOn_277 ?_
          exact (w280 (f_X4_goesOn_221 n E) (ih)) x0 x0 v11 hc nc ls H locs ce sl o1 hB (by omega) hT hl hf
        · replace hf := it_f c10 hf
          refine lv_bipush hx hb dX4_goesOn_250 kc_b10 ?_
          refine lv_aload_n hx hb dX4_goesOn_252 rfl (lv_at hl 0 rfl) ?_
          obtain ⟨v12, hv12, hf⟩ := ob_s hf
          refine bg_X4_81 S hS hB (vI_s hv12) dX4_goesOn_253 ?_
          refine lv_imul hx hb dX4_goesOn_256 ?_
          refine lv_aload_n hx hb dX4_goesOn_257 rfl (lv_at hl 0 rfl) ?_
          obtain ⟨v13, hv13, hf⟩ := ob_s hf
          refine bg_X4_3 S hS hB (vR_s hv13) dX4_goesOn_258 ?_
          obtain ⟨v14, hv14, hf⟩ := ob_s hf
          refine bg_X4_49 S hS hB (vR_s hv14) dX4_goesOn_261 ?_
          refine lv_aload_n hx hb dX4_goesOn_264 rfl (lv_at hl 0 rfl) ?_
          obtain ⟨v15, hv15, hf⟩ := ob_s hf
          refine bg_X4_57 S hS hB (vI_s hv15) dX4_goesOn_265 ?_
          obtain ⟨v16, hv16, hf⟩ := ob_s hf
          refine b_bald S hS.1 hB hv16 dX4_goesOn_268 ?_
          refine lv_iadd hx hb dX4_goesOn_269 ?_
          refine lv_bipush hx hb dX4_goesOn_270 kc_b48 ?_
          refine lv_isub hx hb dX4_goesOn_272 ?_
          refine lv_goto (tgt := 280) hx hb dX4_goesOn_273 (by decide) ?_
          exact (w280 (f_X4_goesOn_221 n E) (ih)) x0 x0 ((((nI 10) * v12) + v16) - (nI 48)) hc nc ls H locs ce sl o1 hB (by omega) hT hl hf
  have w354 : ∀ (y0 : Nat) (y1 : Int32) (hc : AH) (nc : Nat) (ls : Array Slot) (H : Heap) (locs : List Loc) (ce sl : Nat) (o1 : Unit × AH × Nat × Nat), BI G (AA h nx) s.heap hc nc H locs → nc = nx + ce → TL out o1 ce sl → lv_has ls 2 [] → f_X4_goesOn_354 E y0 y1 hc nc = some o1 → W p l e (rC (fE + 6) (lE + 231) out.2.2.1 out.2.2.2) s m ([.ref o] : List Value).toArray below meth c H locs ce sl (MQ below (bQ G none True out.2.1 (nx + out.2.2.1) (AA h nx)) ([.ref o] : List Value).toArray s out.2.2.1 out.2.2.2 (AA h nx)) (F0 m 354 ls [.int y1, .ref y0]) := by
    intro y0 y1 hc nc ls H locs ce sl o1 hB hn hT hl hf
    rw [f_X4_goesOn_354] at hf
    obtain ⟨h1, hh1, hf⟩ := ob_s hf
    refine bp_X4_67 S hS hB hh1 dX4_goesOn_354 (fun H locs hB => ?_)
    have hE9 := TL_e hT hf
    subst hE9
    exact bt_v S hr hlocks hB (by omega) trivial dX4_goesOn_357
  have w8 : ∀ (n : Nat) , ∀ (x0 : Nat) (hc : AH) (nc : Nat) (ls : Array Slot) (H : Heap) (locs : List Loc) (ce sl : Nat) (o1 : Unit × AH × Nat × Nat), BI G (AA h nx) s.heap hc nc H locs → nc = nx + ce → TL out o1 ce sl → lv_has ls 2 [(0, .ref x0)] → f_X4_goesOn_8 n E x0 hc nc = some o1 → W p l e (rC (fE + 6) (lE + 231) out.2.2.1 out.2.2.2) s m ([.ref o] : List Value).toArray below meth c H locs ce sl (MQ below (bQ G none True out.2.1 (nx + out.2.2.1) (AA h nx)) ([.ref o] : List Value).toArray s out.2.2.1 out.2.2.2 (AA h nx)) (F0 m 8 ls []) := by
    intro n
    induction n with
    | zero =>
      intro x0 hc nc ls H locs ce sl o1 hB hn hT hl hf
      exact absurd hf (by rw [f_X4_goesOn_8]; exact nofun)
    | succ n ih =>
      intro x0 hc nc ls H locs ce sl o1 hB hn hT hl hf
      rw [f_X4_goesOn_8] at hf
      refine lv_aload_n hx hb dX4_goesOn_8 rfl (lv_at hl 0 rfl) ?_
      refine lv_aload_n hx hb dX4_goesOn_9 rfl (lv_at hl 0 rfl) ?_
      obtain ⟨v1, hv1, hf⟩ := ob_s hf
      refine bg_X4_60 S hS hB (vI_s hv1) dX4_goesOn_10 ?_
      refine lv_bipush hx hb dX4_goesOn_13 kc_b32 ?_
      refine lv_bipush hx hb dX4_goesOn_15 kc_b32 ?_
      obtain ⟨g2, hf⟩ := gd_t hf
      obtain ⟨v3, hv3, hf⟩ := ob_s hf
      refine mc_X4_63 (fE := fE) (lE := lE) S hS hB g2 hv3 hl.1 ⟨(by show _ ≤ (fE + 6); omega), (by show _ ≤ (lE + 231); omega)⟩ (Nat.le_of_ble_eq_true rfl) ⟨(TL_m hT).1, (TL_m hT).2⟩ dX4_goesOn_17 (fun hnv3 => ?_)
      refine lv_if_ne (tgt := 38) hx hb dX4_goesOn_20 (by decide) (fun c4 => ?_) (fun c4 => ?_)
      · replace hf := it_f c4 hf
        exact (w38 (f_X4_goesOn_8 n E) (ih)) x0 hc nc ls H locs ce sl o1 hB (by omega) hT hl hf
      · replace hf := it_t c4 hf
        refine lv_aload_n hx hb dX4_goesOn_23 rfl (lv_at hl 0 rfl) ?_
        refine lv_aload_n hx hb dX4_goesOn_24 rfl (lv_at hl 0 rfl) ?_
        obtain ⟨v5, hv5, hf⟩ := ob_s hf
        refine bg_X4_60 S hS hB (vI_s hv5) dX4_goesOn_25 ?_
        refine lv_bipush hx hb dX4_goesOn_28 kc_b10 ?_
        refine lv_bipush hx hb dX4_goesOn_30 kc_b10 ?_
        obtain ⟨g6, hf⟩ := gd_t hf
        obtain ⟨v7, hv7, hf⟩ := ob_s hf
        refine mc_X4_63 (fE := fE) (lE := lE) S hS hB g6 hv7 hl.1 ⟨(by show _ ≤ (fE + 6); omega), (by show _ ≤ (lE + 231); omega)⟩ (Nat.le_of_ble_eq_true rfl) ⟨(TL_m hT).1, (TL_m hT).2⟩ dX4_goesOn_32 (fun hnv7 => ?_)
        refine lv_if_eq (tgt := 51) hx hb dX4_goesOn_35 (by decide) (fun c8 => ?_) (fun c8 => ?_)
        · replace hf := it_t c8 hf
          refine lv_aload_n hx hb dX4_goesOn_51 rfl (lv_at hl 0 rfl) ?_
          refine lv_aload_n hx hb dX4_goesOn_52 rfl (lv_at hl 0 rfl) ?_
          obtain ⟨v9, hv9, hf⟩ := ob_s hf
          refine bg_X4_60 S hS hB (vI_s hv9) dX4_goesOn_53 ?_
          obtain ⟨h10, hh10, hf⟩ := ob_s hf
          refine bp_X4_57 S hS hB hh10 dX4_goesOn_56 (fun H locs hB => ?_)
          refine lv_aload_n hx hb dX4_goesOn_59 rfl (lv_at hl 0 rfl) ?_
          refine b_ldcS S hS 16 rfl rfl rfl dX4_goesOn_60 ?_
          obtain ⟨h11, hh11, hf⟩ := ob_s hf
          refine bp_X4_17 S hS hB hh11 dX4_goesOn_62 (fun H locs hB => ?_)
          refine lv_aload_n hx hb dX4_goesOn_65 rfl (lv_at hl 0 rfl) ?_
          obtain ⟨v12, hv12, hf⟩ := ob_s hf
          refine bg_X4_60 S hS hB (vI_s hv12) dX4_goesOn_66 ?_
          refine lv_aload_n hx hb dX4_goesOn_69 rfl (lv_at hl 0 rfl) ?_
          obtain ⟨v13, hv13, hf⟩ := ob_s hf
          refine bg_X4_42 S hS hB (vI_s hv13) dX4_goesOn_70 ?_
          refine lv_icmp_lt (tgt := 84) hx hb dX4_goesOn_73 (by decide) (fun c14 => ?_) (fun c14 => ?_)
          · replace hf := it_t c14 hf
            refine lv_aload_n hx hb dX4_goesOn_84 rfl (lv_at hl 0 rfl) ?_
            refine lv_aload_n hx hb dX4_goesOn_85 rfl (lv_at hl 0 rfl) ?_
            obtain ⟨v15, hv15, hf⟩ := ob_s hf
            refine bg_X4_60 S hS hB (vI_s hv15) dX4_goesOn_86 ?_
            refine lv_bipush hx hb dX4_goesOn_89 kc_b97 ?_
            refine lv_bipush hx hb dX4_goesOn_91 kc_b122 ?_
            obtain ⟨g16, hf⟩ := gd_t hf
            obtain ⟨v17, hv17, hf⟩ := ob_s hf
            refine mc_X4_63 (fE := fE) (lE := lE) S hS hB g16 hv17 hl.1 ⟨(by show _ ≤ (fE + 6); omega), (by show _ ≤ (lE + 231); omega)⟩ (Nat.le_of_ble_eq_true rfl) ⟨(TL_m hT).1, (TL_m hT).2⟩ dX4_goesOn_93 (fun hnv17 => ?_)
            refine lv_if_eq (tgt := 201) hx hb dX4_goesOn_96 (by decide) (fun c18 => ?_) (fun c18 => ?_)
            · replace hf := it_t c18 hf
              refine lv_aload_n hx hb dX4_goesOn_201 rfl (lv_at hl 0 rfl) ?_
              refine lv_aload_n hx hb dX4_goesOn_202 rfl (lv_at hl 0 rfl) ?_
              obtain ⟨v19, hv19, hf⟩ := ob_s hf
              refine bg_X4_60 S hS hB (vI_s hv19) dX4_goesOn_203 ?_
              refine lv_bipush hx hb dX4_goesOn_206 kc_b48 ?_
              refine lv_bipush hx hb dX4_goesOn_208 kc_b57 ?_
              obtain ⟨g20, hf⟩ := gd_t hf
              obtain ⟨v21, hv21, hf⟩ := ob_s hf
              refine mc_X4_63 (fE := fE) (lE := lE) S hS hB g20 hv21 hl.1 ⟨(by show _ ≤ (fE + 6); omega), (by show _ ≤ (lE + 231); omega)⟩ (Nat.le_of_ble_eq_true rfl) ⟨(TL_m hT).1, (TL_m hT).2⟩ dX4_goesOn_210 (fun hnv21 => ?_)
              refine lv_if_eq (tgt := 321) hx hb dX4_goesOn_213 (by decide) (fun c22 => ?_) (fun c22 => ?_)
              · replace hf := it_t c22 hf
                refine lv_aload_n hx hb dX4_goesOn_321 rfl (lv_at hl 0 rfl) ?_
                refine lv_dup hx hb dX4_goesOn_322 rfl ?_
                obtain ⟨v23, hv23, hf⟩ := ob_s hf
                refine bg_X4_57 S hS hB (vI_s hv23) dX4_goesOn_323 ?_
                refine lv_iconst hx hb dX4_goesOn_326 kc_i1 ?_
                refine lv_iadd hx hb dX4_goesOn_327 ?_
                obtain ⟨h24, hh24, hf⟩ := ob_s hf
                refine bp_X4_57 S hS hB hh24 dX4_goesOn_328 (fun H locs hB => ?_)
                refine lv_aload_n hx hb dX4_goesOn_331 rfl (lv_at hl 0 rfl) ?_
                refine lv_aload_n hx hb dX4_goesOn_332 rfl (lv_at hl 0 rfl) ?_
                obtain ⟨v25, hv25, hf⟩ := ob_s hf
                refine bg_X4_3 S hS hB (vR_s hv25) dX4_goesOn_333 ?_
                obtain ⟨v26, hv26, hf⟩ := ob_s hf
                refine bg_X4_49 S hS hB (vR_s hv26) dX4_goesOn_336 ?_
                refine lv_aload_n hx hb dX4_goesOn_339 rfl (lv_at hl 0 rfl) ?_
                obtain ⟨v27, hv27, hf⟩ := ob_s hf
                refine bg_X4_60 S hS hB (vI_s hv27) dX4_goesOn_340 ?_
                obtain ⟨v28, hv28, hf⟩ := ob_s hf
                refine b_bald S hS.1 hB hv28 dX4_goesOn_343 ?_
                refine lv_bipush hx hb dX4_goesOn_344 kc_b59 ?_
                refine lv_icmp_ne (tgt := 353) hx hb dX4_goesOn_346 (by decide) (fun c29 => ?_) (fun c29 => ?_)
                · replace hf := it_f c29 hf
                  refine lv_iconst hx hb dX4_goesOn_353 kc_i4 ?_
                  exact (w354) x0 (nI 4) h24 nc ls H locs ce sl o1 hB (by omega) hT (lv_sub (l' := []) hl [] rfl) hf
                · replace hf := it_t c29 hf
                  refine lv_iconst hx hb dX4_goesOn_349 kc_i3 ?_
                  refine lv_goto (tgt := 354) hx hb dX4_goesOn_350 (by decide) ?_
                  exact (w354) x0 (nI 3) h24 nc ls H locs ce sl o1 hB (by omega) hT (lv_sub (l' := []) hl [] rfl) hf
              · replace hf := it_f c22 hf
                refine lv_aload_n hx hb dX4_goesOn_216 rfl (lv_at hl 0 rfl) ?_
                refine lv_iconst hx hb dX4_goesOn_217 kc_i0 ?_
                obtain ⟨h30, hh30, hf⟩ := ob_s hf
                refine bp_X4_81 S hS hB hh30 dX4_goesOn_218 (fun H locs hB => ?_)
                exact (w221 FU) x0 h30 nc ls H locs ce sl o1 hB (by omega) hT hl hf
            · replace hf := it_f c18 hf
              obtain ⟨o31, hf, hT⟩ := TL_c hT hf
              refine bn_X4_70 S hS hB (TL_m hT).1 (TL_m hT).2 dX4_goesOn_99 (fun H hB => ?_)
              refine lv_dup hx hb dX4_goesOn_102 rfl ?_
              obtain ⟨v32, hv32, hf⟩ := ob_s hf
              obtain ⟨o33, hf, hT⟩ := TL_c hT hf
              refine mc_X4_72 (fE := fE) (lE := lE) S hS hB hv32 hl.1 ⟨(by show _ ≤ (fE + 6); omega), (by show _ ≤ (lE + 231); omega)⟩ (Nat.le_of_ble_eq_true rfl) ⟨(TL_m hT).1, (TL_m hT).2⟩ dX4_goesOn_103 (fun H locs _ hB => ?_)
              refine lv_astore_n (i := 1) (lv' := [(1, .ref nc), (0, .ref x0)]) hx hb dX4_goesOn_106 rfl hl (by decide) rfl (fun ls hl => ?_)
              exact (w107 FU) x0 nc v32.2.1 ((nc + 1) + v32.2.2.1) ls H locs ((ce + 1) + v32.2.2.1) ((sl + 4) + v32.2.2.2) o33 hB (by omega) hT (lv_sub (l' := [(0, .ref x0), (1, .ref nc)]) hl [1, 0] rfl) hf
          · replace hf := it_f c14 hf
            refine lv_aload_n hx hb dX4_goesOn_76 rfl (lv_at hl 0 rfl) ?_
            refine lv_iconst hx hb dX4_goesOn_77 kc_i0 ?_
            obtain ⟨h34, hh34, hf⟩ := ob_s hf
            refine bp_X4_67 S hS hB hh34 dX4_goesOn_78 (fun H locs hB => ?_)
            refine lv_goto (tgt := 357) hx hb dX4_goesOn_81 (by decide) ?_
            have hE9 := TL_e hT hf
            subst hE9
            exact bt_v S hr hlocks hB (by omega) trivial dX4_goesOn_357
        · replace hf := it_f c8 hf
          exact (w38 (f_X4_goesOn_8 n E) (ih)) x0 hc nc ls H locs ce sl o1 hB (by omega) hT hl hf
  have hT : TL out out 0 0 := TL_0
  rw [f_X4_goesOn] at hf
  refine lv_aload_n hx hb dX4_goesOn_0 rfl (lv_at hl 0 rfl) ?_
  refine lv_aload_n hx hb dX4_goesOn_1 rfl (lv_at hl 0 rfl) ?_
  obtain ⟨v1, hv1, hf⟩ := ob_s hf
  refine bg_X4_57 S hS hB (vI_s hv1) dX4_goesOn_2 ?_
  obtain ⟨h2, hh2, hf⟩ := ob_s hf
  refine bp_X4_60 S hS hB hh2 dX4_goesOn_5 (fun H locs hB => ?_)
  exact (w8 FU) o h2 nx ls H locs 0 0 out hB (by omega) hT hl hf
set_option maxRecDepth 100000 in
theorem mc_X4_46 {o : Nat} {out : Unit × AH × Nat × Nat} (S : CallFix p m c cc nL s args lw_all RX4) (hS : SK G E.1 hSites A s) (hB : BI G A s.heap h nx H locs) (ho : isO h o 3 = true) (hf : f_X4_goesOn E h nx o = some out) (hsz : ls.size = nL) (hR : (fE + 6) + 1 ≤ R.frames ∧ 8 + (2 + 11) + (lE + 231) ≤ R.locals) (hW : (rest.map fun v => v.category).sum ≤ 8) (hcs : cells + out.2.2.1 ≤ R.cells ∧ slots + out.2.2.2 ≤ R.slots) (hdg : decode cc pc = .ok (.invokevirtual 46, 3))  (kk : ∀ (H1 : Heap) (locs1 : List Loc), True → BI G A s.heap out.2.1 (nx + out.2.2.1) H1 locs1 → W p l e R s m args below meth c H1 locs1 (cells + out.2.2.1) (slots + out.2.2.2) Q (F0 m (pc + 3) ls (rest))) : W p l e R s m args below meth c H locs cells slots Q (F0 m pc ls (.ref o :: rest)) := by
  have hN := hS.2.1
  obtain ⟨fs, he⟩ := isO_s ho
  exact br_v (va_runV (As := []) S (mm_X4_goesOn (l := l) (G := G) (fE := fE) (lE := lE) hf) (cwV 0 S.2.2.2.2 (lw_V q668 q670 qs16 q190 q671) rfl rfl rfl hd_X4_goesOn hR) (bPreV hS hB (ci := 3) rfl he) rfl rfl hsz rfl (lv_room hW) hdg hcs) hB kk
theorem hd_X4_init : yX4_init.cls ≠ "java/lang/invoke/MethodHandle" ∧ yX4_init.cls ≠ "java/lang/invoke/VarHandle" ∧ (parseMethodDescriptor yX4_init.desc).map (fun d => d.parameters.length) = some 2 := by decide +kernel
set_option maxHeartbeats 4000000 in
set_option maxRecDepth 100000 in
theorem mm_X4_init {o : Nat} {a0 : Nat} {a1 : Int32} {out : Unit × AH × Nat × Nat} (hf : f_X4_init E h nx o a0 a1 = some out) : Met l yX4_init (ws_ yX4_init cX4_init 3 none) (rC (fE + 7) (lE + 3142) out.2.2.1 out.2.2.2) (bPc G E.1 hSites h nx [.ref o, .ref a0, .int a1]) (bQ G none True out.2.1 (nx + out.2.2.1) (AA h nx)) out.2.2.1 out.2.2.2 (AA h nx) := by
  refine bGo (by decide +kernel) (Nat.le_of_ble_eq_true rfl) (fun p e s m below meth c ls S hr hlocks hin hnm hS hB hl => ?_)
  have S : CallFix p m c cX4_init 3 s _ lw_all RX4 := S
  obtain ⟨hx, hb, hml, hown, hts⟩ := id S
  have hl : lv_has ls 3 [(0, .ref o), (1, .ref a0), (2, .int a1)] := hl
  have hT : TL out out 0 0 := TL_0
  rw [f_X4_init] at hf
  refine lv_aload_n hx hb dX4_init_0 rfl (lv_at hl 0 rfl) ?_
  refine lv_aload_n hx hb dX4_init_1 rfl (lv_at hl 1 rfl) ?_
  obtain ⟨h1, hh1, hf⟩ := ob_s hf
  refine bp_X4_3 S hS hB hin hh1 dX4_init_2 (fun H locs hB => ?_)
  refine lv_aload_n hx hb dX4_init_5 rfl (lv_at hl 0 rfl) ?_
  refine W.objInit hx hb hown (hts _ q662) (hts _ q212) (hts _ q213) rfl (by rw [hml]; exact hl.1) rfl dX4_init_6 (by show _ ≤ (fE + 7); omega) (by show _ ≤ (lE + 3142); simp only [F0, JFrame.monitorRoom, List.map, List.sum_cons, List.sum_nil, Value.category]; omega) ?_
  refine W.eq (g2 := F0 m 9 ls []) rfl ?_
  refine lv_aload_n hx hb dX4_init_9 rfl (lv_at hl 0 rfl) ?_
  refine b_ldcS S hS 16 rfl rfl rfl dX4_init_10 ?_
  obtain ⟨h2, hh2, hf⟩ := ob_s hf
  refine bp_X4_17 S hS hB hh2 dX4_init_12 (fun H locs hB => ?_)
  refine lv_aload_n hx hb dX4_init_15 rfl (lv_at hl 0 rfl) ?_
  obtain ⟨o3, hf, hT⟩ := TL_c hT hf
  refine bn_X4_21 S hS hB (TL_m hT).1 (TL_m hT).2 dX4_init_16 (fun H hB => ?_)
  refine lv_dup hx hb dX4_init_19 rfl ?_
  refine lv_iconst hx hb dX4_init_20 kc_i2 ?_
  obtain ⟨v4, hv4, hf⟩ := ob_s hf
  obtain ⟨o5, hf, hT⟩ := TL_c hT hf
  refine mc_X4_23 (fE := fE) (lE := lE) S hS hB hv4 hl.1 ⟨(by show _ ≤ (fE + 7); omega), (by show _ ≤ (lE + 3142); omega)⟩ (Nat.le_of_ble_eq_true rfl) ⟨(TL_m hT).1, (TL_m hT).2⟩ dX4_init_21 (fun H locs _ hB => ?_)
  obtain ⟨h6, hh6, hf⟩ := ob_s hf
  refine bp_X4_26 S hS hB hin hh6 dX4_init_24 (fun H locs hB => ?_)
  refine lv_aload_n hx hb dX4_init_27 rfl (lv_at hl 0 rfl) ?_
  obtain ⟨o7, hf, hT⟩ := TL_c hT hf
  refine bn_X4_21 S hS hB (TL_m hT).1 (TL_m hT).2 dX4_init_28 (fun H hB => ?_)
  refine lv_dup hx hb dX4_init_31 rfl ?_
  refine lv_iconst hx hb dX4_init_32 kc_i2 ?_
  obtain ⟨v8, hv8, hf⟩ := ob_s hf
  obtain ⟨o9, hf, hT⟩ := TL_c hT hf
  refine mc_X4_23 (fE := fE) (lE := lE) S hS hB hv8 hl.1 ⟨(by show _ ≤ (fE + 7); omega), (by show _ ≤ (lE + 3142); omega)⟩ (Nat.le_of_ble_eq_true rfl) ⟨(TL_m hT).1, (TL_m hT).2⟩ dX4_init_33 (fun H locs _ hB => ?_)
  obtain ⟨h10, hh10, hf⟩ := ob_s hf
  refine bp_X4_30 S hS hB hin hh10 dX4_init_36 (fun H locs hB => ?_)
  refine lv_aload_n hx hb dX4_init_39 rfl (lv_at hl 0 rfl) ?_
  obtain ⟨o11, hf, hT⟩ := TL_c hT hf
  refine bn_X4_33 S hS hB (TL_m hT).1 (TL_m hT).2 dX4_init_40 (fun H hB => ?_)
  obtain ⟨h12, eh12⟩ : ∃ z, z = (hu h10 ((((nx + 1) + v4.2.2.1) + 1) + v8.2.2.1) (.inr (.inl (1, df_X2)))) := ⟨_, rfl⟩
  replace hf := bd_e eh12 hf
  rw [← eh12] at hB
  refine lv_dup hx hb dX4_init_43 rfl ?_
  refine lv_aload_n hx hb dX4_init_44 rfl (lv_at hl 0 rfl) ?_
  obtain ⟨v13, hv13, hf⟩ := ob_s hf
  refine bg_X4_3 S hS hB (vR_s hv13) dX4_init_45 ?_
  obtain ⟨v14, hv14, hf⟩ := ob_s hf
  obtain ⟨o15, hf, hT⟩ := TL_c hT hf
  refine mc_X4_35 (fE := fE) (lE := lE) S hS hB hv14 hl.1 ⟨(by show _ ≤ (fE + 7); omega), (by show _ ≤ (lE + 3142); omega)⟩ (Nat.le_of_ble_eq_true rfl) ⟨(TL_m hT).1, (TL_m hT).2⟩ dX4_init_48 (fun H locs _ hB => ?_)
  obtain ⟨h16, hh16, hf⟩ := ob_s hf
  refine bp_X4_38 S hS hB hin hh16 dX4_init_51 (fun H locs hB => ?_)
  refine lv_aload_n hx hb dX4_init_54 rfl (lv_at hl 0 rfl) ?_
  refine lv_iload_n hx hb dX4_init_55 rfl (lv_at hl 2 rfl) ?_
  obtain ⟨h17, hh17, hf⟩ := ob_s hf
  refine bp_X4_42 S hS hB hin hh17 dX4_init_56 (fun H locs hB => ?_)
  refine lv_aload_n hx hb dX4_init_59 rfl (lv_at hl 0 rfl) ?_
  obtain ⟨g18, hf⟩ := gd_t hf
  obtain ⟨v19, hv19, hf⟩ := ob_s hf
  obtain ⟨o20, hf, hT⟩ := TL_c hT hf
  refine mc_X4_46 (fE := fE) (lE := lE) S hS hB g18 hv19 hl.1 ⟨(by show _ ≤ (fE + 7); omega), (by show _ ≤ (lE + 3142); omega)⟩ (Nat.le_of_ble_eq_true rfl) ⟨(TL_m hT).1, (TL_m hT).2⟩ dX4_init_60 (fun H locs _ hB => ?_)
  have hE9 := TL_e hT hf
  subst hE9
  exact bt_v S hr hlocks hB (by omega) trivial dX4_init_63
set_option maxRecDepth 100000 in
theorem mc_X1_160 {o : Nat} {a0 : Nat} {a1 : Int32} {out : Unit × AH × Nat × Nat} (S : CallFix p m c cc nL s args lw_all RX1) (hS : SK G E.1 hSites A s) (hB : BI G A s.heap h nx H locs) (hf : f_X4_init E h nx o a0 a1 = some out) (hsz : ls.size = nL) (hR : (fE + 7) + 1 ≤ R.frames ∧ 8 + (3 + 11) + (lE + 3142) ≤ R.locals) (hW : (rest.map fun v => v.category).sum ≤ 8) (hcs : cells + out.2.2.1 ≤ R.cells ∧ slots + out.2.2.2 ≤ R.slots) (hdg : decode cc pc = .ok (.invokespecial 160, 3))  (kk : ∀ (H1 : Heap) (locs1 : List Loc), True → BI G A s.heap out.2.1 (nx + out.2.2.1) H1 locs1 → W p l e R s m args below meth c H1 locs1 (cells + out.2.2.1) (slots + out.2.2.2) Q (F0 m (pc + 3) ls (rest))) : W p l e R s m args below meth c H locs cells slots Q (F0 m pc ls (.int a1 :: .ref a0 :: .ref o :: rest)) := by
  have hN := hS.2.1
  exact br_v (va_runI (As := [.ref a0, .int a1]) S (mm_X4_init (l := l) (G := G) (fE := fE) (lE := lE) hf) (⟨callB_of 2 S.2.2.2.2 (lw_meth q661) rfl rfl rfl (S.2.2.2.2 _ q190) (S.2.2.2.2 _ q659) hd_X4_init hR, rfl, S.2.2.2.2 _ q660⟩) (bPreS hS hB) rfl rfl hsz rfl (lv_room hW) hdg hcs) hB kk
theorem hd_J13_equals : yJ13_equals.cls ≠ "java/lang/invoke/MethodHandle" ∧ yJ13_equals.cls ≠ "java/lang/invoke/VarHandle" ∧ (parseMethodDescriptor yJ13_equals.desc).map (fun d => d.parameters.length) = some 2 := by decide +kernel
set_option maxHeartbeats 4000000 in
set_option maxRecDepth 100000 in
theorem mm_J13_equals {a0 : Nat} {a1 : Nat} {out : Int32} (hf : f_J13_equals E h a0 a1 = some out) : Met l yJ13_equals (ws_ yJ13_equals cJ13_equals 3 (some .boolean)) (rM (fE + 0) (lE + 0)) (bPc G E.1 hSites h nx [.ref a0, .ref a1]) (gR (some (.int out)) (narrow .boolean (.int out) = .int out)) 0 0 (fun _ => False) := by
  refine bGo (by decide +kernel) (Nat.le_of_ble_eq_true rfl) (fun p e s m below meth c ls S hr hlocks hin hnm hS hB hl => ?_)
  have S : CallFix p m c cJ13_equals 3 s _ lw_all RJ13 := S
  obtain ⟨hx, hb, hml, hown, hts⟩ := id S
  have hl : lv_has ls 3 [(0, .ref a0), (1, .ref a1)] := hl
  have w9 : ∀ (n : Nat) , ∀ (x0 : Nat) (x1 : Nat) (x2 : Int32) (ls : Array Slot), lv_has ls 3 [(0, .ref x0), (1, .ref x1), (2, .int x2)] → f_J13_equals_9 n E h x0 x1 x2 = some out → W p l e (rM (fE + 0) (lE + 0)) s m ([.ref a0, .ref a1] : List Value).toArray below meth c s.heap [] 0 0 (MQ below (gR (some (.int out)) (narrow .boolean (.int out) = .int out)) ([.ref a0, .ref a1] : List Value).toArray s 0 0 (fun _ => False)) (F0 m 9 ls []) := by
    intro n
    induction n with
    | zero =>
      intro x0 x1 x2 ls hl hf
      exact absurd hf (by rw [f_J13_equals_9]; exact nofun)
    | succ n ih =>
      intro x0 x1 x2 ls hl hf
      rw [f_J13_equals_9] at hf
      refine lv_iload_n hx hb dJ13_equals_9 rfl (lv_at hl 2 rfl) ?_
      refine lv_aload_n hx hb dJ13_equals_10 rfl (lv_at hl 0 rfl) ?_
      obtain ⟨v1, hv1, hf⟩ := ob_s hf
      refine b_alen S hS.1 hB hv1 dJ13_equals_11 ?_
      refine lv_icmp_ge (tgt := 32) hx hb dJ13_equals_12 (by decide) (fun c2 => ?_) (fun c2 => ?_)
      · replace hf := it_t c2 hf
        refine lv_iconst hx hb dJ13_equals_32 kc_i1 ?_
        have hE9 := Option.some.inj hf
        subst hE9
        exact gt_rz S hr hlocks nb1 dJ13_equals_33
      · replace hf := it_f c2 hf
        refine lv_aload_n hx hb dJ13_equals_15 rfl (lv_at hl 0 rfl) ?_
        refine lv_iload_n hx hb dJ13_equals_16 rfl (lv_at hl 2 rfl) ?_
        obtain ⟨v3, hv3, hf⟩ := ob_s hf
        refine b_bald S hS.1 hB hv3 dJ13_equals_17 ?_
        refine lv_aload_n hx hb dJ13_equals_18 rfl (lv_at hl 1 rfl) ?_
        refine lv_iload_n hx hb dJ13_equals_19 rfl (lv_at hl 2 rfl) ?_
        obtain ⟨v4, hv4, hf⟩ := ob_s hf
        refine b_bald S hS.1 hB hv4 dJ13_equals_20 ?_
        refine lv_icmp_eq (tgt := 26) hx hb dJ13_equals_21 (by decide) (fun c5 => ?_) (fun c5 => ?_)
        · replace hf := it_t c5 hf
          refine lv_iinc (v := (x2 + 1)) (lv' := [(2, .int (x2 + 1)), (0, .ref x0), (1, .ref x1)]) hx hb dJ13_equals_26 hl (k := 2) rfl rfl (by decide) rfl (fun ls hl => ?_)
          refine lv_goto (tgt := 9) hx hb dJ13_equals_29 (by decide) ?_
          exact (ih) x0 x1 (x2 + 1) ls (lv_sub (l' := [(0, .ref x0), (1, .ref x1), (2, .int (x2 + 1))]) hl [1, 2, 0] rfl) hf
        · replace hf := it_f c5 hf
          refine lv_iconst hx hb dJ13_equals_24 kc_i0 ?_
          have hE9 := Option.some.inj hf
          subst hE9
          exact gt_rz S hr hlocks nb0 dJ13_equals_25
  rw [f_J13_equals] at hf
  refine lv_aload_n hx hb dJ13_equals_0 rfl (lv_at hl 0 rfl) ?_
  obtain ⟨v1, hv1, hf⟩ := ob_s hf
  refine b_alen S hS.1 hB hv1 dJ13_equals_1 ?_
  refine lv_aload_n hx hb dJ13_equals_2 rfl (lv_at hl 1 rfl) ?_
  obtain ⟨v2, hv2, hf⟩ := ob_s hf
  refine b_alen S hS.1 hB hv2 dJ13_equals_3 ?_
  refine lv_icmp_ne (tgt := 34) hx hb dJ13_equals_4 (by decide) (fun c3 => ?_) (fun c3 => ?_)
  · replace hf := it_f c3 hf
    refine lv_iconst hx hb dJ13_equals_34 kc_i0 ?_
    have hE9 := Option.some.inj hf
    subst hE9
    exact gt_rz S hr hlocks nb0 dJ13_equals_35
  · replace hf := it_t c3 hf
    refine lv_iconst hx hb dJ13_equals_7 kc_i0 ?_
    refine lv_istore_n (i := 2) (lv' := [(2, .int 0), (0, .ref a0), (1, .ref a1)]) hx hb dJ13_equals_8 rfl hl (by decide) rfl (fun ls hl => ?_)
    exact (w9 FU) a0 a1 0 ls (lv_sub (l' := [(0, .ref a0), (1, .ref a1), (2, .int 0)]) hl [1, 2, 0] rfl) hf
set_option maxRecDepth 100000 in
theorem mc_J9_541 {a0 : Nat} {a1 : Nat} {out : Int32} (S : CallFix p m c cc nL s args lw_all RJ9) (hS : SK G E.1 hSites A s) (hB : BI G A s.heap h nx H locs) (hf : f_J13_equals E h a0 a1 = some out) (hsz : ls.size = nL) (hR : (fE + 0) + 1 ≤ R.frames ∧ 8 + (3 + 11) + (lE + 0) ≤ R.locals) (hW : (rest.map fun v => v.category).sum ≤ 8) (hcs : cells ≤ R.cells ∧ slots ≤ R.slots) (hdg : decode cc pc = .ok (.invokestatic 541, 3))  (kk : (narrow .boolean (.int out) = .int out) → W p l e R s m args below meth c H locs cells slots Q (F0 m (pc + 3) ls (.int out :: rest))) : W p l e R s m args below meth c H locs cells slots Q (F0 m pc ls (.ref a1 :: .ref a0 :: rest)) := by
  have hN := hS.2.1
  exact br_r (va_runS (As := [.ref a0, .ref a1]) S (mm_J13_equals (l := l) (G := G) (nx := nx) (fE := fE) (lE := lE) hf) (va_cwS 2 S.2.2.2.2 (lw_S q877 q878 q193 q879) rfl rfl rfl hd_J13_equals hR) (bPreS hS hB) rfl rfl hsz rfl (lv_room hW) hdg hcs) kk
theorem hd_J9_equals : yJ9_equals.cls = RJ9 ∧ yJ9_equals.cls ≠ "java/lang/invoke/MethodHandle" ∧ yJ9_equals.cls ≠ "java/lang/invoke/VarHandle" ∧ (parseMethodDescriptor yJ9_equals.desc).map (fun d => d.parameters.length) = some 1 := by decide +kernel
set_option maxHeartbeats 4000000 in
set_option maxRecDepth 100000 in
theorem mm_J9_equals {o : Nat} {a0 : Nat} {out : Int32} (hf : f_J9_equals E h o a0 = some out) : Met l yJ9_equals (ws_ yJ9_equals cJ9_equals 3 (some .boolean)) (rM (fE + 1) (lE + 22)) (bPc G E.1 hSites h nx [.ref o, .ref a0]) (gR (some (.int out)) (narrow .boolean (.int out) = .int out)) 0 0 (fun _ => False) := by
  refine bGo (by decide +kernel) (Nat.le_of_ble_eq_true rfl) (fun p e s m below meth c ls S hr hlocks hin hnm hS hB hl => ?_)
  have S : CallFix p m c cJ9_equals 3 s _ lw_all RJ9 := S
  obtain ⟨hx, hb, hml, hown, hts⟩ := id S
  have hl : lv_has ls 3 [(0, .ref o), (1, .ref a0)] := hl
  have w36 : ∀ (x0 : Nat) (x2 : Nat) (ls : Array Slot), lv_has ls 3 [(0, .ref x0), (2, .ref x2)] → f_J9_equals_36 E h x0 x2 = some out → W p l e (rM (fE + 1) (lE + 22)) s m ([.ref o, .ref a0] : List Value).toArray below meth c s.heap [] 0 0 (MQ below (gR (some (.int out)) (narrow .boolean (.int out) = .int out)) ([.ref o, .ref a0] : List Value).toArray s 0 0 (fun _ => False)) (F0 m 36 ls []) := by
    intro x0 x2 ls hl hf
    rw [f_J9_equals_36] at hf
    refine lv_aload_n hx hb dJ9_equals_36 rfl (lv_at hl 0 rfl) ?_
    obtain ⟨v1, hv1, hf⟩ := ob_s hf
    refine bg_J9_9 S hS hB (vR_s hv1) dJ9_equals_37 ?_
    refine lv_aload_n hx hb dJ9_equals_40 rfl (lv_at hl 1 rfl) ?_
    obtain ⟨v2, hv2, hf⟩ := ob_s hf
    refine bg_J9_9 S hS hB (vR_s hv2) dJ9_equals_41 ?_
    obtain ⟨v3, hv3, hf⟩ := ob_s hf
    refine mc_J9_541 (fE := fE) (lE := lE) S hS hB hv3 hl.1 ⟨(by show _ ≤ (fE + 1); omega), (by show _ ≤ (lE + 22); omega)⟩ (Nat.le_of_ble_eq_true rfl) ⟨Nat.zero_le _, Nat.zero_le _⟩ dJ9_equals_44 (fun hnv3 => ?_)
    refine lv_if_eq (tgt := 54) hx hb dJ9_equals_47 (by decide) (fun c4 => ?_) (fun c4 => ?_)
    · replace hf := it_t c4 hf
      refine lv_iconst hx hb dJ9_equals_54 kc_i0 ?_
      have hE9 := Option.some.inj hf
      subst hE9
      exact gt_rz S hr hlocks nb0 dJ9_equals_55
    · replace hf := it_f c4 hf
      refine lv_iconst hx hb dJ9_equals_50 kc_i1 ?_
      refine lv_goto (tgt := 55) hx hb dJ9_equals_51 (by decide) ?_
      have hE9 := Option.some.inj hf
      subst hE9
      exact gt_rz S hr hlocks nb1 dJ9_equals_55
  rw [f_J9_equals] at hf
  refine lv_aload_n hx hb dJ9_equals_0 rfl (lv_at hl 0 rfl) ?_
  refine lv_aload_n hx hb dJ9_equals_1 rfl (lv_at hl 1 rfl) ?_
  refine lb_acmp_ne (tgt := 7) hx hb dJ9_equals_2 (by decide) (fun c1 => ?_) (fun c1 => ?_)
  · replace hf := it_f c1 hf
    refine lv_aload_n hx hb dJ9_equals_7 rfl (lv_at hl 1 rfl) ?_
    obtain ⟨g2, hf⟩ := gd_t hf
    refine b_instO S hS.1 hB (ci := 13) rfl (hts _ q876) g2 dJ9_equals_8 ?_
    refine lv_if_eq (tgt := 54) hx hb dJ9_equals_11 (by decide) (fun c3 => ?_) (fun c3 => ?_)
    · replace hf := it_t c3 hf
      refine lv_iconst hx hb dJ9_equals_54 kc_i0 ?_
      have hE9 := Option.some.inj hf
      subst hE9
      exact gt_rz S hr hlocks nb0 dJ9_equals_55
    · replace hf := it_f c3 hf
      refine lv_aload_n hx hb dJ9_equals_14 rfl (lv_at hl 1 rfl) ?_
      obtain ⟨g4, hf⟩ := gd_t hf
      refine b_castO S hS.1 hB (ci := 13) rfl (hts _ q876) g4 dJ9_equals_15 ?_
      refine lv_astore_n (i := 2) (lv' := [(2, .ref a0), (0, .ref o), (1, .ref a0)]) hx hb dJ9_equals_18 rfl hl (by decide) rfl (fun ls hl => ?_)
      refine b_gets S hS hB 5 rfl (hts _ q804) dJ9_equals_19 ?_
      refine lv_if_eq (tgt := 36) hx hb dJ9_equals_22 (by decide) (fun c5 => ?_) (fun c5 => ?_)
      · replace hf := it_t c5 hf
        exact (w36) o a0 ls (lv_sub (l' := [(0, .ref o), (2, .ref a0)]) hl [1, 0] rfl) hf
      · replace hf := it_f c5 hf
        refine lv_aload_n hx hb dJ9_equals_25 rfl (lv_at hl 1 rfl) ?_
        obtain ⟨v6, hv6, hf⟩ := ob_s hf
        refine bg_J9_15 S hS hB (vI_s hv6) dJ9_equals_26 ?_
        refine lv_aload_n hx hb dJ9_equals_29 rfl (lv_at hl 0 rfl) ?_
        obtain ⟨v7, hv7, hf⟩ := ob_s hf
        refine bg_J9_15 S hS hB (vI_s hv7) dJ9_equals_30 ?_
        refine lv_icmp_ne (tgt := 54) hx hb dJ9_equals_33 (by decide) (fun c8 => ?_) (fun c8 => ?_)
        · replace hf := it_f c8 hf
          refine lv_iconst hx hb dJ9_equals_54 kc_i0 ?_
          have hE9 := Option.some.inj hf
          subst hE9
          exact gt_rz S hr hlocks nb0 dJ9_equals_55
        · replace hf := it_t c8 hf
          exact (w36) o a0 ls (lv_sub (l' := [(0, .ref o), (2, .ref a0)]) hl [1, 0] rfl) hf
  · replace hf := it_t c1 hf
    refine lv_iconst hx hb dJ9_equals_5 kc_i1 ?_
    have hE9 := Option.some.inj hf
    subst hE9
    exact gt_rz S hr hlocks nb1 dJ9_equals_6
set_option maxRecDepth 100000 in
theorem mc_X1_144 {o : Nat} {a0 : Nat} {out : Int32} (S : CallFix p m c cc nL s args lw_all RX1) (hS : SK G E.1 hSites A s) (hB : BI G A s.heap h nx H locs) (ho : isO h o 13 = true) (hf : f_J9_equals E h o a0 = some out) (hsz : ls.size = nL) (hR : (fE + 1) + 1 ≤ R.frames ∧ 8 + (3 + 11) + (lE + 22) ≤ R.locals) (hW : (rest.map fun v => v.category).sum ≤ 8) (hcs : cells ≤ R.cells ∧ slots ≤ R.slots) (hdg : decode cc pc = .ok (.invokevirtual 144, 3))  (kk : (narrow .boolean (.int out) = .int out) → W p l e R s m args below meth c H locs cells slots Q (F0 m (pc + 3) ls (.int out :: rest))) : W p l e R s m args below meth c H locs cells slots Q (F0 m pc ls (.ref a0 :: .ref o :: rest)) := by
  have hN := hS.2.1
  obtain ⟨fs, he⟩ := isO_s ho
  exact br_r (va_runV (As := [.ref a0]) S (mm_J9_equals (l := l) (G := G) (nx := nx) (fE := fE) (lE := lE) hf) (cwV 1 S.2.2.2.2 (lw_V q972 q873 q874 q187 q875) rfl rfl rfl hd_J9_equals hR) (bPreV hS hB (ci := 13) rfl he) rfl rfl hsz rfl (lv_room hW) hdg hcs) kk
set_option maxRecDepth 100000 in
theorem mc_X4_90 {o : Nat} {a0 : Nat} {out : Int32} (S : CallFix p m c cc nL s args lw_all RX4) (hS : SK G E.1 hSites A s) (hB : BI G A s.heap h nx H locs) (ho : isO h o 13 = true) (hf : f_J9_equals E h o a0 = some out) (hsz : ls.size = nL) (hR : (fE + 1) + 1 ≤ R.frames ∧ 8 + (3 + 11) + (lE + 22) ≤ R.locals) (hW : (rest.map fun v => v.category).sum ≤ 8) (hcs : cells ≤ R.cells ∧ slots ≤ R.slots) (hdg : decode cc pc = .ok (.invokevirtual 90, 3))  (kk : (narrow .boolean (.int out) = .int out) → W p l e R s m args below meth c H locs cells slots Q (F0 m (pc + 3) ls (.int out :: rest))) : W p l e R s m args below meth c H locs cells slots Q (F0 m pc ls (.ref a0 :: .ref o :: rest)) := by
  have hN := hS.2.1
  obtain ⟨fs, he⟩ := isO_s ho
  exact br_r (va_runV (As := [.ref a0]) S (mm_J9_equals (l := l) (G := G) (nx := nx) (fE := fE) (lE := lE) hf) (cwV 1 S.2.2.2.2 (lw_V q872 q873 q874 q187 q875) rfl rfl rfl hd_J9_equals hR) (bPreV hS hB (ci := 13) rfl he) rfl rfl hsz rfl (lv_room hW) hdg hcs) kk
theorem hd_X4_is : yX4_is.cls = RX4 ∧ yX4_is.cls ≠ "java/lang/invoke/MethodHandle" ∧ yX4_is.cls ≠ "java/lang/invoke/VarHandle" ∧ (parseMethodDescriptor yX4_is.desc).map (fun d => d.parameters.length) = some 1 := by decide +kernel
set_option maxHeartbeats 4000000 in
set_option maxRecDepth 100000 in
theorem mm_X4_is {o : Nat} {a0 : Nat} {out : Int32} (hf : f_X4_is E h o a0 = some out) : Met l yX4_is (ws_ yX4_is cX4_is 2 (some .boolean)) (rM (fE + 2) (lE + 44)) (bPc G E.1 hSites h nx [.ref o, .ref a0]) (gR (some (.int out)) (narrow .boolean (.int out) = .int out)) 0 0 (fun _ => False) := by
  refine bGo (by decide +kernel) (Nat.le_of_ble_eq_true rfl) (fun p e s m below meth c ls S hr hlocks hin hnm hS hB hl => ?_)
  have S : CallFix p m c cX4_is 2 s _ lw_all RX4 := S
  obtain ⟨hx, hb, hml, hown, hts⟩ := id S
  have hl : lv_has ls 2 [(0, .ref o), (1, .ref a0)] := hl
  rw [f_X4_is] at hf
  refine lv_aload_n hx hb dX4_is_0 rfl (lv_at hl 0 rfl) ?_
  obtain ⟨v1, hv1, hf⟩ := ob_s hf
  refine bg_X4_67 S hS hB (vI_s hv1) dX4_is_1 ?_
  refine lv_iconst hx hb dX4_is_4 kc_i1 ?_
  refine lv_icmp_ne (tgt := 23) hx hb dX4_is_5 (by decide) (fun c2 => ?_) (fun c2 => ?_)
  · replace hf := it_f c2 hf
    refine lv_iconst hx hb dX4_is_23 kc_i0 ?_
    have hE9 := Option.some.inj hf
    subst hE9
    exact gt_rz S hr hlocks nb0 dX4_is_24
  · replace hf := it_t c2 hf
    refine lv_aload_n hx hb dX4_is_8 rfl (lv_at hl 0 rfl) ?_
    obtain ⟨v3, hv3, hf⟩ := ob_s hf
    refine bg_X4_17 S hS hB (vR_s hv3) dX4_is_9 ?_
    refine lv_aload_n hx hb dX4_is_12 rfl (lv_at hl 1 rfl) ?_
    obtain ⟨g4, hf⟩ := gd_t hf
    obtain ⟨v5, hv5, hf⟩ := ob_s hf
    refine mc_X4_90 (fE := fE) (lE := lE) S hS hB g4 hv5 hl.1 ⟨(by show _ ≤ (fE + 2); omega), (by show _ ≤ (lE + 44); omega)⟩ (Nat.le_of_ble_eq_true rfl) ⟨Nat.zero_le _, Nat.zero_le _⟩ dX4_is_13 (fun hnv5 => ?_)
    refine lv_if_eq (tgt := 23) hx hb dX4_is_16 (by decide) (fun c6 => ?_) (fun c6 => ?_)
    · replace hf := it_t c6 hf
      refine lv_iconst hx hb dX4_is_23 kc_i0 ?_
      have hE9 := Option.some.inj hf
      subst hE9
      exact gt_rz S hr hlocks nb0 dX4_is_24
    · replace hf := it_f c6 hf
      refine lv_iconst hx hb dX4_is_19 kc_i1 ?_
      refine lv_goto (tgt := 24) hx hb dX4_is_20 (by decide) ?_
      have hE9 := Option.some.inj hf
      subst hE9
      exact gt_rz S hr hlocks nb1 dX4_is_24
set_option maxRecDepth 100000 in
theorem mc_X4_168 {o : Nat} {a0 : Nat} {out : Int32} (S : CallFix p m c cc nL s args lw_all RX4) (hS : SK G E.1 hSites A s) (hB : BI G A s.heap h nx H locs) (ho : isO h o 3 = true) (hf : f_X4_is E h o a0 = some out) (hsz : ls.size = nL) (hR : (fE + 2) + 1 ≤ R.frames ∧ 8 + (2 + 11) + (lE + 44) ≤ R.locals) (hW : (rest.map fun v => v.category).sum ≤ 8) (hcs : cells ≤ R.cells ∧ slots ≤ R.slots) (hdg : decode cc pc = .ok (.invokevirtual 168, 3))  (kk : (narrow .boolean (.int out) = .int out) → W p l e R s m args below meth c H locs cells slots Q (F0 m (pc + 3) ls (.int out :: rest))) : W p l e R s m args below meth c H locs cells slots Q (F0 m pc ls (.ref a0 :: .ref o :: rest)) := by
  have hN := hS.2.1
  obtain ⟨fs, he⟩ := isO_s ho
  exact br_r (va_runV (As := [.ref a0]) S (mm_X4_is (l := l) (G := G) (nx := nx) (fE := fE) (lE := lE) hf) (cwV 1 S.2.2.2.2 (lw_V q868 q870 qs18 q190 q871) rfl rfl rfl hd_X4_is hR) (bPreV hS hB (ci := 3) rfl he) rfl rfl hsz rfl (lv_room hW) hdg hcs) kk
theorem hd_J14_init_2 : yJ14_init_2.cls ≠ "java/lang/invoke/MethodHandle" ∧ yJ14_init_2.cls ≠ "java/lang/invoke/VarHandle" ∧ (parseMethodDescriptor yJ14_init_2.desc).map (fun d => d.parameters.length) = some 4 := by decide +kernel
set_option maxHeartbeats 4000000 in
set_option maxRecDepth 100000 in
theorem mm_J14_init_2 {o : Nat} {a2 : Int32} {a3 : Int32} {out : Unit × AH × Nat × Nat} (hf : f_J14_init_2 E h nx o a2 a3 = some out) : Met l yJ14_init_2 (ws_ yJ14_init_2 cJ14_init_2 5 none) (rC (fE + 1) (lE + 40) out.2.2.1 out.2.2.2) (bPc G E.1 hSites h nx [.ref o, .null, .null, .int a2, .int a3]) (bQ G none True out.2.1 (nx + out.2.2.1) (AA h nx)) out.2.2.1 out.2.2.2 (AA h nx) := by
  refine bGo (by decide +kernel) (Nat.le_of_ble_eq_true rfl) (fun p e s m below meth c ls S hr hlocks hin hnm hS hB hl => ?_)
  have S : CallFix p m c cJ14_init_2 5 s _ lw_all RJ14 := S
  obtain ⟨hx, hb, hml, hown, hts⟩ := id S
  have hl : lv_has ls 5 [(0, .ref o), (1, .null), (2, .null), (3, .int a2), (4, .int a3)] := hl
  have hT : TL out out 0 0 := TL_0
  rw [f_J14_init_2] at hf
  refine lv_aload_n hx hb dJ14_init_2_0 rfl (lv_at hl 0 rfl) ?_
  refine W.objInit hx hb hown (hts _ q912) (hts _ q212) (hts _ q213) rfl (by rw [hml]; exact hl.1) rfl dJ14_init_2_1 (by show _ ≤ (fE + 1); omega) (by show _ ≤ (lE + 40); simp only [F0, JFrame.monitorRoom, List.map, List.sum_cons, List.sum_nil, Value.category]; omega) ?_
  refine W.eq (g2 := F0 m 4 ls []) rfl ?_
  refine lv_aload_n hx hb dJ14_init_2_4 rfl (lv_at hl 0 rfl) ?_
  refine lv_aload_n hx hb dJ14_init_2_5 rfl (lv_at hl 0 rfl) ?_
  obtain ⟨h1, hh1, hf⟩ := ob_s hf
  refine bp_J14_7 S hS hB hh1 dJ14_init_2_6 (fun H locs hB => ?_)
  refine lv_aload_n hx hb dJ14_init_2_9 rfl (lv_at hl 0 rfl) ?_
  refine b_gets S hS hB 9 rfl (hts _ q913) dJ14_init_2_10 ?_
  obtain ⟨h2, hh2, hf⟩ := ob_s hf
  refine bq_J14_17 S hS hB (x := (zqk E.1 10)) hh2 dJ14_init_2_13 (fun H locs hB => ?_)
  refine lv_aload_n hx hb dJ14_init_2_16 rfl (lv_at hl 0 rfl) ?_
  refine b_gets S hS hB 10 rfl (hts _ q915) dJ14_init_2_17 ?_
  obtain ⟨h3, hh3, hf⟩ := ob_s hf
  refine bq_J14_24 S hS hB (x := (zqk E.1 11)) hh3 dJ14_init_2_20 (fun H locs hB => ?_)
  refine lv_iload hx hb dJ14_init_2_23 (lv_at hl 4 rfl) ?_
  refine lv_if_eq (tgt := 36) hx hb dJ14_init_2_25 (by decide) (fun c4 => ?_) (fun c4 => ?_)
  · replace hf := it_t c4 hf
    refine lv_aload_n hx hb dJ14_init_2_36 rfl (lv_at hl 0 rfl) ?_
    refine lv_null hx hb dJ14_init_2_37 ?_
    obtain ⟨h5, hh5, hf⟩ := ob_s hf
    refine bq_J14_17 S hS hB (x := none) hh5 dJ14_init_2_38 (fun H locs hB => ?_)
    refine lv_aload_n hx hb dJ14_init_2_41 rfl (lv_at hl 0 rfl) ?_
    refine lv_aload_nN hx hb dJ14_init_2_42 rfl (lv_at hl 1 rfl) ?_
    obtain ⟨h6, hh6, hf⟩ := ob_s hf
    refine bq_J14_31 S hS hB (x := none) hh6 dJ14_init_2_43 (fun H locs hB => ?_)
    refine lv_aload_n hx hb dJ14_init_2_46 rfl (lv_at hl 0 rfl) ?_
    refine lv_aload_nN hx hb dJ14_init_2_47 rfl (lv_at hl 2 rfl) ?_
    obtain ⟨h7, hh7, hf⟩ := ob_s hf
    refine bq_J14_7 S hS hB (x := none) hh7 dJ14_init_2_48 (fun H locs hB => ?_)
    refine lv_iload_n hx hb dJ14_init_2_51 rfl (lv_at hl 3 rfl) ?_
    refine lv_if_ne (tgt := 60) hx hb dJ14_init_2_52 (by decide) (fun c8 => ?_) (fun c8 => ?_)
    · replace hf := it_f c8 hf
      have hE9 := TL_e hT hf
      subst hE9
      exact bt_v S hr hlocks hB (by omega) trivial dJ14_init_2_60
    · replace hf := it_t c8 hf
      refine lv_aload_n hx hb dJ14_init_2_55 rfl (lv_at hl 0 rfl) ?_
      refine lv_null hx hb dJ14_init_2_56 ?_
      obtain ⟨h9, hh9, hf⟩ := ob_s hf
      refine bq_J14_24 S hS hB (x := none) hh9 dJ14_init_2_57 (fun H locs hB => ?_)
      have hE9 := TL_e hT hf
      subst hE9
      exact bt_v S hr hlocks hB (by omega) trivial dJ14_init_2_60
  · replace hf := it_f c4 hf
    exact absurd hf (by nofun)
set_option maxRecDepth 100000 in
theorem mc_J15_16 {o : Nat} {a2 : Int32} {a3 : Int32} {out : Unit × AH × Nat × Nat} (S : CallFix p m c cc nL s args lw_all RJ15) (hS : SK G E.1 hSites A s) (hB : BI G A s.heap h nx H locs) (hf : f_J14_init_2 E h nx o a2 a3 = some out) (hsz : ls.size = nL) (hR : (fE + 1) + 1 ≤ R.frames ∧ 8 + (5 + 11) + (lE + 40) ≤ R.locals) (hW : (rest.map fun v => v.category).sum ≤ 8) (hcs : cells + out.2.2.1 ≤ R.cells ∧ slots + out.2.2.2 ≤ R.slots) (hdg : decode cc pc = .ok (.invokespecial 16, 3))  (kk : ∀ (H1 : Heap) (locs1 : List Loc), True → BI G A s.heap out.2.1 (nx + out.2.2.1) H1 locs1 → W p l e R s m args below meth c H1 locs1 (cells + out.2.2.1) (slots + out.2.2.2) Q (F0 m (pc + 3) ls (rest))) : W p l e R s m args below meth c H locs cells slots Q (F0 m pc ls (.int a3 :: .int a2 :: .null :: .null :: .ref o :: rest)) := by
  have hN := hS.2.1
  exact br_v (va_runI (As := [.null, .null, .int a2, .int a3]) S (mm_J14_init_2 (l := l) (G := G) (fE := fE) (lE := lE) hf) (⟨callB_of 4 S.2.2.2.2 (lw_meth q938) rfl rfl rfl (S.2.2.2.2 _ q194) (S.2.2.2.2 _ q936) hd_J14_init_2 hR, rfl, S.2.2.2.2 _ q937⟩) (bPreS hS hB) rfl rfl hsz rfl (lv_room hW) hdg hcs) hB kk
theorem hd_J15_init : yJ15_init.cls ≠ "java/lang/invoke/MethodHandle" ∧ yJ15_init.cls ≠ "java/lang/invoke/VarHandle" ∧ (parseMethodDescriptor yJ15_init.desc).map (fun d => d.parameters.length) = some 4 := by decide +kernel
set_option maxHeartbeats 4000000 in
set_option maxRecDepth 100000 in
theorem mm_J15_init {o : Nat} {a2 : Int32} {a3 : Int32} {out : Unit × AH × Nat × Nat} (hf : f_J15_init E h nx o a2 a3 = some out) : Met l yJ15_init (ws_ yJ15_init cJ15_init 5 none) (rC (fE + 2) (lE + 64) out.2.2.1 out.2.2.2) (bPc G E.1 hSites h nx [.ref o, .null, .null, .int a2, .int a3]) (bQ G none True out.2.1 (nx + out.2.2.1) (AA h nx)) out.2.2.1 out.2.2.2 (AA h nx) := by
  refine bGo (by decide +kernel) (Nat.le_of_ble_eq_true rfl) (fun p e s m below meth c ls S hr hlocks hin hnm hS hB hl => ?_)
  have S : CallFix p m c cJ15_init 5 s _ lw_all RJ15 := S
  obtain ⟨hx, hb, hml, hown, hts⟩ := id S
  have hl : lv_has ls 5 [(0, .ref o), (1, .null), (2, .null), (3, .int a2), (4, .int a3)] := hl
  have hT : TL out out 0 0 := TL_0
  rw [f_J15_init] at hf
  refine lv_aload_n hx hb dJ15_init_0 rfl (lv_at hl 0 rfl) ?_
  refine lv_aload_nN hx hb dJ15_init_1 rfl (lv_at hl 1 rfl) ?_
  refine lv_aload_nN hx hb dJ15_init_2 rfl (lv_at hl 2 rfl) ?_
  refine lv_iload_n hx hb dJ15_init_3 rfl (lv_at hl 3 rfl) ?_
  refine lv_iload hx hb dJ15_init_4 (lv_at hl 4 rfl) ?_
  obtain ⟨v1, hv1, hf⟩ := ob_s hf
  obtain ⟨o2, hf, hT⟩ := TL_c hT hf
  refine mc_J15_16 (fE := fE) (lE := lE) S hS hB hv1 hl.1 ⟨(by show _ ≤ (fE + 2); omega), (by show _ ≤ (lE + 64); omega)⟩ (Nat.le_of_ble_eq_true rfl) ⟨(TL_m hT).1, (TL_m hT).2⟩ dJ15_init_6 (fun H locs _ hB => ?_)
  have hE9 := TL_e hT hf
  subst hE9
  exact bt_v S hr hlocks hB (by omega) trivial dJ15_init_9
set_option maxRecDepth 100000 in
theorem mc_X5_1 {o : Nat} {a2 : Int32} {a3 : Int32} {out : Unit × AH × Nat × Nat} (S : CallFix p m c cc nL s args lw_all RX5) (hS : SK G E.1 hSites A s) (hB : BI G A s.heap h nx H locs) (hf : f_J15_init E h nx o a2 a3 = some out) (hsz : ls.size = nL) (hR : (fE + 2) + 1 ≤ R.frames ∧ 8 + (5 + 11) + (lE + 64) ≤ R.locals) (hW : (rest.map fun v => v.category).sum ≤ 8) (hcs : cells + out.2.2.1 ≤ R.cells ∧ slots + out.2.2.2 ≤ R.slots) (hdg : decode cc pc = .ok (.invokespecial 1, 3))  (kk : ∀ (H1 : Heap) (locs1 : List Loc), True → BI G A s.heap out.2.1 (nx + out.2.2.1) H1 locs1 → W p l e R s m args below meth c H1 locs1 (cells + out.2.2.1) (slots + out.2.2.2) Q (F0 m (pc + 3) ls (rest))) : W p l e R s m args below meth c H locs cells slots Q (F0 m pc ls (.int a3 :: .int a2 :: .null :: .null :: .ref o :: rest)) := by
  have hN := hS.2.1
  exact br_v (va_runI (As := [.null, .null, .int a2, .int a3]) S (mm_J15_init (l := l) (G := G) (fE := fE) (lE := lE) hf) (⟨callB_of 4 S.2.2.2.2 (lw_meth q935) rfl rfl rfl (S.2.2.2.2 _ q195) (S.2.2.2.2 _ q933) hd_J15_init hR, rfl, S.2.2.2.2 _ q934⟩) (bPreS hS hB) rfl rfl hsz rfl (lv_room hW) hdg hcs) hB kk
theorem hd_X5_init_2 : yX5_init_2.cls ≠ "java/lang/invoke/MethodHandle" ∧ yX5_init_2.cls ≠ "java/lang/invoke/VarHandle" ∧ (parseMethodDescriptor yX5_init_2.desc).map (fun d => d.parameters.length) = some 2 := by decide +kernel
set_option maxHeartbeats 4000000 in
set_option maxRecDepth 100000 in
theorem mm_X5_init_2 {o : Nat} {a0 : Int32} {a1 : Int32} {out : Unit × AH × Nat × Nat} (hf : f_X5_init_2 E h nx o a0 a1 = some out) : Met l yX5_init_2 (ws_ yX5_init_2 cX5_init_2 3 none) (rC (fE + 3) (lE + 88) out.2.2.1 out.2.2.2) (bPc G E.1 hSites h nx [.ref o, .int a0, .int a1]) (bQ G none True out.2.1 (nx + out.2.2.1) (AA h nx)) out.2.2.1 out.2.2.2 (AA h nx) := by
  refine bGo (by decide +kernel) (Nat.le_of_ble_eq_true rfl) (fun p e s m below meth c ls S hr hlocks hin hnm hS hB hl => ?_)
  have S : CallFix p m c cX5_init_2 3 s _ lw_all RX5 := S
  obtain ⟨hx, hb, hml, hown, hts⟩ := id S
  have hl : lv_has ls 3 [(0, .ref o), (1, .int a0), (2, .int a1)] := hl
  have hT : TL out out 0 0 := TL_0
  rw [f_X5_init_2] at hf
  refine lv_aload_n hx hb dX5_init_2_0 rfl (lv_at hl 0 rfl) ?_
  refine lv_null hx hb dX5_init_2_1 ?_
  refine lv_null hx hb dX5_init_2_2 ?_
  refine lv_iconst hx hb dX5_init_2_3 kc_i0 ?_
  refine lv_iconst hx hb dX5_init_2_4 kc_i0 ?_
  obtain ⟨v1, hv1, hf⟩ := ob_s hf
  obtain ⟨o2, hf, hT⟩ := TL_c hT hf
  refine mc_X5_1 (fE := fE) (lE := lE) S hS hB hv1 hl.1 ⟨(by show _ ≤ (fE + 3); omega), (by show _ ≤ (lE + 88); omega)⟩ (Nat.le_of_ble_eq_true rfl) ⟨(TL_m hT).1, (TL_m hT).2⟩ dX5_init_2_5 (fun H locs _ hB => ?_)
  refine lv_aload_n hx hb dX5_init_2_8 rfl (lv_at hl 0 rfl) ?_
  refine lv_iload_n hx hb dX5_init_2_9 rfl (lv_at hl 1 rfl) ?_
  obtain ⟨h3, hh3, hf⟩ := ob_s hf
  refine bp_X5_7 S hS hB hin hh3 dX5_init_2_10 (fun H locs hB => ?_)
  refine lv_aload_n hx hb dX5_init_2_13 rfl (lv_at hl 0 rfl) ?_
  refine lv_iload_n hx hb dX5_init_2_14 rfl (lv_at hl 2 rfl) ?_
  obtain ⟨h4, hh4, hf⟩ := ob_s hf
  refine bp_X5_13 S hS hB hin hh4 dX5_init_2_15 (fun H locs hB => ?_)
  have hE9 := TL_e hT hf
  subst hE9
  exact bt_v S hr hlocks hB (by omega) trivial dX5_init_2_18
set_option maxRecDepth 100000 in
theorem mc_X4_87 {o : Nat} {a0 : Int32} {a1 : Int32} {out : Unit × AH × Nat × Nat} (S : CallFix p m c cc nL s args lw_all RX4) (hS : SK G E.1 hSites A s) (hB : BI G A s.heap h nx H locs) (hf : f_X5_init_2 E h nx o a0 a1 = some out) (hsz : ls.size = nL) (hR : (fE + 3) + 1 ≤ R.frames ∧ 8 + (3 + 11) + (lE + 88) ≤ R.locals) (hW : (rest.map fun v => v.category).sum ≤ 8) (hcs : cells + out.2.2.1 ≤ R.cells ∧ slots + out.2.2.2 ≤ R.slots) (hdg : decode cc pc = .ok (.invokespecial 87, 3))  (kk : ∀ (H1 : Heap) (locs1 : List Loc), True → BI G A s.heap out.2.1 (nx + out.2.2.1) H1 locs1 → W p l e R s m args below meth c H1 locs1 (cells + out.2.2.1) (slots + out.2.2.2) Q (F0 m (pc + 3) ls (rest))) : W p l e R s m args below meth c H locs cells slots Q (F0 m pc ls (.int a1 :: .int a0 :: .ref o :: rest)) := by
  have hN := hS.2.1
  exact br_v (va_runI (As := [.int a0, .int a1]) S (mm_X5_init_2 (l := l) (G := G) (fE := fE) (lE := lE) hf) (⟨callB_of 2 S.2.2.2.2 (lw_meth q932) rfl rfl rfl (S.2.2.2.2 _ q196) (S.2.2.2.2 _ q960) hd_X5_init_2 hR, rfl, S.2.2.2.2 _ q931⟩) (bPreS hS hB) rfl rfl hsz rfl (lv_room hW) hdg hcs) hB kk
set_option maxRecDepth 100000 in
theorem mc_X5_16 {o : Nat} {a0 : Int32} {a1 : Int32} {out : Unit × AH × Nat × Nat} (S : CallFix p m c cc nL s args lw_all RX5) (hS : SK G E.1 hSites A s) (hB : BI G A s.heap h nx H locs) (hf : f_X5_init_2 E h nx o a0 a1 = some out) (hsz : ls.size = nL) (hR : (fE + 3) + 1 ≤ R.frames ∧ 8 + (3 + 11) + (lE + 88) ≤ R.locals) (hW : (rest.map fun v => v.category).sum ≤ 8) (hcs : cells + out.2.2.1 ≤ R.cells ∧ slots + out.2.2.2 ≤ R.slots) (hdg : decode cc pc = .ok (.invokespecial 16, 3))  (kk : ∀ (H1 : Heap) (locs1 : List Loc), True → BI G A s.heap out.2.1 (nx + out.2.2.1) H1 locs1 → W p l e R s m args below meth c H1 locs1 (cells + out.2.2.1) (slots + out.2.2.2) Q (F0 m (pc + 3) ls (rest))) : W p l e R s m args below meth c H locs cells slots Q (F0 m pc ls (.int a1 :: .int a0 :: .ref o :: rest)) := by
  have hN := hS.2.1
  exact br_v (va_runI (As := [.int a0, .int a1]) S (mm_X5_init_2 (l := l) (G := G) (fE := fE) (lE := lE) hf) (⟨callB_of 2 S.2.2.2.2 (lw_meth q932) rfl rfl rfl (S.2.2.2.2 _ q196) (S.2.2.2.2 _ q930) hd_X5_init_2 hR, rfl, S.2.2.2.2 _ q931⟩) (bPreS hS hB) rfl rfl hsz rfl (lv_room hW) hdg hcs) hB kk
theorem hd_X5_init : yX5_init.cls ≠ "java/lang/invoke/MethodHandle" ∧ yX5_init.cls ≠ "java/lang/invoke/VarHandle" ∧ (parseMethodDescriptor yX5_init.desc).map (fun d => d.parameters.length) = some 1 := by decide +kernel
set_option maxHeartbeats 4000000 in
set_option maxRecDepth 100000 in
theorem mm_X5_init {o : Nat} {a0 : Int32} {out : Unit × AH × Nat × Nat} (hf : f_X5_init E h nx o a0 = some out) : Met l yX5_init (ws_ yX5_init cX5_init 2 none) (rC (fE + 4) (lE + 110) out.2.2.1 out.2.2.2) (bPc G E.1 hSites h nx [.ref o, .int a0]) (bQ G none True out.2.1 (nx + out.2.2.1) (AA h nx)) out.2.2.1 out.2.2.2 (AA h nx) := by
  refine bGo (by decide +kernel) (Nat.le_of_ble_eq_true rfl) (fun p e s m below meth c ls S hr hlocks hin hnm hS hB hl => ?_)
  have S : CallFix p m c cX5_init 2 s _ lw_all RX5 := S
  obtain ⟨hx, hb, hml, hown, hts⟩ := id S
  have hl : lv_has ls 2 [(0, .ref o), (1, .int a0)] := hl
  have hT : TL out out 0 0 := TL_0
  rw [f_X5_init] at hf
  refine lv_aload_n hx hb dX5_init_0 rfl (lv_at hl 0 rfl) ?_
  refine lv_iconst hx hb dX5_init_1 kc_i1 ?_
  refine lv_iload_n hx hb dX5_init_2 rfl (lv_at hl 1 rfl) ?_
  obtain ⟨v1, hv1, hf⟩ := ob_s hf
  obtain ⟨o2, hf, hT⟩ := TL_c hT hf
  refine mc_X5_16 (fE := fE) (lE := lE) S hS hB hv1 hl.1 ⟨(by show _ ≤ (fE + 4); omega), (by show _ ≤ (lE + 110); omega)⟩ (Nat.le_of_ble_eq_true rfl) ⟨(TL_m hT).1, (TL_m hT).2⟩ dX5_init_3 (fun H locs _ hB => ?_)
  have hE9 := TL_e hT hf
  subst hE9
  exact bt_v S hr hlocks hB (by omega) trivial dX5_init_6
set_option maxRecDepth 100000 in
theorem mc_X4_86 {o : Nat} {a0 : Int32} {out : Unit × AH × Nat × Nat} (S : CallFix p m c cc nL s args lw_all RX4) (hS : SK G E.1 hSites A s) (hB : BI G A s.heap h nx H locs) (hf : f_X5_init E h nx o a0 = some out) (hsz : ls.size = nL) (hR : (fE + 4) + 1 ≤ R.frames ∧ 8 + (2 + 11) + (lE + 110) ≤ R.locals) (hW : (rest.map fun v => v.category).sum ≤ 8) (hcs : cells + out.2.2.1 ≤ R.cells ∧ slots + out.2.2.2 ≤ R.slots) (hdg : decode cc pc = .ok (.invokespecial 86, 3))  (kk : ∀ (H1 : Heap) (locs1 : List Loc), True → BI G A s.heap out.2.1 (nx + out.2.2.1) H1 locs1 → W p l e R s m args below meth c H1 locs1 (cells + out.2.2.1) (slots + out.2.2.2) Q (F0 m (pc + 3) ls (rest))) : W p l e R s m args below meth c H locs cells slots Q (F0 m pc ls (.int a0 :: .ref o :: rest)) := by
  have hN := hS.2.1
  exact br_v (va_runI (As := [.int a0]) S (mm_X5_init (l := l) (G := G) (fE := fE) (lE := lE) hf) (⟨callB_of 1 S.2.2.2.2 (lw_meth q929) rfl rfl rfl (S.2.2.2.2 _ q196) (S.2.2.2.2 _ q927) hd_X5_init hR, rfl, S.2.2.2.2 _ q928⟩) (bPreS hS hB) rfl rfl hsz rfl (lv_room hW) hdg hcs) hB kk
theorem hd_X4_needs : yX4_needs.cls = RX4 ∧ yX4_needs.cls ≠ "java/lang/invoke/MethodHandle" ∧ yX4_needs.cls ≠ "java/lang/invoke/VarHandle" ∧ (parseMethodDescriptor yX4_needs.desc).map (fun d => d.parameters.length) = some 2 := by decide +kernel
set_option maxHeartbeats 4000000 in
set_option maxRecDepth 100000 in
theorem mm_X4_needs {o : Nat} {a0 : Int32} {a1 : Int32} {out : (Nat ⊕ Unit) × AH × Nat × Nat} (hf : f_X4_needs E h nx o a0 a1 = some out) : wx_Met l yX4_needs (ws_ yX4_needs cX4_needs 3 none) (rC (fE + 5) (lE + 131) out.2.2.1 out.2.2.2) (bPc G E.1 hSites h nx [.ref o, .int a0, .int a1]) (xQ G out.1 (fun _ => none) out.2.1 (nx + out.2.2.1) (AA h nx)) (xX G out.1 out.2.1 (nx + out.2.2.1) (AA h nx)) out.2.2.1 out.2.2.2 (AA h nx) := by
  refine bGoX (by decide +kernel) (Nat.le_of_ble_eq_true rfl) (fun p e s m below meth c ls S hr hlocks hin hnm hem hS hB hl => ?_)
  have S : CallFix p m c cX4_needs 3 s _ lw_all RX4 := S
  obtain ⟨hx, hb, hml, hown, hts⟩ := id S
  have hl : lv_has ls 3 [(0, .ref o), (1, .int a0), (2, .int a1)] := hl
  have w32 : ∀ (x0 : Nat) (x2 : Int32) (hc : AH) (nc : Nat) (ls : Array Slot) (H : Heap) (locs : List Loc) (ce sl : Nat) (o1 : (Nat ⊕ Unit) × AH × Nat × Nat), BI G (AA h nx) s.heap hc nc H locs → nc = nx + ce → TL out o1 ce sl → lv_has ls 3 [(0, .ref x0), (2, .int x2)] → f_X4_needs_32 E x0 x2 hc nc = some o1 → W p l e (rC (fE + 5) (lE + 131) out.2.2.1 out.2.2.2) s m ([.ref o, .int a0, .int a1] : List Value).toArray below meth c H locs ce sl (wx_MQ below (xQ G out.1 (fun _ => none) out.2.1 (nx + out.2.2.1) (AA h nx)) (xX G out.1 out.2.1 (nx + out.2.2.1) (AA h nx)) ([.ref o, .int a0, .int a1] : List Value).toArray s out.2.2.1 out.2.2.2 (AA h nx)) (F0 m 32 ls []) := by
    intro x0 x2 hc nc ls H locs ce sl o1 hB hn hT hl hf
    rw [f_X4_needs_32] at hf
    obtain ⟨o1, hf, hT⟩ := TL_c hT hf
    refine bn_X4_84 S hS hB (TL_m hT).1 (TL_m hT).2 dX4_needs_32 (fun H hB => ?_)
    refine lv_dup hx hb dX4_needs_35 rfl ?_
    refine lv_iload_n hx hb dX4_needs_36 rfl (lv_at hl 1 rfl) ?_
    refine lv_aload_n hx hb dX4_needs_37 rfl (lv_at hl 0 rfl) ?_
    obtain ⟨v2, hv2, hf⟩ := ob_s hf
    refine bg_X4_60 S hS hB (vI_s hv2) dX4_needs_38 ?_
    obtain ⟨v3, hv3, hf⟩ := ob_s hf
    obtain ⟨o4, hf, hT⟩ := TL_c hT hf
    refine mc_X4_87 (fE := fE) (lE := lE) S hS hB hv3 hl.1 ⟨(by show _ ≤ (fE + 5); omega), (by show _ ≤ (lE + 131); omega)⟩ (Nat.le_of_ble_eq_true rfl) ⟨(TL_m hT).1, (TL_m hT).2⟩ dX4_needs_41 (fun H locs _ hB => ?_)
    obtain ⟨g5, hf⟩ := gd_t hf
    have hE9 := TL_e hT hf
    subst hE9
    exact wx_athrow hx hb dX4_needs_44 (xt_out hS hem hlocks hB (by omega) g5)
  have hT : TL out out 0 0 := TL_0
  rw [f_X4_needs] at hf
  refine lv_iload_n hx hb dX4_needs_0 rfl (lv_at hl 1 rfl) ?_
  refine lv_if_eq (tgt := 5) hx hb dX4_needs_1 (by decide) (fun c1 => ?_) (fun c1 => ?_)
  · replace hf := it_t c1 hf
    refine lv_iload_n hx hb dX4_needs_5 rfl (lv_at hl 2 rfl) ?_
    refine lv_iconst hx hb dX4_needs_6 kc_i2 ?_
    refine lv_icmp_ne (tgt := 32) hx hb dX4_needs_7 (by decide) (fun c2 => ?_) (fun c2 => ?_)
    · replace hf := it_f c2 hf
      exact (w32) o a1 h nx ls s.heap [] 0 0 out hB (by omega) hT (lv_sub (l' := [(0, .ref o), (2, .int a1)]) hl [0, 2] rfl) hf
    · replace hf := it_t c2 hf
      refine lv_aload_n hx hb dX4_needs_10 rfl (lv_at hl 0 rfl) ?_
      obtain ⟨v3, hv3, hf⟩ := ob_s hf
      refine bg_X4_67 S hS hB (vI_s hv3) dX4_needs_11 ?_
      refine lv_iconst hx hb dX4_needs_14 kc_i4 ?_
      refine lv_icmp_ne (tgt := 32) hx hb dX4_needs_15 (by decide) (fun c4 => ?_) (fun c4 => ?_)
      · replace hf := it_f c4 hf
        exact (w32) o a1 h nx ls s.heap [] 0 0 out hB (by omega) hT (lv_sub (l' := [(0, .ref o), (2, .int a1)]) hl [0, 2] rfl) hf
      · replace hf := it_t c4 hf
        obtain ⟨o5, hf, hT⟩ := TL_c hT hf
        refine bn_X4_84 S hS hB (TL_m hT).1 (TL_m hT).2 dX4_needs_18 (fun H hB => ?_)
        refine lv_dup hx hb dX4_needs_21 rfl ?_
        refine lv_aload_n hx hb dX4_needs_22 rfl (lv_at hl 0 rfl) ?_
        obtain ⟨v6, hv6, hf⟩ := ob_s hf
        refine bg_X4_60 S hS hB (vI_s hv6) dX4_needs_23 ?_
        obtain ⟨v7, hv7, hf⟩ := ob_s hf
        obtain ⟨o8, hf, hT⟩ := TL_c hT hf
        refine mc_X4_86 (fE := fE) (lE := lE) S hS hB hv7 hl.1 ⟨(by show _ ≤ (fE + 5); omega), (by show _ ≤ (lE + 131); omega)⟩ (Nat.le_of_ble_eq_true rfl) ⟨(TL_m hT).1, (TL_m hT).2⟩ dX4_needs_26 (fun H locs _ hB => ?_)
        refine lv_goto (tgt := 44) hx hb dX4_needs_29 (by decide) ?_
        obtain ⟨g9, hf⟩ := gd_t hf
        have hE9 := TL_e hT hf
        subst hE9
        exact wx_athrow hx hb dX4_needs_44 (xt_out hS hem hlocks hB (by omega) g9)
  · replace hf := it_f c1 hf
    have hE9 := TL_e hT hf
    subst hE9
    exact wx_ret (bt_v S hr hlocks hB (by omega) trivial dX4_needs_4)
set_option maxRecDepth 100000 in
theorem mc_X4_107 {o : Nat} {a0 : Int32} {a1 : Int32} {out : (Nat ⊕ Unit) × AH × Nat × Nat} (S : CallFix p m c cc nL s args lw_all RX4) (hS : SK G E.1 hSites A s) (hB : BI G A s.heap h nx H locs) (ho : isO h o 3 = true) (hf : f_X4_needs E h nx o a0 a1 = some out) (hsz : ls.size = nL) (hR : (fE + 5) + 1 ≤ R.frames ∧ 8 + (3 + 11) + (lE + 131) ≤ R.locals) (hW : (rest.map fun v => v.category).sum ≤ 8) (hcs : cells + out.2.2.1 ≤ R.cells ∧ slots + out.2.2.2 ≤ R.slots) (hdg : decode cc pc = .ok (.invokevirtual 107, 3))  (kx : ∀ (H1 : Heap) (locs1 : List Loc) (a : Nat), out.1 = .inl a → isO out.2.1 a 4 = true → BI G A s.heap out.2.1 (nx + out.2.2.1) H1 locs1 → wx_W p l e R s m args below meth c H1 locs1 (cells + out.2.2.1) (slots + out.2.2.2) Q (F0 m pc ls rest) a) (kk : ∀ (H1 : Heap) (locs1 : List Loc) (r : Unit), out.1 = .inr r → BI G A s.heap out.2.1 (nx + out.2.2.1) H1 locs1 → W p l e R s m args below meth c H1 locs1 (cells + out.2.2.1) (slots + out.2.2.2) Q (F0 m (pc + 3) ls (rest))) : W p l e R s m args below meth c H locs cells slots Q (F0 m pc ls (.int a1 :: .int a0 :: .ref o :: rest)) := by
  have hN := hS.2.1
  obtain ⟨fs, he⟩ := isO_s ho
  exact br_x (wx_runV (As := [.int a0, .int a1]) S (mm_X4_needs (l := l) (G := G) (fE := fE) (lE := lE) hf) (cwV 2 S.2.2.2.2 (lw_V q885 q887 qs20 q190 q888) rfl rfl rfl hd_X4_needs hR) (bPreV hS hB (ci := 3) rfl he) rfl rfl hsz rfl (lv_room hW) hdg hcs) hB kx kk
theorem hd_X1_place : yX1_place.cls ≠ "java/lang/invoke/MethodHandle" ∧ yX1_place.cls ≠ "java/lang/invoke/VarHandle" ∧ (parseMethodDescriptor yX1_place.desc).map (fun d => d.parameters.length) = some 2 := by decide +kernel
set_option maxHeartbeats 4000000 in
set_option maxRecDepth 100000 in
theorem mm_X1_place {a0 : Nat} {a1 : Nat} {out : Int32} (hf : f_X1_place E h a0 a1 = some out) : Met l yX1_place (ws_ yX1_place cX1_place 3 (some .int)) (rM (fE + 2) (lE + 44)) (bPc G E.1 hSites h nx [.ref a0, .ref a1]) (gR (some (.int out)) True) 0 0 (fun _ => False) := by
  refine bGo (by decide +kernel) (Nat.le_of_ble_eq_true rfl) (fun p e s m below meth c ls S hr hlocks hin hnm hS hB hl => ?_)
  have S : CallFix p m c cX1_place 3 s _ lw_all RX1 := S
  obtain ⟨hx, hb, hml, hown, hts⟩ := id S
  have hl : lv_has ls 3 [(0, .ref a0), (1, .ref a1)] := hl
  have w2 : ∀ (n : Nat) , ∀ (x0 : Nat) (x1 : Nat) (x2 : Int32) (ls : Array Slot), lv_has ls 3 [(0, .ref x0), (1, .ref x1), (2, .int x2)] → f_X1_place_2 n E h x0 x1 x2 = some out → W p l e (rM (fE + 2) (lE + 44)) s m ([.ref a0, .ref a1] : List Value).toArray below meth c s.heap [] 0 0 (MQ below (gR (some (.int out)) True) ([.ref a0, .ref a1] : List Value).toArray s 0 0 (fun _ => False)) (F0 m 2 ls []) := by
    intro n
    induction n with
    | zero =>
      intro x0 x1 x2 ls hl hf
      exact absurd hf (by rw [f_X1_place_2]; exact nofun)
    | succ n ih =>
      intro x0 x1 x2 ls hl hf
      rw [f_X1_place_2] at hf
      refine lv_iload_n hx hb dX1_place_2 rfl (lv_at hl 2 rfl) ?_
      refine lv_aload_n hx hb dX1_place_3 rfl (lv_at hl 1 rfl) ?_
      obtain ⟨v1, hv1, hf⟩ := ob_s hf
      refine b_alen S hS.1 hB hv1 dX1_place_4 ?_
      refine lv_icmp_ge (tgt := 26) hx hb dX1_place_5 (by decide) (fun c2 => ?_) (fun c2 => ?_)
      · replace hf := it_t c2 hf
        refine lv_iconst hx hb dX1_place_26 kc_im1 ?_
        have hE9 := Option.some.inj hf
        subst hE9
        exact gt_ri S hr hlocks trivial dX1_place_27
      · replace hf := it_f c2 hf
        refine lv_aload_n hx hb dX1_place_8 rfl (lv_at hl 1 rfl) ?_
        refine lv_iload_n hx hb dX1_place_9 rfl (lv_at hl 2 rfl) ?_
        obtain ⟨v3, hv3, hf⟩ := ob_s hf
        refine b_aald S hS.1 hB 8 rfl rfl hv3 dX1_place_10 ?_
        refine lv_aload_n hx hb dX1_place_11 rfl (lv_at hl 0 rfl) ?_
        obtain ⟨g4, hf⟩ := gd_t hf
        obtain ⟨v5, hv5, hf⟩ := ob_s hf
        refine mc_X1_144 (fE := fE) (lE := lE) S hS hB g4 hv5 hl.1 ⟨(by show _ ≤ (fE + 2); omega), (by show _ ≤ (lE + 44); omega)⟩ (Nat.le_of_ble_eq_true rfl) ⟨Nat.zero_le _, Nat.zero_le _⟩ dX1_place_12 (fun hnv5 => ?_)
        refine lv_if_eq (tgt := 20) hx hb dX1_place_15 (by decide) (fun c6 => ?_) (fun c6 => ?_)
        · replace hf := it_t c6 hf
          refine lv_iinc (v := (x2 + 1)) (lv' := [(2, .int (x2 + 1)), (0, .ref x0), (1, .ref x1)]) hx hb dX1_place_20 hl (k := 2) rfl rfl (by decide) rfl (fun ls hl => ?_)
          refine lv_goto (tgt := 2) hx hb dX1_place_23 (by decide) ?_
          exact (ih) x0 x1 (x2 + 1) ls (lv_sub (l' := [(0, .ref x0), (1, .ref x1), (2, .int (x2 + 1))]) hl [1, 2, 0] rfl) hf
        · replace hf := it_f c6 hf
          refine lv_iload_n hx hb dX1_place_18 rfl (lv_at hl 2 rfl) ?_
          have hE9 := Option.some.inj hf
          subst hE9
          exact gt_ri S hr hlocks trivial dX1_place_19
  rw [f_X1_place] at hf
  refine lv_iconst hx hb dX1_place_0 kc_i0 ?_
  refine lv_istore_n (i := 2) (lv' := [(2, .int 0), (0, .ref a0), (1, .ref a1)]) hx hb dX1_place_1 rfl hl (by decide) rfl (fun ls hl => ?_)
  exact (w2 FU) a0 a1 0 ls (lv_sub (l' := [(0, .ref a0), (1, .ref a1), (2, .int 0)]) hl [1, 2, 0] rfl) hf
set_option maxRecDepth 100000 in
theorem mc_X4_100 {a0 : Nat} {a1 : Nat} {out : Int32} (S : CallFix p m c cc nL s args lw_all RX4) (hS : SK G E.1 hSites A s) (hB : BI G A s.heap h nx H locs) (hf : f_X1_place E h a0 a1 = some out) (hsz : ls.size = nL) (hR : (fE + 2) + 1 ≤ R.frames ∧ 8 + (3 + 11) + (lE + 44) ≤ R.locals) (hW : (rest.map fun v => v.category).sum ≤ 8) (hcs : cells ≤ R.cells ∧ slots ≤ R.slots) (hdg : decode cc pc = .ok (.invokestatic 100, 3))  (kk : True → W p l e R s m args below meth c H locs cells slots Q (F0 m (pc + 3) ls (.int out :: rest))) : W p l e R s m args below meth c H locs cells slots Q (F0 m pc ls (.ref a1 :: .ref a0 :: rest)) := by
  have hN := hS.2.1
  exact br_r (va_runSN (As := [.ref a0, .ref a1]) S (mm_X1_place (l := l) (G := G) (nx := nx) (fE := fE) (lE := lE) hf) (⟨va_cnB 2 S.2.2.2.2 (lw_meth q971) rfl rfl rfl (hN _ q969 rfl) (S.2.2.2.2 _ q174) hd_X1_place hR, S.2.2.2.2 _ q970, trivial⟩) (bPreS hS hB) rfl rfl hsz rfl (lv_room hW) hdg hcs) kk
theorem hd_X4_digits : yX4_digits.cls = RX4 ∧ yX4_digits.cls ≠ "java/lang/invoke/MethodHandle" ∧ yX4_digits.cls ≠ "java/lang/invoke/VarHandle" ∧ (parseMethodDescriptor yX4_digits.desc).map (fun d => d.parameters.length) = some 2 := by decide +kernel
set_option maxHeartbeats 4000000 in
set_option maxRecDepth 100000 in
theorem mm_X4_digits {o : Nat} {a0 : Int32} {a1 : Int32} {out : (Nat ⊕ Int32) × AH × Nat × Nat} (hf : f_X4_digits E h nx o a0 a1 = some out) : wx_Met l yX4_digits (ws_ yX4_digits cX4_digits 4 (some .int)) (rC (fE + 7) (lE + 252) out.2.2.1 out.2.2.2) (bPc G E.1 hSites h nx [.ref o, .int a0, .int a1]) (xQ G out.1 (fun r => some (.int r)) out.2.1 (nx + out.2.2.1) (AA h nx)) (xX G out.1 out.2.1 (nx + out.2.2.1) (AA h nx)) out.2.2.1 out.2.2.2 (AA h nx) := by
  refine bGoX (by decide +kernel) (Nat.le_of_ble_eq_true rfl) (fun p e s m below meth c ls S hr hlocks hin hnm hem hS hB hl => ?_)
  have S : CallFix p m c cX4_digits 4 s _ lw_all RX4 := S
  obtain ⟨hx, hb, hml, hown, hts⟩ := id S
  have hl : lv_has ls 4 [(0, .ref o), (1, .int a0), (2, .int a1)] := hl
  have w14 : ∀ (x0 : Nat) (x1 : Int32) (x2 : Int32) (y0 : Nat) (y1 : Int32) (hc : AH) (nc : Nat) (ls : Array Slot) (H : Heap) (locs : List Loc) (ce sl : Nat) (o1 : (Nat ⊕ Int32) × AH × Nat × Nat), BI G (AA h nx) s.heap hc nc H locs → nc = nx + ce → TL out o1 ce sl → lv_has ls 4 [(0, .ref x0), (1, .int x1), (2, .int x2)] → f_X4_digits_14 E x0 x1 x2 y0 y1 hc nc = some o1 → W p l e (rC (fE + 7) (lE + 252) out.2.2.1 out.2.2.2) s m ([.ref o, .int a0, .int a1] : List Value).toArray below meth c H locs ce sl (wx_MQ below (xQ G out.1 (fun r => some (.int r)) out.2.1 (nx + out.2.2.1) (AA h nx)) (xX G out.1 out.2.1 (nx + out.2.2.1) (AA h nx)) ([.ref o, .int a0, .int a1] : List Value).toArray s out.2.2.1 out.2.2.2 (AA h nx)) (F0 m 14 ls [.int y1, .ref y0]) := by
    intro x0 x1 x2 y0 y1 hc nc ls H locs ce sl o1 hB hn hT hl hf
    rw [f_X4_digits_14] at hf
    refine lv_iconst hx hb dX4_digits_14 kc_i2 ?_
    obtain ⟨g1, hf⟩ := gd_t hf
    obtain ⟨v2, hv2, hf⟩ := ob_s hf
    obtain ⟨o3, hf, hT⟩ := TL_c hT hf
    refine mc_X4_107 (fE := fE) (lE := lE) S hS hB g1 hv2 hl.1 ⟨(by show _ ≤ (fE + 7); omega), (by show _ ≤ (lE + 252); omega)⟩ (Nat.le_of_ble_eq_true rfl) ⟨(TL_m hT).1, (TL_m hT).2⟩ dX4_digits_15 (fun H locs ax hax hix hB => ?_) (fun H locs r4 hrx hB => ?_)
    · replace hf := sc_l hax hf
      have hE9 := TL_e hT hf
      subst hE9
      exact xt_out hS hem hlocks hB (by omega) hix
    · replace hf := sc_r hrx hf
      refine lv_aload_n hx hb dX4_digits_18 rfl (lv_at hl 0 rfl) ?_
      refine lv_aload_n hx hb dX4_digits_19 rfl (lv_at hl 0 rfl) ?_
      obtain ⟨v5, hv5, hf⟩ := ob_s hf
      refine bg_X4_81 S hS hB (vI_s hv5) dX4_digits_20 ?_
      refine lv_i2l hx hb dX4_digits_23 rfl ?_
      refine lv_iload_n hx hb dX4_digits_24 rfl (lv_at hl 1 rfl) ?_
      refine lv_i2l hx hb dX4_digits_25 rfl ?_
      refine lv_iload_n hx hb dX4_digits_26 rfl (lv_at hl 2 rfl) ?_
      refine lv_i2l hx hb dX4_digits_27 rfl ?_
      obtain ⟨v6, hv6, hf⟩ := ob_s hf
      refine mc_X4_53 S hS.1 hS.2.1 hv6 hl.1 ⟨(by show _ ≤ (fE + 7); omega), (by show _ ≤ (lE + 252); omega)⟩ (Nat.le_of_ble_eq_true rfl) ⟨(TL_m hT).1, (TL_m hT).2⟩ dX4_digits_28 (fun hnv6 => ?_)
      refine lv_iconst hx hb dX4_digits_31 kc_i3 ?_
      obtain ⟨g7, hf⟩ := gd_t hf
      obtain ⟨v8, hv8, hf⟩ := ob_s hf
      obtain ⟨o9, hf, hT⟩ := TL_c hT hf
      refine mc_X4_107 (fE := fE) (lE := lE) S hS hB g7 hv8 hl.1 ⟨(by show _ ≤ (fE + 7); omega), (by show _ ≤ (lE + 252); omega)⟩ (Nat.le_of_ble_eq_true rfl) ⟨(TL_m hT).1, (TL_m hT).2⟩ dX4_digits_32 (fun H locs ax hax hix hB => ?_) (fun H locs r10 hrx hB => ?_)
      · replace hf := sc_l hax hf
        have hE9 := TL_e hT hf
        subst hE9
        exact xt_out hS hem hlocks hB (by omega) hix
      · replace hf := sc_r hrx hf
        refine lv_aload_n hx hb dX4_digits_35 rfl (lv_at hl 0 rfl) ?_
        obtain ⟨v11, hv11, hf⟩ := ob_s hf
        refine bg_X4_81 S hS hB (vI_s hv11) dX4_digits_36 ?_
        refine lv_istore_n (i := 3) (lv' := [(3, .int v11), (0, .ref x0), (1, .int x1), (2, .int x2)]) hx hb dX4_digits_39 rfl hl (by decide) rfl (fun ls hl => ?_)
        refine lv_aload_n hx hb dX4_digits_40 rfl (lv_at hl 1 rfl) ?_
        obtain ⟨g12, hf⟩ := gd_t hf
        obtain ⟨v13, hv13, hf⟩ := ob_s hf
        obtain ⟨o14, hf, hT⟩ := TL_c hT hf
        refine mc_X4_46 (fE := fE) (lE := lE) S hS hB g12 hv13 hl.1 ⟨(by show _ ≤ (fE + 7); omega), (by show _ ≤ (lE + 252); omega)⟩ (Nat.le_of_ble_eq_true rfl) ⟨(TL_m hT).1, (TL_m hT).2⟩ dX4_digits_41 (fun H locs _ hB => ?_)
        refine lv_iload_n hx hb dX4_digits_44 rfl (lv_at hl 0 rfl) ?_
        have hE9 := TL_e hT hf
        subst hE9
        exact wx_ret (bt_i S hr hlocks hB (by omega) trivial dX4_digits_45)
  have hT : TL out out 0 0 := TL_0
  rw [f_X4_digits] at hf
  refine lv_aload_n hx hb dX4_digits_0 rfl (lv_at hl 0 rfl) ?_
  refine lv_aload_n hx hb dX4_digits_1 rfl (lv_at hl 0 rfl) ?_
  obtain ⟨v1, hv1, hf⟩ := ob_s hf
  refine bg_X4_67 S hS hB (vI_s hv1) dX4_digits_2 ?_
  refine lv_iconst hx hb dX4_digits_5 kc_i2 ?_
  refine lv_icmp_ne (tgt := 13) hx hb dX4_digits_6 (by decide) (fun c2 => ?_) (fun c2 => ?_)
  · replace hf := it_f c2 hf
    refine lv_iconst hx hb dX4_digits_13 kc_i0 ?_
    exact (w14) o a0 a1 o 0 h nx ls s.heap [] 0 0 out hB (by omega) hT hl hf
  · replace hf := it_t c2 hf
    refine lv_iconst hx hb dX4_digits_9 kc_i1 ?_
    refine lv_goto (tgt := 14) hx hb dX4_digits_10 (by decide) ?_
    exact (w14) o a0 a1 o 1 h nx ls s.heap [] 0 0 out hB (by omega) hT hl hf
set_option maxRecDepth 100000 in
theorem mc_X4_152 {o : Nat} {a0 : Int32} {a1 : Int32} {out : (Nat ⊕ Int32) × AH × Nat × Nat} (S : CallFix p m c cc nL s args lw_all RX4) (hS : SK G E.1 hSites A s) (hB : BI G A s.heap h nx H locs) (ho : isO h o 3 = true) (hf : f_X4_digits E h nx o a0 a1 = some out) (hsz : ls.size = nL) (hR : (fE + 7) + 1 ≤ R.frames ∧ 8 + (4 + 11) + (lE + 252) ≤ R.locals) (hW : (rest.map fun v => v.category).sum ≤ 8) (hcs : cells + out.2.2.1 ≤ R.cells ∧ slots + out.2.2.2 ≤ R.slots) (hdg : decode cc pc = .ok (.invokevirtual 152, 3))  (kx : ∀ (H1 : Heap) (locs1 : List Loc) (a : Nat), out.1 = .inl a → isO out.2.1 a 4 = true → BI G A s.heap out.2.1 (nx + out.2.2.1) H1 locs1 → wx_W p l e R s m args below meth c H1 locs1 (cells + out.2.2.1) (slots + out.2.2.2) Q (F0 m pc ls rest) a) (kk : ∀ (H1 : Heap) (locs1 : List Loc) (r : Int32), out.1 = .inr r → BI G A s.heap out.2.1 (nx + out.2.2.1) H1 locs1 → W p l e R s m args below meth c H1 locs1 (cells + out.2.2.1) (slots + out.2.2.2) Q (F0 m (pc + 3) ls (.int r :: rest))) : W p l e R s m args below meth c H locs cells slots Q (F0 m pc ls (.int a1 :: .int a0 :: .ref o :: rest)) := by
  have hN := hS.2.1
  obtain ⟨fs, he⟩ := isO_s ho
  exact br_x (wx_runV (As := [.int a0, .int a1]) S (mm_X4_digits (l := l) (G := G) (fE := fE) (lE := lE) hf) (cwV 2 S.2.2.2.2 (lw_V q1053 q1055 qs26 q190 q1056) rfl rfl rfl hd_X4_digits hR) (bPreV hS hB (ci := 3) rfl he) rfl rfl hsz rfl (lv_room hW) hdg hcs) hB kx kk
end
