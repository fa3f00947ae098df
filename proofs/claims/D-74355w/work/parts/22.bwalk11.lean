section
variable {l : Launch} {D : va_G} {cl : List vw_C} {tys : List (ClassId × FieldType)} {G : hG} {E : bE} {fE lE : Nat} {h : AH} {nx : Nat} {A : Nat → Prop}
variable {p : Program} {e : Env} {R : Room} {s : State} {m : MethodId} {args : Array Value} {below : List Frame} {meth : Method} {c : Code} {H H0 : Heap} {locs : List Loc} {cells slots : Nat} {Q : State → Prop} {cc : ByteArray} {nL pc : Nat} {ls : Array Slot} {rest : List Value}
theorem hd_J7_putStringAt : yJ7_putStringAt.cls = RJ7 ∧ yJ7_putStringAt.cls ≠ "java/lang/invoke/MethodHandle" ∧ yJ7_putStringAt.cls ≠ "java/lang/invoke/VarHandle" ∧ (parseMethodDescriptor yJ7_putStringAt.desc).map (fun d => d.parameters.length) = some 2 := by decide +kernel
set_option maxHeartbeats 4000000 in
set_option maxRecDepth 100000 in
theorem mm_J7_putStringAt {o : Nat} {a0 : Int32} {a1 : Nat} {out : Unit × AH × Nat × Nat} (hf : f_J7_putStringAt E h nx o a0 a1 = some out) : Met l yJ7_putStringAt (ws_ yJ7_putStringAt cJ7_putStringAt 3 none) (rC (fE + 2) (lE + 143) out.2.2.1 out.2.2.2) (bPc G E.1 hSites h nx [.ref o, .int a0, .ref a1]) (bQ G none True out.2.1 (nx + out.2.2.1) (AA h nx)) out.2.2.1 out.2.2.2 (AA h nx) := by
  refine bGo (by decide +kernel) (Nat.le_of_ble_eq_true rfl) (fun p e s m below meth c ls S hr hlocks hin hnm hS hB hl => ?_)
  have S : CallFix p m c cJ7_putStringAt 3 s _ lw_all RJ7 := S
  obtain ⟨hx, hb, hml, hown, hts⟩ := id S
  have hl : lv_has ls 3 [(0, .ref o), (1, .int a0), (2, .ref a1)] := hl
  have hT : TL out out 0 0 := TL_0
  rw [f_J7_putStringAt] at hf
  refine lv_aload_n hx hb dJ7_putStringAt_0 rfl (lv_at hl 0 rfl) ?_
  refine lv_aload_n hx hb dJ7_putStringAt_1 rfl (lv_at hl 2 rfl) ?_
  obtain ⟨g1, hf⟩ := gd_t hf
  obtain ⟨v2, hv2, hf⟩ := ob_s hf
  refine mc_J7_397 (fE := fE) (lE := lE) S hS hB g1 hv2 hl.1 ⟨(by show _ ≤ (fE + 2); omega), (by show _ ≤ (lE + 143); omega)⟩ (Nat.le_of_ble_eq_true rfl) ⟨(TL_m hT).1, (TL_m hT).2⟩ dJ7_putStringAt_2 (fun _ => ?_)
  refine lv_aload_n hx hb dJ7_putStringAt_5 rfl (lv_at hl 2 rfl) ?_
  refine lv_aload_n hx hb dJ7_putStringAt_6 rfl (lv_at hl 0 rfl) ?_
  obtain ⟨v3, hv3, hf⟩ := ob_s hf
  refine bg_J7_15 S hS hB (vR_s hv3) dJ7_putStringAt_7 ?_
  refine lv_iload_n hx hb dJ7_putStringAt_10 rfl (lv_at hl 1 rfl) ?_
  refine lv_aload_n hx hb dJ7_putStringAt_11 rfl (lv_at hl 0 rfl) ?_
  obtain ⟨v4, hv4, hf⟩ := ob_s hf
  refine bg_J7_22 S hS hB (vI_s hv4) dJ7_putStringAt_12 ?_
  obtain ⟨g5, hf⟩ := gd_t hf
  obtain ⟨v6, hv6, hf⟩ := ob_s hf
  obtain ⟨o7, hf, hT⟩ := TL_c hT hf
  refine mc_J7_399 (fE := fE) (lE := lE) S hS hB g5 hv6 hl.1 ⟨(by show _ ≤ (fE + 2); omega), (by show _ ≤ (lE + 143); omega)⟩ (Nat.le_of_ble_eq_true rfl) ⟨(TL_m hT).1, (TL_m hT).2⟩ dJ7_putStringAt_15 (fun H locs _ hB => ?_)
  have hE9 := TL_e hT hf
  subst hE9
  exact bt_v S hr hlocks hB (by omega) trivial dJ7_putStringAt_18
set_option maxRecDepth 100000 in
theorem mc_J7_208 {o : Nat} {a0 : Int32} {a1 : Nat} {out : Unit × AH × Nat × Nat} (S : CallFix p m c cc nL s args lw_all RJ7) (hS : SK G E.1 hSites A s) (hB : BI G A s.heap h nx H locs) (ho : isO h o 12 = true) (hf : f_J7_putStringAt E h nx o a0 a1 = some out) (hsz : ls.size = nL) (hR : (fE + 2) + 1 ≤ R.frames ∧ 8 + (3 + 11) + (lE + 143) ≤ R.locals) (hW : (rest.map fun v => v.category).sum ≤ 8) (hcs : cells + out.2.2.1 ≤ R.cells ∧ slots + out.2.2.2 ≤ R.slots) (hdg : decode cc pc = .ok (.invokevirtual 208, 3))  (kk : ∀ (H1 : Heap) (locs1 : List Loc), True → BI G A s.heap out.2.1 (nx + out.2.2.1) H1 locs1 → W p l e R s m args below meth c H1 locs1 (cells + out.2.2.1) (slots + out.2.2.2) Q (F0 m (pc + 3) ls (rest))) : W p l e R s m args below meth c H locs cells slots Q (F0 m pc ls (.ref a1 :: .int a0 :: .ref o :: rest)) := by
  have hN := hS.2.1
  obtain ⟨fs, he⟩ := isO_s ho
  exact br_v (b_runP (As := [.int a0, .ref a1]) S (hS.2.1 _ q1908 rfl) (mm_J7_putStringAt (l := l) (G := G) (fE := fE) (lE := lE) hf) (callB_of 2 S.2.2.2.2 (lw_meth q1910) rfl rfl rfl (S.2.2.2.2 _ q185) (S.2.2.2.2 _ q1907) hd_J7_putStringAt.2 hR) (S.2.2.2.2 _ q2655) (S.2.2.2.2 _ q1909) (bPreV hS hB (ci := 12) rfl he) rfl rfl hsz rfl (lv_room hW) hdg hcs) hB kk
theorem hd_J7_append_2 : yJ7_append_2.cls = RJ7 ∧ yJ7_append_2.cls ≠ "java/lang/invoke/MethodHandle" ∧ yJ7_append_2.cls ≠ "java/lang/invoke/VarHandle" ∧ (parseMethodDescriptor yJ7_append_2.desc).map (fun d => d.parameters.length) = some 1 := by decide +kernel
set_option maxHeartbeats 4000000 in
set_option maxRecDepth 100000 in
theorem mm_J7_append_2 {o : Nat} {a0 : Nat} {out : Nat × AH × Nat × Nat} (hf : f_J7_append_2 E h nx o a0 = some out) : Met l yJ7_append_2 (ws_ yJ7_append_2 cJ7_append_2 3 (some (.object "java/lang/AbstractStringBuilder"))) (rC (fE + 4) (lE + 165) out.2.2.1 out.2.2.2) (bPc G E.1 hSites h nx [.ref o, .ref a0]) (bQ G (some (.ref out.1)) True out.2.1 (nx + out.2.2.1) (AA h nx)) out.2.2.1 out.2.2.2 (AA h nx) := by
  refine bGo (by decide +kernel) (Nat.le_of_ble_eq_true rfl) (fun p e s m below meth c ls S hr hlocks hin hnm hS hB hl => ?_)
  have S : CallFix p m c cJ7_append_2 3 s _ lw_all RJ7 := S
  obtain ⟨hx, hb, hml, hown, hts⟩ := id S
  have hl : lv_has ls 3 [(0, .ref o), (1, .ref a0)] := hl
  have hT : TL out out 0 0 := TL_0
  rw [f_J7_append_2] at hf
  refine lv_aload_n hx hb dJ7_append_2_0 rfl (lv_at hl 1 rfl) ?_
  refine lv_ifnonnull (tgt := 9) hx hb dJ7_append_2_1 (by decide) ?_
  refine lv_aload_n hx hb dJ7_append_2_9 rfl (lv_at hl 1 rfl) ?_
  obtain ⟨g1, hf⟩ := gd_t hf
  obtain ⟨v2, hv2, hf⟩ := ob_s hf
  refine mc_J7_32 (fE := fE) (lE := lE) S hS hB g1 hv2 hl.1 ⟨(by show _ ≤ (fE + 4); omega), (by show _ ≤ (lE + 165); omega)⟩ (Nat.le_of_ble_eq_true rfl) ⟨(TL_m hT).1, (TL_m hT).2⟩ dJ7_append_2_10 (fun _ => ?_)
  refine lv_istore_n (i := 2) (lv' := [(2, .int v2), (0, .ref o), (1, .ref a0)]) hx hb dJ7_append_2_13 rfl hl (by decide) rfl (fun ls hl => ?_)
  refine lv_aload_n hx hb dJ7_append_2_14 rfl (lv_at hl 1 rfl) ?_
  refine lv_aload_n hx hb dJ7_append_2_15 rfl (lv_at hl 1 rfl) ?_
  obtain ⟨v3, hv3, hf⟩ := ob_s hf
  refine bg_J7_79 S hS hB (vI_s hv3) dJ7_append_2_16 ?_
  refine lv_iload_n hx hb dJ7_append_2_19 rfl (lv_at hl 0 rfl) ?_
  refine lv_iadd hx hb dJ7_append_2_20 ?_
  obtain ⟨g4, hf⟩ := gd_t hf
  obtain ⟨v5, hv5, hf⟩ := ob_s hf
  obtain ⟨o6, hf, hT⟩ := TL_c hT hf
  refine mc_J7_100 (fE := fE) (lE := lE) S hS hB g4 hv5 hl.1 ⟨(by show _ ≤ (fE + 4); omega), (by show _ ≤ (lE + 165); omega)⟩ (Nat.le_of_ble_eq_true rfl) ⟨(TL_m hT).1, (TL_m hT).2⟩ dJ7_append_2_21 (fun H locs _ hB => ?_)
  refine lv_aload_n hx hb dJ7_append_2_24 rfl (lv_at hl 1 rfl) ?_
  refine lv_aload_n hx hb dJ7_append_2_25 rfl (lv_at hl 1 rfl) ?_
  obtain ⟨v7, hv7, hf⟩ := ob_s hf
  refine bg_J7_79 S hS hB (vI_s hv7) dJ7_append_2_26 ?_
  refine lv_aload_n hx hb dJ7_append_2_29 rfl (lv_at hl 2 rfl) ?_
  obtain ⟨g8, hf⟩ := gd_t hf
  obtain ⟨v9, hv9, hf⟩ := ob_s hf
  obtain ⟨o10, hf, hT⟩ := TL_c hT hf
  refine mc_J7_208 (fE := fE) (lE := lE) S hS hB g8 hv9 hl.1 ⟨(by show _ ≤ (fE + 4); omega), (by show _ ≤ (lE + 165); omega)⟩ (Nat.le_of_ble_eq_true rfl) ⟨(TL_m hT).1, (TL_m hT).2⟩ dJ7_append_2_30 (fun H locs _ hB => ?_)
  refine lv_aload_n hx hb dJ7_append_2_33 rfl (lv_at hl 1 rfl) ?_
  refine lv_dup hx hb dJ7_append_2_34 rfl ?_
  obtain ⟨v11, hv11, hf⟩ := ob_s hf
  refine bg_J7_79 S hS hB (vI_s hv11) dJ7_append_2_35 ?_
  refine lv_iload_n hx hb dJ7_append_2_38 rfl (lv_at hl 0 rfl) ?_
  refine lv_iadd hx hb dJ7_append_2_39 ?_
  obtain ⟨h12, hh12, hf⟩ := ob_s hf
  refine bp_J7_79 S hS hB hh12 dJ7_append_2_40 (fun H locs hB => ?_)
  refine lv_aload_n hx hb dJ7_append_2_43 rfl (lv_at hl 1 rfl) ?_
  have hE9 := TL_e hT hf
  subst hE9
  exact bt_a S hr (Or.inl ⟨_, rfl⟩) hlocks hB (by omega) trivial dJ7_append_2_44
set_option maxRecDepth 100000 in
theorem mc_J8_29 {o : Nat} {a0 : Nat} {out : Nat × AH × Nat × Nat} (S : CallFix p m c cc nL s args lw_all RJ8) (hS : SK G E.1 hSites A s) (hB : BI G A s.heap h nx H locs) (ho : isO h o 12 = true) (hf : f_J7_append_2 E h nx o a0 = some out) (hsz : ls.size = nL) (hR : (fE + 4) + 1 ≤ R.frames ∧ 8 + (3 + 11) + (lE + 165) ≤ R.locals) (hW : (rest.map fun v => v.category).sum ≤ 8) (hcs : cells + out.2.2.1 ≤ R.cells ∧ slots + out.2.2.2 ≤ R.slots) (hdg : decode cc pc = .ok (.invokespecial 29, 3))  (kk : ∀ (H1 : Heap) (locs1 : List Loc), True → BI G A s.heap out.2.1 (nx + out.2.2.1) H1 locs1 → W p l e R s m args below meth c H1 locs1 (cells + out.2.2.1) (slots + out.2.2.2) Q (F0 m (pc + 3) ls (.ref out.1 :: rest))) : W p l e R s m args below meth c H locs cells slots Q (F0 m pc ls (.ref a0 :: .ref o :: rest)) := by
  have hN := hS.2.1
  obtain ⟨fs, he⟩ := isO_s ho
  exact br_w (va_runSU (hS.1.1 12 _ rfl).2 (As := [.ref a0]) S (mm_J7_append_2 (l := l) (G := G) (fE := fE) (lE := lE) hf) (va_cwSU 1 S.2.2.2.2 (lw_app (c := ws_ yJ7_append_2 cJ7_append_2 3 (some (.object "java/lang/AbstractStringBuilder"))) (fun w hw => by simp only [List.mem_cons, List.not_mem_nil, or_false] at hw; rcases hw with e | e | e | e | e <;> (rw [e]; first | exact q1880 | exact q2653 | exact q580 | exact q1881 | exact q185)) (lw_meth q1882)) rfl rfl rfl (by decide +kernel) hR) (bPreV hS hB (ci := 12) rfl he) rfl rfl hsz rfl (lv_room hW) hdg hcs) hB kk
theorem hd_J8_append_2 : yJ8_append_2.cls = RJ8 ∧ yJ8_append_2.cls ≠ "java/lang/invoke/MethodHandle" ∧ yJ8_append_2.cls ≠ "java/lang/invoke/VarHandle" ∧ (parseMethodDescriptor yJ8_append_2.desc).map (fun d => d.parameters.length) = some 1 := by decide +kernel
set_option maxHeartbeats 4000000 in
set_option maxRecDepth 100000 in
theorem mm_J8_append_2 {o : Nat} {a0 : Nat} {out : Nat × AH × Nat × Nat} (hf : f_J8_append_2 E h nx o a0 = some out) : Met l yJ8_append_2 (ws_ yJ8_append_2 cJ8_append_2 2 (some (.object "java/lang/StringBuilder"))) (rC (fE + 5) (lE + 187) out.2.2.1 out.2.2.2) (bPc G E.1 hSites h nx [.ref o, .ref a0]) (bQ G (some (.ref out.1)) True out.2.1 (nx + out.2.2.1) (AA h nx)) out.2.2.1 out.2.2.2 (AA h nx) := by
  refine bGo (by decide +kernel) (Nat.le_of_ble_eq_true rfl) (fun p e s m below meth c ls S hr hlocks hin hnm hS hB hl => ?_)
  have S : CallFix p m c cJ8_append_2 2 s _ lw_all RJ8 := S
  obtain ⟨hx, hb, hml, hown, hts⟩ := id S
  have hl : lv_has ls 2 [(0, .ref o), (1, .ref a0)] := hl
  have hT : TL out out 0 0 := TL_0
  rw [f_J8_append_2] at hf
  refine lv_aload_n hx hb dJ8_append_2_0 rfl (lv_at hl 0 rfl) ?_
  refine lv_aload_n hx hb dJ8_append_2_1 rfl (lv_at hl 1 rfl) ?_
  obtain ⟨g1, hf⟩ := gd_t hf
  obtain ⟨v2, hv2, hf⟩ := ob_s hf
  obtain ⟨o3, hf, hT⟩ := TL_c hT hf
  refine mc_J8_29 (fE := fE) (lE := lE) S hS hB g1 hv2 hl.1 ⟨(by show _ ≤ (fE + 5); omega), (by show _ ≤ (lE + 187); omega)⟩ (Nat.le_of_ble_eq_true rfl) ⟨(TL_m hT).1, (TL_m hT).2⟩ dJ8_append_2_2 (fun H locs _ hB => ?_)
  refine lv_pop hx hb dJ8_append_2_5 rfl ?_
  refine lv_aload_n hx hb dJ8_append_2_6 rfl (lv_at hl 0 rfl) ?_
  have hE9 := TL_e hT hf
  subst hE9
  exact bt_a S hr (Or.inl ⟨_, rfl⟩) hlocks hB (by omega) trivial dJ8_append_2_7
set_option maxRecDepth 100000 in
theorem mc_X1_567 {o : Nat} {a0 : Nat} {out : Nat × AH × Nat × Nat} (S : CallFix p m c cc nL s args lw_all RX1) (hS : SK G E.1 hSites A s) (hB : BI G A s.heap h nx H locs) (ho : isO h o 12 = true) (hf : f_J8_append_2 E h nx o a0 = some out) (hsz : ls.size = nL) (hR : (fE + 5) + 1 ≤ R.frames ∧ 8 + (2 + 11) + (lE + 187) ≤ R.locals) (hW : (rest.map fun v => v.category).sum ≤ 8) (hcs : cells + out.2.2.1 ≤ R.cells ∧ slots + out.2.2.2 ≤ R.slots) (hdg : decode cc pc = .ok (.invokevirtual 567, 3))  (kk : ∀ (H1 : Heap) (locs1 : List Loc), True → BI G A s.heap out.2.1 (nx + out.2.2.1) H1 locs1 → W p l e R s m args below meth c H1 locs1 (cells + out.2.2.1) (slots + out.2.2.2) Q (F0 m (pc + 3) ls (.ref out.1 :: rest))) : W p l e R s m args below meth c H locs cells slots Q (F0 m pc ls (.ref a0 :: .ref o :: rest)) := by
  have hN := hS.2.1
  obtain ⟨fs, he⟩ := isO_s ho
  exact br_w (va_runV (As := [.ref a0]) S (mm_J8_append_2 (l := l) (G := G) (fE := fE) (lE := lE) hf) (cwV 1 S.2.2.2.2 (lw_V q1876 q1877 q1878 q186 q1879) rfl rfl rfl hd_J8_append_2 hR) (bPreV hS hB (ci := 12) rfl he) rfl rfl hsz rfl (lv_room hW) hdg hcs) hB kk
theorem hd_J5_stringSize : yJ5_stringSize.cls ≠ "java/lang/invoke/MethodHandle" ∧ yJ5_stringSize.cls ≠ "java/lang/invoke/VarHandle" ∧ (parseMethodDescriptor yJ5_stringSize.desc).map (fun d => d.parameters.length) = some 1 := by decide +kernel
set_option maxHeartbeats 4000000 in
set_option maxRecDepth 100000 in
theorem mm_J5_stringSize {a0 : Int32} {out : Int32} (hf : f_J5_stringSize a0 = some out) : Met l yJ5_stringSize (ws_ yJ5_stringSize cJ5_stringSize 4 (some .int)) (rM 0 0) (gPc D cl tys [.int a0] []) (gR (some (.int out)) True) 0 0 (fun _ => False) := by
  refine gGo (by decide +kernel) (Nat.le_of_ble_eq_true rfl) (fun p e s m below meth c ls S hr hlocks hK hP hl => ?_)
  have S : CallFix p m c cJ5_stringSize 4 s _ lw_all RJ5 := S
  obtain ⟨hx, hb, hml, hown, hts⟩ := id S
  have hl : lv_has ls 4 [(0, .int a0)] := hl
  have w16 : ∀ (n : Nat) , ∀ (x0 : Int32) (x1 : Int32) (x2 : Int32) (x3 : Int32) (ls : Array Slot), lv_has ls 4 [(0, .int x0), (1, .int x1), (2, .int x2), (3, .int x3)] → f_J5_stringSize_16 n x0 x1 x2 x3 = some out → W p l e (rM 0 0) s m ([.int a0] : List Value).toArray below meth c s.heap [] 0 0 (MQ below (gR (some (.int out)) True) ([.int a0] : List Value).toArray s 0 0 (fun _ => False)) (F0 m 16 ls []) := by
    intro n
    induction n with
    | zero =>
      intro x0 x1 x2 x3 ls hl hf
      exact absurd hf (by rw [f_J5_stringSize_16]; exact nofun)
    | succ n ih =>
      intro x0 x1 x2 x3 ls hl hf
      rw [f_J5_stringSize_16] at hf
      refine lv_iload_n hx hb dJ5_stringSize_16 rfl (lv_at hl 3 rfl) ?_
      refine lv_bipush hx hb dJ5_stringSize_17 kc_b10 ?_
      refine lv_icmp_ge (tgt := 42) hx hb dJ5_stringSize_19 (by decide) (fun c1 => ?_) (fun c1 => ?_)
      · replace hf := it_t c1 hf
        refine lv_bipush hx hb dJ5_stringSize_42 kc_b10 ?_
        refine lv_iload_n hx hb dJ5_stringSize_44 rfl (lv_at hl 1 rfl) ?_
        refine lv_iadd hx hb dJ5_stringSize_45 ?_
        have hE9 := Option.some.inj hf
        subst hE9
        exact gt_ri S hr hlocks trivial dJ5_stringSize_46
      · replace hf := it_f c1 hf
        refine lv_iload_n hx hb dJ5_stringSize_22 rfl (lv_at hl 0 rfl) ?_
        refine lv_iload_n hx hb dJ5_stringSize_23 rfl (lv_at hl 2 rfl) ?_
        refine lv_icmp_le (tgt := 31) hx hb dJ5_stringSize_24 (by decide) (fun c2 => ?_) (fun c2 => ?_)
        · replace hf := it_t c2 hf
          refine lv_bipush hx hb dJ5_stringSize_31 kc_b10 ?_
          refine lv_iload_n hx hb dJ5_stringSize_33 rfl (lv_at hl 2 rfl) ?_
          refine lv_imul hx hb dJ5_stringSize_34 ?_
          refine lv_istore_n (i := 2) (lv' := [(2, .int ((nI 10) * x2)), (0, .int x0), (1, .int x1), (3, .int x3)]) hx hb dJ5_stringSize_35 rfl hl (by decide) rfl (fun ls hl => ?_)
          refine lv_iinc (v := (x3 + 1)) (lv' := [(3, .int (x3 + 1)), (2, .int ((nI 10) * x2)), (0, .int x0), (1, .int x1)]) hx hb dJ5_stringSize_36 hl (k := 3) rfl rfl (by decide) rfl (fun ls hl => ?_)
          refine lv_goto (tgt := 16) hx hb dJ5_stringSize_39 (by decide) ?_
          exact (ih) x0 x1 ((nI 10) * x2) (x3 + 1) ls (lv_sub (l' := [(0, .int x0), (1, .int x1), (2, .int ((nI 10) * x2)), (3, .int (x3 + 1))]) hl [2, 3, 1, 0] rfl) hf
        · replace hf := it_f c2 hf
          refine lv_iload_n hx hb dJ5_stringSize_27 rfl (lv_at hl 3 rfl) ?_
          refine lv_iload_n hx hb dJ5_stringSize_28 rfl (lv_at hl 1 rfl) ?_
          refine lv_iadd hx hb dJ5_stringSize_29 ?_
          have hE9 := Option.some.inj hf
          subst hE9
          exact gt_ri S hr hlocks trivial dJ5_stringSize_30
  rw [f_J5_stringSize] at hf
  refine lv_iconst hx hb dJ5_stringSize_0 kc_i1 ?_
  refine lv_istore_n (i := 1) (lv' := [(1, .int 1), (0, .int a0)]) hx hb dJ5_stringSize_1 rfl hl (by decide) rfl (fun ls hl => ?_)
  refine lv_iload_n hx hb dJ5_stringSize_2 rfl (lv_at hl 1 rfl) ?_
  refine lv_if_lt (tgt := 11) hx hb dJ5_stringSize_3 (by decide) (fun c1 => ?_) (fun c1 => ?_)
  · replace hf := it_t c1 hf
    refine lv_bipush hx hb dJ5_stringSize_11 kc_bm10 ?_
    refine lv_istore_n (i := 2) (lv' := [(2, .int (-10)), (1, .int 1), (0, .int a0)]) hx hb dJ5_stringSize_13 rfl hl (by decide) rfl (fun ls hl => ?_)
    refine lv_iconst hx hb dJ5_stringSize_14 kc_i1 ?_
    refine lv_istore_n (i := 3) (lv' := [(3, .int 1), (2, .int (-10)), (1, .int 1), (0, .int a0)]) hx hb dJ5_stringSize_15 rfl hl (by decide) rfl (fun ls hl => ?_)
    exact (w16 FU) a0 1 (-10) 1 ls (lv_sub (l' := [(0, .int a0), (1, .int 1), (2, .int (-10)), (3, .int 1)]) hl [3, 2, 1, 0] rfl) hf
  · replace hf := it_f c1 hf
    refine lv_iconst hx hb dJ5_stringSize_6 kc_i0 ?_
    refine lv_istore_n (i := 1) (lv' := [(1, .int 0), (0, .int a0)]) hx hb dJ5_stringSize_7 rfl hl (by decide) rfl (fun ls hl => ?_)
    refine lv_iload_n hx hb dJ5_stringSize_8 rfl (lv_at hl 1 rfl) ?_
    refine lv_ineg hx hb dJ5_stringSize_9 ?_
    refine lv_istore_n (i := 0) (lv' := [(0, .int (-a0)), (1, .int 0)]) hx hb dJ5_stringSize_10 rfl hl (by decide) rfl (fun ls hl => ?_)
    refine lv_bipush hx hb dJ5_stringSize_11 kc_bm10 ?_
    refine lv_istore_n (i := 2) (lv' := [(2, .int (-10)), (0, .int (-a0)), (1, .int 0)]) hx hb dJ5_stringSize_13 rfl hl (by decide) rfl (fun ls hl => ?_)
    refine lv_iconst hx hb dJ5_stringSize_14 kc_i1 ?_
    refine lv_istore_n (i := 3) (lv' := [(3, .int 1), (2, .int (-10)), (0, .int (-a0)), (1, .int 0)]) hx hb dJ5_stringSize_15 rfl hl (by decide) rfl (fun ls hl => ?_)
    exact (w16 FU) (-a0) 0 (-10) 1 ls (lv_sub (l' := [(0, .int (-a0)), (1, .int 0), (2, .int (-10)), (3, .int 1)]) hl [2, 3, 1, 0] rfl) hf
set_option maxRecDepth 100000 in
theorem mc_J7_245 {a0 : Int32} {out : Int32} (S : CallFix p m c cc nL s args lw_all RJ7) (hK : va_K D cl tys s) (hf : f_J5_stringSize a0 = some out) (hsz : ls.size = nL) (hR : 0 + 1 ≤ R.frames ∧ 8 + (4 + 11) + 0 ≤ R.locals) (hW : (rest.map fun v => v.category).sum ≤ 8) (hcs : cells ≤ R.cells ∧ slots ≤ R.slots) (hdg : decode cc pc = .ok (.invokestatic 245, 3))  (kk : True → W p l e R s m args below meth c H locs cells slots Q (F0 m (pc + 3) ls (.int out :: rest))) : W p l e R s m args below meth c H locs cells slots Q (F0 m pc ls (.int a0 :: rest)) := by
  exact br_r (va_runS (As := [.int a0]) S (mm_J5_stringSize hf) (va_cwS 1 S.2.2.2.2 (lw_S q1935 q1936 q183 q1937) rfl rfl rfl hd_J5_stringSize hR) (gPreS hK gP0) rfl rfl hsz rfl (lv_room hW) hdg hcs) kk
theorem hd_J5_getChars : yJ5_getChars.cls ≠ "java/lang/invoke/MethodHandle" ∧ yJ5_getChars.cls ≠ "java/lang/invoke/VarHandle" ∧ (parseMethodDescriptor yJ5_getChars.desc).map (fun d => d.parameters.length) = some 3 := by decide +kernel
set_option maxHeartbeats 4000000 in
set_option maxRecDepth 100000 in
theorem mm_J5_getChars {a0 : Int32} {a1 : Int32} {a2 : Nat} {out : Int32 × AH × Nat × Nat} (hf : f_J5_getChars E h nx a0 a1 a2 = some out) : Met l yJ5_getChars (ws_ yJ5_getChars cJ5_getChars 7 (some .int)) (rC (fE + 0) (lE + 0) out.2.2.1 out.2.2.2) (bPc G E.1 hSites h nx [.int a0, .int a1, .ref a2]) (bQ G (some (.int out.1)) True out.2.1 (nx + out.2.2.1) (AA h nx)) out.2.2.1 out.2.2.2 (AA h nx) := by
  refine bGo (by decide +kernel) (Nat.le_of_ble_eq_true rfl) (fun p e s m below meth c ls S hr hlocks hin hnm hS hB hl => ?_)
  have S : CallFix p m c cJ5_getChars 7 s _ lw_all RJ5 := S
  obtain ⟨hx, hb, hml, hown, hts⟩ := id S
  have hl : lv_has ls 7 [(0, .int a0), (1, .int a1), (2, .ref a2)] := hl
  have w104 : ∀ (x2 : Nat) (x5 : Int32) (x6 : Int32) (hc : AH) (nc : Nat) (ls : Array Slot) (H : Heap) (locs : List Loc) (ce sl : Nat) (o1 : Int32 × AH × Nat × Nat), BI G (AA h nx) s.heap hc nc H locs → nc = nx + ce → TL out o1 ce sl → lv_has ls 7 [(2, .ref x2), (5, .int x5), (6, .int x6)] → f_J5_getChars_104 E x2 x5 x6 hc nc = some o1 → W p l e (rC (fE + 0) (lE + 0) out.2.2.1 out.2.2.2) s m ([.int a0, .int a1, .ref a2] : List Value).toArray below meth c H locs ce sl (MQ below (bQ G (some (.int out.1)) True out.2.1 (nx + out.2.2.1) (AA h nx)) ([.int a0, .int a1, .ref a2] : List Value).toArray s out.2.2.1 out.2.2.2 (AA h nx)) (F0 m 104 ls []) := by
    intro x2 x5 x6 hc nc ls H locs ce sl o1 hB hn hT hl hf
    rw [f_J5_getChars_104] at hf
    refine lv_iload hx hb dJ5_getChars_104 (lv_at hl 2 rfl) ?_
    refine lv_if_eq (tgt := 118) hx hb dJ5_getChars_106 (by decide) (fun c1 => ?_) (fun c1 => ?_)
    · replace hf := it_t c1 hf
      refine lv_iload hx hb dJ5_getChars_118 (lv_at hl 1 rfl) ?_
      have hE9 := TL_e hT hf
      subst hE9
      exact bt_i S hr hlocks hB (by omega) trivial dJ5_getChars_120
    · replace hf := it_f c1 hf
      refine lv_aload_n hx hb dJ5_getChars_109 rfl (lv_at hl 0 rfl) ?_
      refine lv_iinc (v := (x5 + (-1))) (lv' := [(5, .int (x5 + (-1))), (2, .ref x2), (6, .int x6)]) hx hb dJ5_getChars_110 hl (k := 1) rfl rfl (by decide) rfl (fun ls hl => ?_)
      refine lv_iload hx hb dJ5_getChars_113 (lv_at hl 0 rfl) ?_
      refine lv_bipush hx hb dJ5_getChars_115 kc_b45 ?_
      obtain ⟨h2, hh2, hf⟩ := ob_s hf
      refine b_bast S hS.1 hB hh2 dJ5_getChars_117 (fun H locs hB => ?_)
      refine lv_iload hx hb dJ5_getChars_118 (lv_at hl 0 rfl) ?_
      have hE9 := TL_e hT hf
      subst hE9
      exact bt_i S hr hlocks hB (by omega) trivial dJ5_getChars_120
  have w22 : ∀ (n : Nat) , ∀ (x0 : Int32) (x2 : Nat) (x5 : Int32) (x6 : Int32) (hc : AH) (nc : Nat) (ls : Array Slot) (H : Heap) (locs : List Loc) (ce sl : Nat) (o1 : Int32 × AH × Nat × Nat), BI G (AA h nx) s.heap hc nc H locs → nc = nx + ce → TL out o1 ce sl → lv_has ls 7 [(0, .int x0), (2, .ref x2), (5, .int x5), (6, .int x6)] → f_J5_getChars_22 n E x0 x2 x5 x6 hc nc = some o1 → W p l e (rC (fE + 0) (lE + 0) out.2.2.1 out.2.2.2) s m ([.int a0, .int a1, .ref a2] : List Value).toArray below meth c H locs ce sl (MQ below (bQ G (some (.int out.1)) True out.2.1 (nx + out.2.2.1) (AA h nx)) ([.int a0, .int a1, .ref a2] : List Value).toArray s out.2.2.1 out.2.2.2 (AA h nx)) (F0 m 22 ls []) := by
    intro n
    induction n with
    | zero =>
      intro x0 x2 x5 x6 hc nc ls H locs ce sl o1 hB hn hT hl hf
      exact absurd hf (by rw [f_J5_getChars_22]; exact nofun)
    | succ n ih =>
      intro x0 x2 x5 x6 hc nc ls H locs ce sl o1 hB hn hT hl hf
      rw [f_J5_getChars_22] at hf
      refine lv_iload_n hx hb dJ5_getChars_22 rfl (lv_at hl 0 rfl) ?_
      refine lv_bipush hx hb dJ5_getChars_23 kc_bm100 ?_
      refine lv_icmp_gt (tgt := 72) hx hb dJ5_getChars_25 (by decide) (fun c1 => ?_) (fun c1 => ?_)
      · replace hf := it_t c1 hf
        refine lv_aload_n hx hb dJ5_getChars_72 rfl (lv_at hl 1 rfl) ?_
        refine lv_iinc (v := (x5 + (-1))) (lv' := [(5, .int (x5 + (-1))), (0, .int x0), (2, .ref x2), (6, .int x6)]) hx hb dJ5_getChars_73 hl (k := 2) rfl rfl (by decide) rfl (fun ls hl => ?_)
        refine lv_iload hx hb dJ5_getChars_76 (lv_at hl 0 rfl) ?_
        refine b_gets S hS hB 6 rfl (hts _ q1941) dJ5_getChars_78 ?_
        refine lv_iload_n hx hb dJ5_getChars_81 rfl (lv_at hl 1 rfl) ?_
        refine lv_ineg hx hb dJ5_getChars_82 ?_
        obtain ⟨v2, hv2, hf⟩ := ob_s hf
        refine b_bald S hS.1 hB hv2 dJ5_getChars_83 ?_
        obtain ⟨h3, hh3, hf⟩ := ob_s hf
        refine b_bast S hS.1 hB hh3 dJ5_getChars_84 (fun H locs hB => ?_)
        refine lv_iload_n hx hb dJ5_getChars_85 rfl (lv_at hl 1 rfl) ?_
        refine lv_bipush hx hb dJ5_getChars_86 kc_bm9 ?_
        refine lv_icmp_ge (tgt := 104) hx hb dJ5_getChars_88 (by decide) (fun c4 => ?_) (fun c4 => ?_)
        · replace hf := it_t c4 hf
          exact (w104) x2 (x5 + (-1)) x6 h3 nc ls H locs ce sl o1 hB (by omega) hT (lv_sub (l' := [(2, .ref x2), (5, .int (x5 + (-1))), (6, .int x6)]) hl [2, 0, 3] rfl) hf
        · replace hf := it_f c4 hf
          refine lv_aload_n hx hb dJ5_getChars_91 rfl (lv_at hl 2 rfl) ?_
          refine lv_iinc (v := ((x5 + (-1)) + (-1))) (lv' := [(5, .int ((x5 + (-1)) + (-1))), (0, .int x0), (2, .ref x2), (6, .int x6)]) hx hb dJ5_getChars_92 hl (k := 0) rfl rfl (by decide) rfl (fun ls hl => ?_)
          refine lv_iload hx hb dJ5_getChars_95 (lv_at hl 0 rfl) ?_
          refine b_gets S hS hB 7 rfl (hts _ q1943) dJ5_getChars_97 ?_
          refine lv_iload_n hx hb dJ5_getChars_100 rfl (lv_at hl 1 rfl) ?_
          refine lv_ineg hx hb dJ5_getChars_101 ?_
          obtain ⟨v5, hv5, hf⟩ := ob_s hf
          refine b_bald S hS.1 hB hv5 dJ5_getChars_102 ?_
          obtain ⟨h6, hh6, hf⟩ := ob_s hf
          refine b_bast S hS.1 hB hh6 dJ5_getChars_103 (fun H locs hB => ?_)
          exact (w104) x2 ((x5 + (-1)) + (-1)) x6 h6 nc ls H locs ce sl o1 hB (by omega) hT (lv_sub (l' := [(2, .ref x2), (5, .int ((x5 + (-1)) + (-1))), (6, .int x6)]) hl [2, 0, 3] rfl) hf
      · replace hf := it_f c1 hf
        refine lv_iload_n hx hb dJ5_getChars_28 rfl (lv_at hl 0 rfl) ?_
        refine lv_bipush hx hb dJ5_getChars_29 kc_b100 ?_
        obtain ⟨g7, hf⟩ := gd_t hf
        refine lv_idiv hx hb dJ5_getChars_31 (nz32_t g7) ?_
        refine lv_istore_n (i := 3) (lv' := [(3, .int (x0 / (nI 100))), (0, .int x0), (2, .ref x2), (5, .int x5), (6, .int x6)]) hx hb dJ5_getChars_32 rfl hl (by decide) rfl (fun ls hl => ?_)
        refine lv_iload_n hx hb dJ5_getChars_33 rfl (lv_at hl 0 rfl) ?_
        refine lv_bipush hx hb dJ5_getChars_34 kc_b100 ?_
        refine lv_imul hx hb dJ5_getChars_36 ?_
        refine lv_iload_n hx hb dJ5_getChars_37 rfl (lv_at hl 1 rfl) ?_
        refine lv_isub hx hb dJ5_getChars_38 ?_
        refine lv_istore (lv' := [(4, .int (((x0 / (nI 100)) * (nI 100)) - x0)), (3, .int (x0 / (nI 100))), (0, .int x0), (2, .ref x2), (5, .int x5), (6, .int x6)]) hx hb dJ5_getChars_39 hl (by decide) rfl (fun ls hl => ?_)
        refine lv_iload_n hx hb dJ5_getChars_41 rfl (lv_at hl 1 rfl) ?_
        refine lv_istore_n (i := 0) (lv' := [(0, .int (x0 / (nI 100))), (4, .int (((x0 / (nI 100)) * (nI 100)) - x0)), (3, .int (x0 / (nI 100))), (2, .ref x2), (5, .int x5), (6, .int x6)]) hx hb dJ5_getChars_42 rfl hl (by decide) rfl (fun ls hl => ?_)
        refine lv_aload_n hx hb dJ5_getChars_43 rfl (lv_at hl 3 rfl) ?_
        refine lv_iinc (v := (x5 + (-1))) (lv' := [(5, .int (x5 + (-1))), (0, .int (x0 / (nI 100))), (4, .int (((x0 / (nI 100)) * (nI 100)) - x0)), (3, .int (x0 / (nI 100))), (2, .ref x2), (6, .int x6)]) hx hb dJ5_getChars_44 hl (k := 4) rfl rfl (by decide) rfl (fun ls hl => ?_)
        refine lv_iload hx hb dJ5_getChars_47 (lv_at hl 0 rfl) ?_
        refine b_gets S hS hB 6 rfl (hts _ q1941) dJ5_getChars_49 ?_
        refine lv_iload hx hb dJ5_getChars_52 (lv_at hl 2 rfl) ?_
        obtain ⟨v8, hv8, hf⟩ := ob_s hf
        refine b_bald S hS.1 hB hv8 dJ5_getChars_54 ?_
        obtain ⟨h9, hh9, hf⟩ := ob_s hf
        refine b_bast S hS.1 hB hh9 dJ5_getChars_55 (fun H locs hB => ?_)
        refine lv_aload_n hx hb dJ5_getChars_56 rfl (lv_at hl 4 rfl) ?_
        refine lv_iinc (v := ((x5 + (-1)) + (-1))) (lv' := [(5, .int ((x5 + (-1)) + (-1))), (0, .int (x0 / (nI 100))), (4, .int (((x0 / (nI 100)) * (nI 100)) - x0)), (3, .int (x0 / (nI 100))), (2, .ref x2), (6, .int x6)]) hx hb dJ5_getChars_57 hl (k := 0) rfl rfl (by decide) rfl (fun ls hl => ?_)
        refine lv_iload hx hb dJ5_getChars_60 (lv_at hl 0 rfl) ?_
        refine b_gets S hS hB 7 rfl (hts _ q1943) dJ5_getChars_62 ?_
        refine lv_iload hx hb dJ5_getChars_65 (lv_at hl 2 rfl) ?_
        obtain ⟨v10, hv10, hf⟩ := ob_s hf
        refine b_bald S hS.1 hB hv10 dJ5_getChars_67 ?_
        obtain ⟨h11, hh11, hf⟩ := ob_s hf
        refine b_bast S hS.1 hB hh11 dJ5_getChars_68 (fun H locs hB => ?_)
        refine lv_goto (tgt := 22) hx hb dJ5_getChars_69 (by decide) ?_
        exact (ih) (x0 / (nI 100)) x2 ((x5 + (-1)) + (-1)) x6 h11 nc ls H locs ce sl o1 hB (by omega) hT (lv_sub (l' := [(0, .int (x0 / (nI 100))), (2, .ref x2), (5, .int ((x5 + (-1)) + (-1))), (6, .int x6)]) hl [1, 4, 0, 5] rfl) hf
  have w12 : ∀ (x0 : Int32) (x2 : Nat) (x5 : Int32) (y0 : Int32) (hc : AH) (nc : Nat) (ls : Array Slot) (H : Heap) (locs : List Loc) (ce sl : Nat) (o1 : Int32 × AH × Nat × Nat), BI G (AA h nx) s.heap hc nc H locs → nc = nx + ce → TL out o1 ce sl → lv_has ls 7 [(0, .int x0), (2, .ref x2), (5, .int x5)] → f_J5_getChars_12 E x0 x2 x5 y0 hc nc = some o1 → W p l e (rC (fE + 0) (lE + 0) out.2.2.1 out.2.2.2) s m ([.int a0, .int a1, .ref a2] : List Value).toArray below meth c H locs ce sl (MQ below (bQ G (some (.int out.1)) True out.2.1 (nx + out.2.2.1) (AA h nx)) ([.int a0, .int a1, .ref a2] : List Value).toArray s out.2.2.1 out.2.2.2 (AA h nx)) (F0 m 12 ls [.int y0]) := by
    intro x0 x2 x5 y0 hc nc ls H locs ce sl o1 hB hn hT hl hf
    rw [f_J5_getChars_12] at hf
    refine lv_istore (lv' := [(6, .int y0), (0, .int x0), (2, .ref x2), (5, .int x5)]) hx hb dJ5_getChars_12 hl (by decide) rfl (fun ls hl => ?_)
    refine lv_iload hx hb dJ5_getChars_14 (lv_at hl 0 rfl) ?_
    refine lv_if_ne (tgt := 22) hx hb dJ5_getChars_16 (by decide) (fun c1 => ?_) (fun c1 => ?_)
    · replace hf := it_f c1 hf
      exact (w22 FU) x0 x2 x5 y0 hc nc ls H locs ce sl o1 hB (by omega) hT (lv_sub (l' := [(0, .int x0), (2, .ref x2), (5, .int x5), (6, .int y0)]) hl [1, 2, 3, 0] rfl) hf
    · replace hf := it_t c1 hf
      refine lv_iload_n hx hb dJ5_getChars_19 rfl (lv_at hl 1 rfl) ?_
      refine lv_ineg hx hb dJ5_getChars_20 ?_
      refine lv_istore_n (i := 0) (lv' := [(0, .int (-x0)), (6, .int y0), (2, .ref x2), (5, .int x5)]) hx hb dJ5_getChars_21 rfl hl (by decide) rfl (fun ls hl => ?_)
      exact (w22 FU) (-x0) x2 x5 y0 hc nc ls H locs ce sl o1 hB (by omega) hT (lv_sub (l' := [(0, .int (-x0)), (2, .ref x2), (5, .int x5), (6, .int y0)]) hl [0, 2, 3, 1] rfl) hf
  have hT : TL out out 0 0 := TL_0
  rw [f_J5_getChars] at hf
  refine lv_iload_n hx hb dJ5_getChars_0 rfl (lv_at hl 1 rfl) ?_
  refine lv_istore (lv' := [(5, .int a1), (0, .int a0), (1, .int a1), (2, .ref a2)]) hx hb dJ5_getChars_1 hl (by decide) rfl (fun ls hl => ?_)
  refine lv_iload_n hx hb dJ5_getChars_3 rfl (lv_at hl 1 rfl) ?_
  refine lv_if_ge (tgt := 11) hx hb dJ5_getChars_4 (by decide) (fun c1 => ?_) (fun c1 => ?_)
  · replace hf := it_t c1 hf
    refine lv_iconst hx hb dJ5_getChars_11 kc_i0 ?_
    exact (w12) a0 a2 a1 0 h nx ls s.heap [] 0 0 out hB (by omega) hT (lv_sub (l' := [(0, .int a0), (2, .ref a2), (5, .int a1)]) hl [1, 3, 0] rfl) hf
  · replace hf := it_f c1 hf
    refine lv_iconst hx hb dJ5_getChars_7 kc_i1 ?_
    refine lv_goto (tgt := 12) hx hb dJ5_getChars_8 (by decide) ?_
    exact (w12) a0 a2 a1 1 h nx ls s.heap [] 0 0 out hB (by omega) hT (lv_sub (l' := [(0, .int a0), (2, .ref a2), (5, .int a1)]) hl [1, 3, 0] rfl) hf
set_option maxRecDepth 100000 in
theorem mc_J7_248 {a0 : Int32} {a1 : Int32} {a2 : Nat} {out : Int32 × AH × Nat × Nat} (S : CallFix p m c cc nL s args lw_all RJ7) (hS : SK G E.1 hSites A s) (hB : BI G A s.heap h nx H locs) (hf : f_J5_getChars E h nx a0 a1 a2 = some out) (hsz : ls.size = nL) (hR : (fE + 0) + 1 ≤ R.frames ∧ 8 + (7 + 11) + (lE + 0) ≤ R.locals) (hW : (rest.map fun v => v.category).sum ≤ 8) (hcs : cells + out.2.2.1 ≤ R.cells ∧ slots + out.2.2.2 ≤ R.slots) (hdg : decode cc pc = .ok (.invokestatic 248, 3))  (kk : ∀ (H1 : Heap) (locs1 : List Loc), True → BI G A s.heap out.2.1 (nx + out.2.2.1) H1 locs1 → W p l e R s m args below meth c H1 locs1 (cells + out.2.2.1) (slots + out.2.2.2) Q (F0 m (pc + 3) ls (.int out.1 :: rest))) : W p l e R s m args below meth c H locs cells slots Q (F0 m pc ls (.ref a2 :: .int a1 :: .int a0 :: rest)) := by
  have hN := hS.2.1
  exact br_w (va_runS (As := [.int a0, .int a1, .ref a2]) S (mm_J5_getChars (l := l) (G := G) (fE := fE) (lE := lE) hf) (va_cwS 3 S.2.2.2.2 (lw_S q1938 q1939 q183 q1940) rfl rfl rfl hd_J5_getChars hR) (bPreS hS hB) rfl rfl hsz rfl (lv_room hW) hdg hcs) hB kk
theorem hd_J7_append_3 : yJ7_append_3.cls = RJ7 ∧ yJ7_append_3.cls ≠ "java/lang/invoke/MethodHandle" ∧ yJ7_append_3.cls ≠ "java/lang/invoke/VarHandle" ∧ (parseMethodDescriptor yJ7_append_3.desc).map (fun d => d.parameters.length) = some 1 := by decide +kernel
set_option maxHeartbeats 4000000 in
set_option maxRecDepth 100000 in
theorem mm_J7_append_3 {o : Nat} {a0 : Int32} {out : Nat × AH × Nat × Nat} (hf : f_J7_append_3 E h nx o a0 = some out) : Met l yJ7_append_3 (ws_ yJ7_append_3 cJ7_append_3 4 (some (.object "java/lang/AbstractStringBuilder"))) (rC (fE + 4) (lE + 164) out.2.2.1 out.2.2.2) (bPc G E.1 hSites h nx [.ref o, .int a0]) (bQ G (some (.ref out.1)) True out.2.1 (nx + out.2.2.1) (AA h nx)) out.2.2.1 out.2.2.2 (AA h nx) := by
  refine bGo (by decide +kernel) (Nat.le_of_ble_eq_true rfl) (fun p e s m below meth c ls S hr hlocks hin hnm hS hB hl => ?_)
  have S : CallFix p m c cJ7_append_3 4 s _ lw_all RJ7 := S
  obtain ⟨hx, hb, hml, hown, hts⟩ := id S
  have hl : lv_has ls 4 [(0, .ref o), (1, .int a0)] := hl
  have hT : TL out out 0 0 := TL_0
  rw [f_J7_append_3] at hf
  refine lv_aload_n hx hb dJ7_append_3_0 rfl (lv_at hl 0 rfl) ?_
  obtain ⟨v1, hv1, hf⟩ := ob_s hf
  refine bg_J7_79 S hS hB (vI_s hv1) dJ7_append_3_1 ?_
  refine lv_istore_n (i := 2) (lv' := [(2, .int v1), (0, .ref o), (1, .int a0)]) hx hb dJ7_append_3_4 rfl hl (by decide) rfl (fun ls hl => ?_)
  refine lv_iload_n hx hb dJ7_append_3_5 rfl (lv_at hl 0 rfl) ?_
  refine lv_iload_n hx hb dJ7_append_3_6 rfl (lv_at hl 2 rfl) ?_
  obtain ⟨v2, hv2, hf⟩ := ob_s hf
  refine mc_J7_245 S hS.1 hv2 hl.1 ⟨(by show _ ≤ (fE + 4); omega), (by show _ ≤ (lE + 164); omega)⟩ (Nat.le_of_ble_eq_true rfl) ⟨(TL_m hT).1, (TL_m hT).2⟩ dJ7_append_3_7 (fun _ => ?_)
  refine lv_iadd hx hb dJ7_append_3_10 ?_
  refine lv_istore_n (i := 3) (lv' := [(3, .int (v1 + v2)), (2, .int v1), (0, .ref o), (1, .int a0)]) hx hb dJ7_append_3_11 rfl hl (by decide) rfl (fun ls hl => ?_)
  refine lv_aload_n hx hb dJ7_append_3_12 rfl (lv_at hl 2 rfl) ?_
  refine lv_iload_n hx hb dJ7_append_3_13 rfl (lv_at hl 0 rfl) ?_
  obtain ⟨g3, hf⟩ := gd_t hf
  obtain ⟨v4, hv4, hf⟩ := ob_s hf
  obtain ⟨o5, hf, hT⟩ := TL_c hT hf
  refine mc_J7_100 (fE := fE) (lE := lE) S hS hB g3 hv4 hl.1 ⟨(by show _ ≤ (fE + 4); omega), (by show _ ≤ (lE + 164); omega)⟩ (Nat.le_of_ble_eq_true rfl) ⟨(TL_m hT).1, (TL_m hT).2⟩ dJ7_append_3_14 (fun H locs _ hB => ?_)
  refine lv_aload_n hx hb dJ7_append_3_17 rfl (lv_at hl 2 rfl) ?_
  obtain ⟨g6, hf⟩ := gd_t hf
  obtain ⟨v7, hv7, hf⟩ := ob_s hf
  refine mc_J7_83 (fE := fE) (lE := lE) S hS hB g6 hv7 hl.1 ⟨(by show _ ≤ (fE + 4); omega), (by show _ ≤ (lE + 164); omega)⟩ (Nat.le_of_ble_eq_true rfl) ⟨(TL_m hT).1, (TL_m hT).2⟩ dJ7_append_3_18 (fun hnv7 => ?_)
  refine lv_if_eq (tgt := 37) hx hb dJ7_append_3_21 (by decide) (fun c8 => ?_) (fun c8 => ?_)
  · replace hf := it_t c8 hf
    exact absurd hf (by nofun)
  · replace hf := it_f c8 hf
    refine lv_iload_n hx hb dJ7_append_3_24 rfl (lv_at hl 3 rfl) ?_
    refine lv_iload_n hx hb dJ7_append_3_25 rfl (lv_at hl 0 rfl) ?_
    refine lv_aload_n hx hb dJ7_append_3_26 rfl (lv_at hl 2 rfl) ?_
    obtain ⟨v9, hv9, hf⟩ := ob_s hf
    refine bg_J7_15 S hS hB (vR_s hv9) dJ7_append_3_27 ?_
    obtain ⟨v10, hv10, hf⟩ := ob_s hf
    obtain ⟨o11, hf, hT⟩ := TL_c hT hf
    refine mc_J7_248 (fE := fE) (lE := lE) S hS hB hv10 hl.1 ⟨(by show _ ≤ (fE + 4); omega), (by show _ ≤ (lE + 164); omega)⟩ (Nat.le_of_ble_eq_true rfl) ⟨(TL_m hT).1, (TL_m hT).2⟩ dJ7_append_3_30 (fun H locs _ hB => ?_)
    refine lv_pop hx hb dJ7_append_3_33 rfl ?_
    refine lv_goto (tgt := 48) hx hb dJ7_append_3_34 (by decide) ?_
    refine lv_aload_n hx hb dJ7_append_3_48 rfl (lv_at hl 2 rfl) ?_
    refine lv_iload_n hx hb dJ7_append_3_49 rfl (lv_at hl 0 rfl) ?_
    obtain ⟨h12, hh12, hf⟩ := ob_s hf
    refine bp_J7_79 S hS hB hh12 dJ7_append_3_50 (fun H locs hB => ?_)
    refine lv_aload_n hx hb dJ7_append_3_53 rfl (lv_at hl 2 rfl) ?_
    have hE9 := TL_e hT hf
    subst hE9
    exact bt_a S hr (Or.inl ⟨_, rfl⟩) hlocks hB (by omega) trivial dJ7_append_3_54
set_option maxRecDepth 100000 in
theorem mc_J8_53 {o : Nat} {a0 : Int32} {out : Nat × AH × Nat × Nat} (S : CallFix p m c cc nL s args lw_all RJ8) (hS : SK G E.1 hSites A s) (hB : BI G A s.heap h nx H locs) (ho : isO h o 12 = true) (hf : f_J7_append_3 E h nx o a0 = some out) (hsz : ls.size = nL) (hR : (fE + 4) + 1 ≤ R.frames ∧ 8 + (4 + 11) + (lE + 164) ≤ R.locals) (hW : (rest.map fun v => v.category).sum ≤ 8) (hcs : cells + out.2.2.1 ≤ R.cells ∧ slots + out.2.2.2 ≤ R.slots) (hdg : decode cc pc = .ok (.invokespecial 53, 3))  (kk : ∀ (H1 : Heap) (locs1 : List Loc), True → BI G A s.heap out.2.1 (nx + out.2.2.1) H1 locs1 → W p l e R s m args below meth c H1 locs1 (cells + out.2.2.1) (slots + out.2.2.2) Q (F0 m (pc + 3) ls (.ref out.1 :: rest))) : W p l e R s m args below meth c H locs cells slots Q (F0 m pc ls (.int a0 :: .ref o :: rest)) := by
  have hN := hS.2.1
  obtain ⟨fs, he⟩ := isO_s ho
  exact br_w (va_runSU (hS.1.1 12 _ rfl).2 (As := [.int a0]) S (mm_J7_append_3 (l := l) (G := G) (fE := fE) (lE := lE) hf) (va_cwSU 1 S.2.2.2.2 (lw_app (c := ws_ yJ7_append_3 cJ7_append_3 4 (some (.object "java/lang/AbstractStringBuilder"))) (fun w hw => by simp only [List.mem_cons, List.not_mem_nil, or_false] at hw; rcases hw with e | e | e | e | e <;> (rw [e]; first | exact q1932 | exact q2657 | exact q580 | exact q1933 | exact q185)) (lw_meth q1934)) rfl rfl rfl (by decide +kernel) hR) (bPreV hS hB (ci := 12) rfl he) rfl rfl hsz rfl (lv_room hW) hdg hcs) hB kk
theorem hd_J8_append_3 : yJ8_append_3.cls = RJ8 ∧ yJ8_append_3.cls ≠ "java/lang/invoke/MethodHandle" ∧ yJ8_append_3.cls ≠ "java/lang/invoke/VarHandle" ∧ (parseMethodDescriptor yJ8_append_3.desc).map (fun d => d.parameters.length) = some 1 := by decide +kernel
set_option maxHeartbeats 4000000 in
set_option maxRecDepth 100000 in
theorem mm_J8_append_3 {o : Nat} {a0 : Int32} {out : Nat × AH × Nat × Nat} (hf : f_J8_append_3 E h nx o a0 = some out) : Met l yJ8_append_3 (ws_ yJ8_append_3 cJ8_append_3 2 (some (.object "java/lang/StringBuilder"))) (rC (fE + 5) (lE + 187) out.2.2.1 out.2.2.2) (bPc G E.1 hSites h nx [.ref o, .int a0]) (bQ G (some (.ref out.1)) True out.2.1 (nx + out.2.2.1) (AA h nx)) out.2.2.1 out.2.2.2 (AA h nx) := by
  refine bGo (by decide +kernel) (Nat.le_of_ble_eq_true rfl) (fun p e s m below meth c ls S hr hlocks hin hnm hS hB hl => ?_)
  have S : CallFix p m c cJ8_append_3 2 s _ lw_all RJ8 := S
  obtain ⟨hx, hb, hml, hown, hts⟩ := id S
  have hl : lv_has ls 2 [(0, .ref o), (1, .int a0)] := hl
  have hT : TL out out 0 0 := TL_0
  rw [f_J8_append_3] at hf
  refine lv_aload_n hx hb dJ8_append_3_0 rfl (lv_at hl 0 rfl) ?_
  refine lv_iload_n hx hb dJ8_append_3_1 rfl (lv_at hl 1 rfl) ?_
  obtain ⟨g1, hf⟩ := gd_t hf
  obtain ⟨v2, hv2, hf⟩ := ob_s hf
  obtain ⟨o3, hf, hT⟩ := TL_c hT hf
  refine mc_J8_53 (fE := fE) (lE := lE) S hS hB g1 hv2 hl.1 ⟨(by show _ ≤ (fE + 5); omega), (by show _ ≤ (lE + 187); omega)⟩ (Nat.le_of_ble_eq_true rfl) ⟨(TL_m hT).1, (TL_m hT).2⟩ dJ8_append_3_2 (fun H locs _ hB => ?_)
  refine lv_pop hx hb dJ8_append_3_5 rfl ?_
  refine lv_aload_n hx hb dJ8_append_3_6 rfl (lv_at hl 0 rfl) ?_
  have hE9 := TL_e hT hf
  subst hE9
  exact bt_a S hr (Or.inl ⟨_, rfl⟩) hlocks hB (by omega) trivial dJ8_append_3_7
set_option maxRecDepth 100000 in
theorem mc_X1_574 {o : Nat} {a0 : Int32} {out : Nat × AH × Nat × Nat} (S : CallFix p m c cc nL s args lw_all RX1) (hS : SK G E.1 hSites A s) (hB : BI G A s.heap h nx H locs) (ho : isO h o 12 = true) (hf : f_J8_append_3 E h nx o a0 = some out) (hsz : ls.size = nL) (hR : (fE + 5) + 1 ≤ R.frames ∧ 8 + (2 + 11) + (lE + 187) ≤ R.locals) (hW : (rest.map fun v => v.category).sum ≤ 8) (hcs : cells + out.2.2.1 ≤ R.cells ∧ slots + out.2.2.2 ≤ R.slots) (hdg : decode cc pc = .ok (.invokevirtual 574, 3))  (kk : ∀ (H1 : Heap) (locs1 : List Loc), True → BI G A s.heap out.2.1 (nx + out.2.2.1) H1 locs1 → W p l e R s m args below meth c H1 locs1 (cells + out.2.2.1) (slots + out.2.2.2) Q (F0 m (pc + 3) ls (.ref out.1 :: rest))) : W p l e R s m args below meth c H locs cells slots Q (F0 m pc ls (.int a0 :: .ref o :: rest)) := by
  have hN := hS.2.1
  obtain ⟨fs, he⟩ := isO_s ho
  exact br_w (va_runV (As := [.int a0]) S (mm_J8_append_3 (l := l) (G := G) (fE := fE) (lE := lE) hf) (cwV 1 S.2.2.2.2 (lw_V q1928 q1929 q1930 q186 q1931) rfl rfl rfl hd_J8_append_3 hR) (bPreV hS hB (ci := 12) rfl he) rfl rfl hsz rfl (lv_room hW) hdg hcs) hB kk
theorem hd_X1_says : yX1_says.cls = RX1 ∧ yX1_says.cls ≠ "java/lang/invoke/MethodHandle" ∧ yX1_says.cls ≠ "java/lang/invoke/VarHandle" ∧ (parseMethodDescriptor yX1_says.desc).map (fun d => d.parameters.length) = some 2 := by decide +kernel
set_option maxHeartbeats 4000000 in
set_option maxRecDepth 100000 in
theorem mm_X1_says {o : Nat} {a0 : Nat} {a1 : Nat} {out : Unit × AH × Nat × Nat} (hf : f_X1_says E h nx o a0 a1 = some out) : Met l yX1_says (ws_ yX1_says cX1_says 7 none) (rC (fE + 6) (lE + 208) out.2.2.1 out.2.2.2) (bPc G E.1 hSites h nx [.ref o, .ref a0, .ref a1]) (bQ G none True out.2.1 (nx + out.2.2.1) (AA h nx)) out.2.2.1 out.2.2.2 (AA h nx) := by
  refine bGo (by decide +kernel) (Nat.le_of_ble_eq_true rfl) (fun p e s m below meth c ls S hr hlocks hin hnm hS hB hl => ?_)
  have S : CallFix p m c cX1_says 7 s _ lw_all RX1 := S
  obtain ⟨hx, hb, hml, hown, hts⟩ := id S
  have hl : lv_has ls 7 [(0, .ref o), (1, .ref a0), (2, .ref a1)] := hl
  have w18 : ∀ (n : Nat) , ∀ (x0 : Nat) (x3 : Nat) (x4 : Int32) (x5 : Int32) (hc : AH) (nc : Nat) (ls : Array Slot) (H : Heap) (locs : List Loc) (ce sl : Nat) (o1 : Unit × AH × Nat × Nat), BI G (AA h nx) s.heap hc nc H locs → nc = nx + ce → TL out o1 ce sl → lv_has ls 7 [(0, .ref x0), (3, .ref x3), (4, .int x4), (5, .int x5)] → f_X1_says_18 n E x0 x3 x4 x5 hc nc = some o1 → W p l e (rC (fE + 6) (lE + 208) out.2.2.1 out.2.2.2) s m ([.ref o, .ref a0, .ref a1] : List Value).toArray below meth c H locs ce sl (MQ below (bQ G none True out.2.1 (nx + out.2.2.1) (AA h nx)) ([.ref o, .ref a0, .ref a1] : List Value).toArray s out.2.2.1 out.2.2.2 (AA h nx)) (F0 m 18 ls []) := by
    intro n
    induction n with
    | zero =>
      intro x0 x3 x4 x5 hc nc ls H locs ce sl o1 hB hn hT hl hf
      exact absurd hf (by rw [f_X1_says_18]; exact nofun)
    | succ n ih =>
      intro x0 x3 x4 x5 hc nc ls H locs ce sl o1 hB hn hT hl hf
      rw [f_X1_says_18] at hf
      refine lv_iload hx hb dX1_says_18 (lv_at hl 3 rfl) ?_
      refine lv_iload hx hb dX1_says_20 (lv_at hl 2 rfl) ?_
      refine lv_icmp_ge (tgt := 52) hx hb dX1_says_22 (by decide) (fun c1 => ?_) (fun c1 => ?_)
      · replace hf := it_t c1 hf
        have hE9 := TL_e hT hf
        subst hE9
        exact bt_v S hr hlocks hB (by omega) trivial dX1_says_52
      · replace hf := it_f c1 hf
        refine lv_aload_n hx hb dX1_says_25 rfl (lv_at hl 1 rfl) ?_
        refine lv_iload hx hb dX1_says_26 (lv_at hl 3 rfl) ?_
        obtain ⟨v2, hv2, hf⟩ := ob_s hf
        refine b_iald S hS.1 hB hv2 dX1_says_28 ?_
        refine lv_istore (lv' := [(6, .int v2), (0, .ref x0), (3, .ref x3), (4, .int x4), (5, .int x5)]) hx hb dX1_says_29 hl (by decide) rfl (fun ls hl => ?_)
        refine lv_aload_n hx hb dX1_says_31 rfl (lv_at hl 1 rfl) ?_
        obtain ⟨v3, hv3, hf⟩ := ob_s hf
        refine bg_X1_123 S hS hB (vR_s hv3) dX1_says_32 ?_
        refine lv_bipush hx hb dX1_says_35 kc_b32 ?_
        obtain ⟨g4, hf⟩ := gd_t hf
        obtain ⟨v5, hv5, hf⟩ := ob_s hf
        obtain ⟨o6, hf, hT⟩ := TL_c hT hf
        refine mc_X1_571 (fE := fE) (lE := lE) S hS hB g4 hv5 hl.1 ⟨(by show _ ≤ (fE + 6); omega), (by show _ ≤ (lE + 208); omega)⟩ (Nat.le_of_ble_eq_true rfl) ⟨(TL_m hT).1, (TL_m hT).2⟩ dX1_says_37 (fun H locs _ hB => ?_)
        refine lv_iload hx hb dX1_says_40 (lv_at hl 0 rfl) ?_
        obtain ⟨g7, hf⟩ := gd_t hf
        obtain ⟨v8, hv8, hf⟩ := ob_s hf
        obtain ⟨o9, hf, hT⟩ := TL_c hT hf
        refine mc_X1_574 (fE := fE) (lE := lE) S hS hB g7 hv8 hl.1 ⟨(by show _ ≤ (fE + 6); omega), (by show _ ≤ (lE + 208); omega)⟩ (Nat.le_of_ble_eq_true rfl) ⟨(TL_m hT).1, (TL_m hT).2⟩ dX1_says_42 (fun H locs _ hB => ?_)
        refine lv_pop hx hb dX1_says_45 rfl ?_
        refine lv_iinc (v := (x5 + 1)) (lv' := [(5, .int (x5 + 1)), (6, .int v2), (0, .ref x0), (3, .ref x3), (4, .int x4)]) hx hb dX1_says_46 hl (k := 4) rfl rfl (by decide) rfl (fun ls hl => ?_)
        refine lv_goto (tgt := 18) hx hb dX1_says_49 (by decide) ?_
        exact (ih) x0 x3 x4 (x5 + 1) v8.2.1 ((nc + v5.2.2.1) + v8.2.2.1) ls H locs ((ce + v5.2.2.1) + v8.2.2.1) ((sl + v5.2.2.2) + v8.2.2.2) o9 hB (by omega) hT (lv_sub (l' := [(0, .ref x0), (3, .ref x3), (4, .int x4), (5, .int (x5 + 1))]) hl [2, 3, 4, 0] rfl) hf
  have hT : TL out out 0 0 := TL_0
  rw [f_X1_says] at hf
  refine lv_aload_n hx hb dX1_says_0 rfl (lv_at hl 0 rfl) ?_
  obtain ⟨v1, hv1, hf⟩ := ob_s hf
  refine bg_X1_123 S hS hB (vR_s hv1) dX1_says_1 ?_
  refine lv_aload_n hx hb dX1_says_4 rfl (lv_at hl 1 rfl) ?_
  obtain ⟨g2, hf⟩ := gd_t hf
  obtain ⟨v3, hv3, hf⟩ := ob_s hf
  obtain ⟨o4, hf, hT⟩ := TL_c hT hf
  refine mc_X1_567 (fE := fE) (lE := lE) S hS hB g2 hv3 hl.1 ⟨(by show _ ≤ (fE + 6); omega), (by show _ ≤ (lE + 208); omega)⟩ (Nat.le_of_ble_eq_true rfl) ⟨(TL_m hT).1, (TL_m hT).2⟩ dX1_says_5 (fun H locs _ hB => ?_)
  refine lv_pop hx hb dX1_says_8 rfl ?_
  refine lv_aload_n hx hb dX1_says_9 rfl (lv_at hl 2 rfl) ?_
  refine lv_astore_n (i := 3) (lv' := [(3, .ref a1), (0, .ref o), (1, .ref a0), (2, .ref a1)]) hx hb dX1_says_10 rfl hl (by decide) rfl (fun ls hl => ?_)
  refine lv_aload_n hx hb dX1_says_11 rfl (lv_at hl 0 rfl) ?_
  obtain ⟨v5, hv5, hf⟩ := ob_s hf
  refine b_alen S hS.1 hB hv5 dX1_says_12 ?_
  refine lv_istore (lv' := [(4, .int v5), (3, .ref a1), (0, .ref o), (1, .ref a0), (2, .ref a1)]) hx hb dX1_says_13 hl (by decide) rfl (fun ls hl => ?_)
  refine lv_iconst hx hb dX1_says_15 kc_i0 ?_
  refine lv_istore (lv' := [(5, .int 0), (4, .int v5), (3, .ref a1), (0, .ref o), (1, .ref a0), (2, .ref a1)]) hx hb dX1_says_16 hl (by decide) rfl (fun ls hl => ?_)
  exact (w18 FU) o a1 v5 0 v3.2.1 (nx + v3.2.2.1) ls H locs (0 + v3.2.2.1) (0 + v3.2.2.2) o4 hB (by omega) hT (lv_sub (l' := [(0, .ref o), (3, .ref a1), (4, .int v5), (5, .int 0)]) hl [3, 2, 1, 0] rfl) hf
set_option maxRecDepth 100000 in
theorem mc_X1_587 {o : Nat} {a0 : Nat} {a1 : Nat} {out : Unit × AH × Nat × Nat} (S : CallFix p m c cc nL s args lw_all RX1) (hS : SK G E.1 hSites A s) (hB : BI G A s.heap h nx H locs) (ho : isO h o 0 = true) (hf : f_X1_says E h nx o a0 a1 = some out) (hsz : ls.size = nL) (hR : (fE + 6) + 1 ≤ R.frames ∧ 8 + (7 + 11) + (lE + 208) ≤ R.locals) (hW : (rest.map fun v => v.category).sum ≤ 8) (hcs : cells + out.2.2.1 ≤ R.cells ∧ slots + out.2.2.2 ≤ R.slots) (hdg : decode cc pc = .ok (.invokevirtual 587, 3))  (kk : ∀ (H1 : Heap) (locs1 : List Loc), True → BI G A s.heap out.2.1 (nx + out.2.2.1) H1 locs1 → W p l e R s m args below meth c H1 locs1 (cells + out.2.2.1) (slots + out.2.2.2) Q (F0 m (pc + 3) ls (rest))) : W p l e R s m args below meth c H locs cells slots Q (F0 m pc ls (.ref a1 :: .ref a0 :: .ref o :: rest)) := by
  have hN := hS.2.1
  obtain ⟨fs, he⟩ := isO_s ho
  exact br_v (va_runV (As := [.ref a0, .ref a1]) S (mm_X1_says (l := l) (G := G) (fE := fE) (lE := lE) hf) (cwV 2 S.2.2.2.2 (lw_V q1923 q1925 qs90 q174 q1926) rfl rfl rfl hd_X1_says hR) (bPreV hS hB (ci := 0) rfl he) rfl rfl hsz rfl (lv_room hW) hdg hcs) hB kk
theorem hd_X1_isGone : yX1_isGone.cls = RX1 ∧ yX1_isGone.cls ≠ "java/lang/invoke/MethodHandle" ∧ yX1_isGone.cls ≠ "java/lang/invoke/VarHandle" ∧ (parseMethodDescriptor yX1_isGone.desc).map (fun d => d.parameters.length) = some 1 := by decide +kernel
set_option maxHeartbeats 4000000 in
set_option maxRecDepth 100000 in
theorem mm_X1_isGone {o : Nat} {a0 : Int32} {out : Int32} (hf : f_X1_isGone E h o a0 = some out) : Met l yX1_isGone (ws_ yX1_isGone cX1_isGone 2 (some .boolean)) (rM (fE + 2) (lE + 42)) (bPc G E.1 hSites h nx [.ref o, .int a0]) (gR (some (.int out)) (narrow .boolean (.int out) = .int out)) 0 0 (fun _ => False) := by
  refine bGo (by decide +kernel) (Nat.le_of_ble_eq_true rfl) (fun p e s m below meth c ls S hr hlocks hin hnm hS hB hl => ?_)
  have S : CallFix p m c cX1_isGone 2 s _ lw_all RX1 := S
  obtain ⟨hx, hb, hml, hown, hts⟩ := id S
  have hl : lv_has ls 2 [(0, .ref o), (1, .int a0)] := hl
  rw [f_X1_isGone] at hf
  refine lv_aload_n hx hb dX1_isGone_0 rfl (lv_at hl 0 rfl) ?_
  obtain ⟨v1, hv1, hf⟩ := ob_s hf
  refine bg_X1_70 S hS hB (vR_s hv1) dX1_isGone_1 ?_
  obtain ⟨v2, hv2, hf⟩ := ob_s hf
  refine bg_X1_257 S hS hB (vR_s hv2) dX1_isGone_4 ?_
  refine lv_iload_n hx hb dX1_isGone_7 rfl (lv_at hl 1 rfl) ?_
  obtain ⟨v3, hv3, hf⟩ := ob_s hf
  refine b_zald S hS.1 hB hv3 dX1_isGone_8 ?_
  refine lv_if_ne (tgt := 42) hx hb dX1_isGone_9 (by decide) (fun c4 => ?_) (fun c4 => ?_)
  · replace hf := it_f c4 hf
    refine lv_iconst hx hb dX1_isGone_42 kc_i1 ?_
    refine lv_goto (tgt := 47) hx hb dX1_isGone_43 (by decide) ?_
    have hE9 := Option.some.inj hf
    subst hE9
    exact gt_rz S hr hlocks nb1 dX1_isGone_47
  · replace hf := it_t c4 hf
    refine lv_aload_n hx hb dX1_isGone_12 rfl (lv_at hl 0 rfl) ?_
    obtain ⟨v5, hv5, hf⟩ := ob_s hf
    refine bg_X1_70 S hS hB (vR_s hv5) dX1_isGone_13 ?_
    refine lv_iload_n hx hb dX1_isGone_16 rfl (lv_at hl 1 rfl) ?_
    obtain ⟨g6, hf⟩ := gd_t hf
    obtain ⟨v7, hv7, hf⟩ := ob_s hf
    refine mc_X1_244 (fE := fE) (lE := lE) S hS hB g6 hv7 hl.1 ⟨(by show _ ≤ (fE + 2); omega), (by show _ ≤ (lE + 42); omega)⟩ (Nat.le_of_ble_eq_true rfl) ⟨Nat.zero_le _, Nat.zero_le _⟩ dX1_isGone_17 (fun _ => ?_)
    refine lv_if_lt (tgt := 46) hx hb dX1_isGone_20 (by decide) (fun c8 => ?_) (fun c8 => ?_)
    · replace hf := it_t c8 hf
      refine lv_iconst hx hb dX1_isGone_46 kc_i0 ?_
      have hE9 := Option.some.inj hf
      subst hE9
      exact gt_rz S hr hlocks nb0 dX1_isGone_47
    · replace hf := it_f c8 hf
      refine lv_aload_n hx hb dX1_isGone_23 rfl (lv_at hl 0 rfl) ?_
      obtain ⟨v9, hv9, hf⟩ := ob_s hf
      refine bg_X1_70 S hS hB (vR_s hv9) dX1_isGone_24 ?_
      obtain ⟨v10, hv10, hf⟩ := ob_s hf
      refine bg_X1_305 S hS hB (vR_s hv10) dX1_isGone_27 ?_
      refine lv_aload_n hx hb dX1_isGone_30 rfl (lv_at hl 0 rfl) ?_
      obtain ⟨v11, hv11, hf⟩ := ob_s hf
      refine bg_X1_70 S hS hB (vR_s hv11) dX1_isGone_31 ?_
      refine lv_iload_n hx hb dX1_isGone_34 rfl (lv_at hl 1 rfl) ?_
      obtain ⟨g12, hf⟩ := gd_t hf
      obtain ⟨v13, hv13, hf⟩ := ob_s hf
      refine mc_X1_244 (fE := fE) (lE := lE) S hS hB g12 hv13 hl.1 ⟨(by show _ ≤ (fE + 2); omega), (by show _ ≤ (lE + 42); omega)⟩ (Nat.le_of_ble_eq_true rfl) ⟨Nat.zero_le _, Nat.zero_le _⟩ dX1_isGone_35 (fun _ => ?_)
      obtain ⟨v14, hv14, hf⟩ := ob_s hf
      refine b_zald S hS.1 hB hv14 dX1_isGone_38 ?_
      refine lv_if_eq (tgt := 46) hx hb dX1_isGone_39 (by decide) (fun c15 => ?_) (fun c15 => ?_)
      · replace hf := it_t c15 hf
        refine lv_iconst hx hb dX1_isGone_46 kc_i0 ?_
        have hE9 := Option.some.inj hf
        subst hE9
        exact gt_rz S hr hlocks nb0 dX1_isGone_47
      · replace hf := it_f c15 hf
        refine lv_iconst hx hb dX1_isGone_42 kc_i1 ?_
        refine lv_goto (tgt := 47) hx hb dX1_isGone_43 (by decide) ?_
        have hE9 := Option.some.inj hf
        subst hE9
        exact gt_rz S hr hlocks nb1 dX1_isGone_47
set_option maxRecDepth 100000 in
theorem mc_X1_591 {o : Nat} {a0 : Int32} {out : Int32} (S : CallFix p m c cc nL s args lw_all RX1) (hS : SK G E.1 hSites A s) (hB : BI G A s.heap h nx H locs) (ho : isO h o 0 = true) (hf : f_X1_isGone E h o a0 = some out) (hsz : ls.size = nL) (hR : (fE + 2) + 1 ≤ R.frames ∧ 8 + (2 + 11) + (lE + 42) ≤ R.locals) (hW : (rest.map fun v => v.category).sum ≤ 8) (hcs : cells ≤ R.cells ∧ slots ≤ R.slots) (hdg : decode cc pc = .ok (.invokevirtual 591, 3))  (kk : (narrow .boolean (.int out) = .int out) → W p l e R s m args below meth c H locs cells slots Q (F0 m (pc + 3) ls (.int out :: rest))) : W p l e R s m args below meth c H locs cells slots Q (F0 m pc ls (.int a0 :: .ref o :: rest)) := by
  have hN := hS.2.1
  obtain ⟨fs, he⟩ := isO_s ho
  exact br_r (va_runV (As := [.int a0]) S (mm_X1_isGone (l := l) (G := G) (nx := nx) (fE := fE) (lE := lE) hf) (cwV 1 S.2.2.2.2 (lw_V q1954 q1956 qs91 q174 q1957) rfl rfl rfl hd_X1_isGone hR) (bPreV hS hB (ci := 0) rfl he) rfl rfl hsz rfl (lv_room hW) hdg hcs) kk
theorem hd_X1_saysHouse : yX1_saysHouse.cls = RX1 ∧ yX1_saysHouse.cls ≠ "java/lang/invoke/MethodHandle" ∧ yX1_saysHouse.cls ≠ "java/lang/invoke/VarHandle" ∧ (parseMethodDescriptor yX1_saysHouse.desc).map (fun d => d.parameters.length) = some 1 := by decide +kernel
set_option maxHeartbeats 4000000 in
set_option maxRecDepth 100000 in
theorem mm_X1_saysHouse {o : Nat} {a0 : Int32} {out : Unit × AH × Nat × Nat} (hf : f_X1_saysHouse E h nx o a0 = some out) : Met l yX1_saysHouse (ws_ yX1_saysHouse cX1_saysHouse 4 none) (rC (fE + 7) (lE + 234) out.2.2.1 out.2.2.2) (bPc G E.1 hSites h nx [.ref o, .int a0]) (bQ G none True out.2.1 (nx + out.2.2.1) (AA h nx)) out.2.2.1 out.2.2.2 (AA h nx) := by
  refine bGo (by decide +kernel) (Nat.le_of_ble_eq_true rfl) (fun p e s m below meth c ls S hr hlocks hin hnm hS hB hl => ?_)
  have S : CallFix p m c cX1_saysHouse 4 s _ lw_all RX1 := S
  obtain ⟨hx, hb, hml, hown, hts⟩ := id S
  have hl : lv_has ls 4 [(0, .ref o), (1, .int a0)] := hl
  have w141 : ∀ (n : Nat) , ∀ (x0 : Nat) (x1 : Int32) (x3 : Int32) (hc : AH) (nc : Nat) (ls : Array Slot) (H : Heap) (locs : List Loc) (ce sl : Nat) (o1 : Unit × AH × Nat × Nat), BI G (AA h nx) s.heap hc nc H locs → nc = nx + ce → TL out o1 ce sl → lv_has ls 4 [(0, .ref x0), (1, .int x1), (3, .int x3)] → f_X1_saysHouse_141 n E x0 x1 x3 hc nc = some o1 → W p l e (rC (fE + 7) (lE + 234) out.2.2.1 out.2.2.2) s m ([.ref o, .int a0] : List Value).toArray below meth c H locs ce sl (MQ below (bQ G none True out.2.1 (nx + out.2.2.1) (AA h nx)) ([.ref o, .int a0] : List Value).toArray s out.2.2.1 out.2.2.2 (AA h nx)) (F0 m 141 ls []) := by
    intro n
    induction n with
    | zero =>
      intro x0 x1 x3 hc nc ls H locs ce sl o1 hB hn hT hl hf
      exact absurd hf (by rw [f_X1_saysHouse_141]; exact nofun)
    | succ n ih =>
      intro x0 x1 x3 hc nc ls H locs ce sl o1 hB hn hT hl hf
      rw [f_X1_saysHouse_141] at hf
      refine lv_iload_n hx hb dX1_saysHouse_141 rfl (lv_at hl 2 rfl) ?_
      refine lv_aload_n hx hb dX1_saysHouse_142 rfl (lv_at hl 0 rfl) ?_
      obtain ⟨v1, hv1, hf⟩ := ob_s hf
      refine bg_X1_70 S hS hB (vR_s hv1) dX1_saysHouse_143 ?_
      obtain ⟨v2, hv2, hf⟩ := ob_s hf
      refine bg_X1_271 S hS hB (vR_s hv2) dX1_saysHouse_146 ?_
      refine lv_iload_n hx hb dX1_saysHouse_149 rfl (lv_at hl 1 rfl) ?_
      obtain ⟨v3, hv3, hf⟩ := ob_s hf
      refine b_iald S hS.1 hB hv3 dX1_saysHouse_150 ?_
      refine lv_icmp_ge (tgt := 218) hx hb dX1_saysHouse_151 (by decide) (fun c4 => ?_) (fun c4 => ?_)
      · replace hf := it_t c4 hf
        refine lv_aload_n hx hb dX1_saysHouse_218 rfl (lv_at hl 0 rfl) ?_
        refine b_ldcSW S hS 13 rfl rfl rfl dX1_saysHouse_219 ?_
        refine lv_iconst hx hb dX1_saysHouse_222 kc_i0 ?_
        obtain ⟨o5, hf, hT⟩ := TL_c hT hf
        refine b_newI S hS hB kn_0 kna_0 (TL_m hT).1 (TL_m hT).2 dX1_saysHouse_223 (fun H hB => ?_)
        obtain ⟨g6, hf⟩ := gd_t hf
        obtain ⟨v7, hv7, hf⟩ := ob_s hf
        obtain ⟨o8, hf, hT⟩ := TL_c hT hf
        refine mc_X1_587 (fE := fE) (lE := lE) S hS hB g6 hv7 hl.1 ⟨(by show _ ≤ (fE + 7); omega), (by show _ ≤ (lE + 234); omega)⟩ (Nat.le_of_ble_eq_true rfl) ⟨(TL_m hT).1, (TL_m hT).2⟩ dX1_saysHouse_225 (fun H locs _ hB => ?_)
        have hE9 := TL_e hT hf
        subst hE9
        exact bt_v S hr hlocks hB (by omega) trivial dX1_saysHouse_228
      · replace hf := it_f c4 hf
        refine lv_aload_n hx hb dX1_saysHouse_154 rfl (lv_at hl 0 rfl) ?_
        refine lv_aload_n hx hb dX1_saysHouse_155 rfl (lv_at hl 0 rfl) ?_
        obtain ⟨v9, hv9, hf⟩ := ob_s hf
        refine bg_X1_70 S hS hB (vR_s hv9) dX1_saysHouse_156 ?_
        refine lv_iload_n hx hb dX1_saysHouse_159 rfl (lv_at hl 1 rfl) ?_
        refine lv_iload_n hx hb dX1_saysHouse_160 rfl (lv_at hl 2 rfl) ?_
        obtain ⟨g10, hf⟩ := gd_t hf
        obtain ⟨v11, hv11, hf⟩ := ob_s hf
        refine mc_X1_274 (fE := fE) (lE := lE) S hS hB g10 hv11 hl.1 ⟨(by show _ ≤ (fE + 7); omega), (by show _ ≤ (lE + 234); omega)⟩ (Nat.le_of_ble_eq_true rfl) ⟨(TL_m hT).1, (TL_m hT).2⟩ dX1_saysHouse_161 (fun _ => ?_)
        obtain ⟨g12, hf⟩ := gd_t hf
        obtain ⟨v13, hv13, hf⟩ := ob_s hf
        refine mc_X1_591 (fE := fE) (lE := lE) S hS hB g12 hv13 hl.1 ⟨(by show _ ≤ (fE + 7); omega), (by show _ ≤ (lE + 234); omega)⟩ (Nat.le_of_ble_eq_true rfl) ⟨(TL_m hT).1, (TL_m hT).2⟩ dX1_saysHouse_164 (fun hnv13 => ?_)
        refine lv_if_ne (tgt := 212) hx hb dX1_saysHouse_167 (by decide) (fun c14 => ?_) (fun c14 => ?_)
        · replace hf := it_f c14 hf
          refine lv_iinc (v := (x3 + 1)) (lv' := [(3, .int (x3 + 1)), (0, .ref x0), (1, .int x1)]) hx hb dX1_saysHouse_212 hl (k := 2) rfl rfl (by decide) rfl (fun ls hl => ?_)
          refine lv_goto (tgt := 141) hx hb dX1_saysHouse_215 (by decide) ?_
          exact (ih) x0 x1 (x3 + 1) hc nc ls H locs ce sl o1 hB (by omega) hT (lv_sub (l' := [(0, .ref x0), (1, .int x1), (3, .int (x3 + 1))]) hl [1, 2, 0] rfl) hf
        · replace hf := it_t c14 hf
          refine lv_aload_n hx hb dX1_saysHouse_170 rfl (lv_at hl 0 rfl) ?_
          obtain ⟨o15, hf, hT⟩ := TL_c hT hf
          refine bn_X1_120 S hS hB (TL_m hT).1 (TL_m hT).2 dX1_saysHouse_171 (fun H hB => ?_)
          refine lv_dup hx hb dX1_saysHouse_174 rfl ?_
          obtain ⟨v16, hv16, hf⟩ := ob_s hf
          obtain ⟨o17, hf, hT⟩ := TL_c hT hf
          refine mc_X1_122 (fE := fE) (lE := lE) S hS hB hv16 hl.1 ⟨(by show _ ≤ (fE + 7); omega), (by show _ ≤ (lE + 234); omega)⟩ (Nat.le_of_ble_eq_true rfl) ⟨(TL_m hT).1, (TL_m hT).2⟩ dX1_saysHouse_175 (fun H locs _ hB => ?_)
          refine b_ldcSW S hS 12 rfl rfl rfl dX1_saysHouse_178 ?_
          obtain ⟨g18, hf⟩ := gd_t hf
          obtain ⟨v19, hv19, hf⟩ := ob_s hf
          obtain ⟨o20, hf, hT⟩ := TL_c hT hf
          refine mc_X1_567 (fE := fE) (lE := lE) S hS hB g18 hv19 hl.1 ⟨(by show _ ≤ (fE + 7); omega), (by show _ ≤ (lE + 234); omega)⟩ (Nat.le_of_ble_eq_true rfl) ⟨(TL_m hT).1, (TL_m hT).2⟩ dX1_saysHouse_181 (fun H locs _ hB => ?_)
          refine lv_aload_n hx hb dX1_saysHouse_184 rfl (lv_at hl 0 rfl) ?_
          refine lv_aload_n hx hb dX1_saysHouse_185 rfl (lv_at hl 0 rfl) ?_
          obtain ⟨v21, hv21, hf⟩ := ob_s hf
          refine bg_X1_70 S hS hB (vR_s hv21) dX1_saysHouse_186 ?_
          refine lv_iload_n hx hb dX1_saysHouse_189 rfl (lv_at hl 1 rfl) ?_
          refine lv_iload_n hx hb dX1_saysHouse_190 rfl (lv_at hl 2 rfl) ?_
          obtain ⟨g22, hf⟩ := gd_t hf
          obtain ⟨v23, hv23, hf⟩ := ob_s hf
          refine mc_X1_274 (fE := fE) (lE := lE) S hS hB g22 hv23 hl.1 ⟨(by show _ ≤ (fE + 7); omega), (by show _ ≤ (lE + 234); omega)⟩ (Nat.le_of_ble_eq_true rfl) ⟨(TL_m hT).1, (TL_m hT).2⟩ dX1_saysHouse_191 (fun _ => ?_)
          obtain ⟨g24, hf⟩ := gd_t hf
          obtain ⟨v25, hv25, hf⟩ := ob_s hf
          refine mc_X1_234 (fE := fE) (lE := lE) S hS hB g24 hv25 hl.1 ⟨(by show _ ≤ (fE + 7); omega), (by show _ ≤ (lE + 234); omega)⟩ (Nat.le_of_ble_eq_true rfl) ⟨(TL_m hT).1, (TL_m hT).2⟩ dX1_saysHouse_194 (fun _ => ?_)
          obtain ⟨v26, hv26, hf⟩ := ob_s hf
          refine bg_X1_596 S hS hB (vR_s hv26) dX1_saysHouse_197 ?_
          obtain ⟨g27, hf⟩ := gd_t hf
          obtain ⟨v28, hv28, hf⟩ := ob_s hf
          obtain ⟨o29, hf, hT⟩ := TL_c hT hf
          refine mc_X1_567 (fE := fE) (lE := lE) S hS hB g27 hv28 hl.1 ⟨(by show _ ≤ (fE + 7); omega), (by show _ ≤ (lE + 234); omega)⟩ (Nat.le_of_ble_eq_true rfl) ⟨(TL_m hT).1, (TL_m hT).2⟩ dX1_saysHouse_200 (fun H locs _ hB => ?_)
          obtain ⟨g30, hf⟩ := gd_t hf
          obtain ⟨v31, hv31, hf⟩ := ob_s hf
          obtain ⟨o32, hf, hT⟩ := TL_c hT hf
          refine mc_X1_583 (fE := fE) (lE := lE) S hS hB g30 hv31 hl.1 ⟨(by show _ ≤ (fE + 7); omega), (by show _ ≤ (lE + 234); omega)⟩ (Nat.le_of_ble_eq_true rfl) ⟨(TL_m hT).1, (TL_m hT).2⟩ dX1_saysHouse_203 (fun H locs _ hB => ?_)
          refine lv_iconst hx hb dX1_saysHouse_206 kc_i0 ?_
          obtain ⟨o33, hf, hT⟩ := TL_c hT hf
          refine b_newI S hS hB kn_0 kna_0 (TL_m hT).1 (TL_m hT).2 dX1_saysHouse_207 (fun H hB => ?_)
          obtain ⟨h34, eh34⟩ : ∃ z, z = (hu v31.2.1 (((((nc + 1) + v16.2.2.1) + v19.2.2.1) + v28.2.2.1) + v31.2.2.1) (.inl (0, 0, .inl (fun _ => 0)))) := ⟨_, rfl⟩
          replace hf := bd_e eh34 hf
          rw [← eh34] at hB
          obtain ⟨g35, hf⟩ := gd_t hf
          obtain ⟨v36, hv36, hf⟩ := ob_s hf
          obtain ⟨o37, hf, hT⟩ := TL_c hT hf
          refine mc_X1_587 (fE := fE) (lE := lE) S hS hB g35 hv36 hl.1 ⟨(by show _ ≤ (fE + 7); omega), (by show _ ≤ (lE + 234); omega)⟩ (Nat.le_of_ble_eq_true rfl) ⟨(TL_m hT).1, (TL_m hT).2⟩ dX1_saysHouse_209 (fun H locs _ hB => ?_)
          refine lv_iinc (v := (x3 + 1)) (lv' := [(3, .int (x3 + 1)), (0, .ref x0), (1, .int x1)]) hx hb dX1_saysHouse_212 hl (k := 2) rfl rfl (by decide) rfl (fun ls hl => ?_)
          refine lv_goto (tgt := 141) hx hb dX1_saysHouse_215 (by decide) ?_
          exact (ih) x0 x1 (x3 + 1) v36.2.1 (((((((nc + 1) + v16.2.2.1) + v19.2.2.1) + v28.2.2.1) + v31.2.2.1) + 1) + v36.2.2.1) ls H locs (((((((ce + 1) + v16.2.2.1) + v19.2.2.1) + v28.2.2.1) + v31.2.2.1) + 1) + v36.2.2.1) (((((((sl + 4) + v16.2.2.2) + v19.2.2.2) + v28.2.2.2) + v31.2.2.2) + 0) + v36.2.2.2) o37 hB (by omega) hT (lv_sub (l' := [(0, .ref x0), (1, .int x1), (3, .int (x3 + 1))]) hl [1, 2, 0] rfl) hf
  have hT : TL out out 0 0 := TL_0
  rw [f_X1_saysHouse] at hf
  refine lv_aload_n hx hb dX1_saysHouse_0 rfl (lv_at hl 0 rfl) ?_
  refine lv_iload_n hx hb dX1_saysHouse_1 rfl (lv_at hl 1 rfl) ?_
  obtain ⟨g1, hf⟩ := gd_t hf
  obtain ⟨v2, hv2, hf⟩ := ob_s hf
  refine mc_X1_277 (fE := fE) (lE := lE) S hS hB g1 hv2 hl.1 ⟨(by show _ ≤ (fE + 7); omega), (by show _ ≤ (lE + 234); omega)⟩ (Nat.le_of_ble_eq_true rfl) ⟨(TL_m hT).1, (TL_m hT).2⟩ dX1_saysHouse_2 (fun _ => ?_)
  refine lv_astore_n (i := 2) (lv' := [(2, .ref v2), (0, .ref o), (1, .int a0)]) hx hb dX1_saysHouse_5 rfl hl (by decide) rfl (fun ls hl => ?_)
  refine lv_aload_n hx hb dX1_saysHouse_6 rfl (lv_at hl 1 rfl) ?_
  obtain ⟨o3, hf, hT⟩ := TL_c hT hf
  refine bn_X1_120 S hS hB (TL_m hT).1 (TL_m hT).2 dX1_saysHouse_7 (fun H hB => ?_)
  refine lv_dup hx hb dX1_saysHouse_10 rfl ?_
  obtain ⟨v4, hv4, hf⟩ := ob_s hf
  obtain ⟨o5, hf, hT⟩ := TL_c hT hf
  refine mc_X1_122 (fE := fE) (lE := lE) S hS hB hv4 hl.1 ⟨(by show _ ≤ (fE + 7); omega), (by show _ ≤ (lE + 234); omega)⟩ (Nat.le_of_ble_eq_true rfl) ⟨(TL_m hT).1, (TL_m hT).2⟩ dX1_saysHouse_11 (fun H locs _ hB => ?_)
  refine b_ldcSW S hS 10 rfl rfl rfl dX1_saysHouse_14 ?_
  obtain ⟨g6, hf⟩ := gd_t hf
  obtain ⟨v7, hv7, hf⟩ := ob_s hf
  obtain ⟨o8, hf, hT⟩ := TL_c hT hf
  refine mc_X1_567 (fE := fE) (lE := lE) S hS hB g6 hv7 hl.1 ⟨(by show _ ≤ (fE + 7); omega), (by show _ ≤ (lE + 234); omega)⟩ (Nat.le_of_ble_eq_true rfl) ⟨(TL_m hT).1, (TL_m hT).2⟩ dX1_saysHouse_17 (fun H locs _ hB => ?_)
  refine lv_aload_n hx hb dX1_saysHouse_20 rfl (lv_at hl 0 rfl) ?_
  obtain ⟨v9, hv9, hf⟩ := ob_s hf
  refine bg_X1_579 S hS hB (vR_s hv9) dX1_saysHouse_21 ?_
  obtain ⟨g10, hf⟩ := gd_t hf
  obtain ⟨v11, hv11, hf⟩ := ob_s hf
  obtain ⟨o12, hf, hT⟩ := TL_c hT hf
  refine mc_X1_567 (fE := fE) (lE := lE) S hS hB g10 hv11 hl.1 ⟨(by show _ ≤ (fE + 7); omega), (by show _ ≤ (lE + 234); omega)⟩ (Nat.le_of_ble_eq_true rfl) ⟨(TL_m hT).1, (TL_m hT).2⟩ dX1_saysHouse_24 (fun H locs _ hB => ?_)
  obtain ⟨g13, hf⟩ := gd_t hf
  obtain ⟨v14, hv14, hf⟩ := ob_s hf
  obtain ⟨o15, hf, hT⟩ := TL_c hT hf
  refine mc_X1_583 (fE := fE) (lE := lE) S hS hB g13 hv14 hl.1 ⟨(by show _ ≤ (fE + 7); omega), (by show _ ≤ (lE + 234); omega)⟩ (Nat.le_of_ble_eq_true rfl) ⟨(TL_m hT).1, (TL_m hT).2⟩ dX1_saysHouse_27 (fun H locs _ hB => ?_)
  refine lv_iconst hx hb dX1_saysHouse_30 kc_i4 ?_
  obtain ⟨o16, hf, hT⟩ := TL_c hT hf
  refine b_newI S hS hB kn_4 kna_4 (TL_m hT).1 (TL_m hT).2 dX1_saysHouse_31 (fun H hB => ?_)
  obtain ⟨h17, eh17⟩ : ∃ z, z = (hu v14.2.1 (((((nx + 1) + v4.2.2.1) + v7.2.2.1) + v11.2.2.1) + v14.2.2.1) (.inl (0, 4, .inl (fun _ => 0)))) := ⟨_, rfl⟩
  replace hf := bd_e eh17 hf
  rw [← eh17] at hB
  refine lv_dup hx hb dX1_saysHouse_33 rfl ?_
  refine lv_iconst hx hb dX1_saysHouse_34 kc_i0 ?_
  refine lv_aload_n hx hb dX1_saysHouse_35 rfl (lv_at hl 0 rfl) ?_
  obtain ⟨g18, hf⟩ := gd_t hf
  obtain ⟨v19, hv19, hf⟩ := ob_s hf
  refine mc_X1_281 (fE := fE) (lE := lE) S hS hB g18 hv19 hl.1 ⟨(by show _ ≤ (fE + 7); omega), (by show _ ≤ (lE + 234); omega)⟩ (Nat.le_of_ble_eq_true rfl) ⟨(TL_m hT).1, (TL_m hT).2⟩ dX1_saysHouse_36 (fun _ => ?_)
  obtain ⟨h20, hh20, hf⟩ := ob_s hf
  refine b_iast S hS.1 hB hh20 dX1_saysHouse_39 (fun H locs hB => ?_)
  refine lv_dup hx hb dX1_saysHouse_40 rfl ?_
  refine lv_iconst hx hb dX1_saysHouse_41 kc_i1 ?_
  refine lv_aload_n hx hb dX1_saysHouse_42 rfl (lv_at hl 1 rfl) ?_
  obtain ⟨v21, hv21, hf⟩ := ob_s hf
  refine bg_X1_70 S hS hB (vR_s hv21) dX1_saysHouse_43 ?_
  obtain ⟨v22, hv22, hf⟩ := ob_s hf
  refine bg_X1_287 S hS hB (vR_s hv22) dX1_saysHouse_46 ?_
  refine lv_iload_n hx hb dX1_saysHouse_49 rfl (lv_at hl 2 rfl) ?_
  obtain ⟨v23, hv23, hf⟩ := ob_s hf
  refine b_iald S hS.1 hB hv23 dX1_saysHouse_50 ?_
  obtain ⟨h24, hh24, hf⟩ := ob_s hf
  refine b_iast S hS.1 hB hh24 dX1_saysHouse_51 (fun H locs hB => ?_)
  refine lv_dup hx hb dX1_saysHouse_52 rfl ?_
  refine lv_iconst hx hb dX1_saysHouse_53 kc_i2 ?_
  refine lv_aload_n hx hb dX1_saysHouse_54 rfl (lv_at hl 0 rfl) ?_
  obtain ⟨g25, hf⟩ := gd_t hf
  obtain ⟨v26, hv26, hf⟩ := ob_s hf
  refine mc_X1_290 (fE := fE) (lE := lE) S hS hB g25 hv26 hl.1 ⟨(by show _ ≤ (fE + 7); omega), (by show _ ≤ (lE + 234); omega)⟩ (Nat.le_of_ble_eq_true rfl) ⟨(TL_m hT).1, (TL_m hT).2⟩ dX1_saysHouse_55 (fun _ => ?_)
  obtain ⟨h27, hh27, hf⟩ := ob_s hf
  refine b_iast S hS.1 hB hh27 dX1_saysHouse_58 (fun H locs hB => ?_)
  refine lv_dup hx hb dX1_saysHouse_59 rfl ?_
  refine lv_iconst hx hb dX1_saysHouse_60 kc_i3 ?_
  refine lv_aload_n hx hb dX1_saysHouse_61 rfl (lv_at hl 0 rfl) ?_
  obtain ⟨g28, hf⟩ := gd_t hf
  obtain ⟨v29, hv29, hf⟩ := ob_s hf
  refine mc_X1_293 (fE := fE) (lE := lE) S hS hB g28 hv29 hl.1 ⟨(by show _ ≤ (fE + 7); omega), (by show _ ≤ (lE + 234); omega)⟩ (Nat.le_of_ble_eq_true rfl) ⟨(TL_m hT).1, (TL_m hT).2⟩ dX1_saysHouse_62 (fun _ => ?_)
  obtain ⟨h30, hh30, hf⟩ := ob_s hf
  refine b_iast S hS.1 hB hh30 dX1_saysHouse_65 (fun H locs hB => ?_)
  obtain ⟨g31, hf⟩ := gd_t hf
  obtain ⟨v32, hv32, hf⟩ := ob_s hf
  obtain ⟨o33, hf, hT⟩ := TL_c hT hf
  refine mc_X1_587 (fE := fE) (lE := lE) S hS hB g31 hv32 hl.1 ⟨(by show _ ≤ (fE + 7); omega), (by show _ ≤ (lE + 234); omega)⟩ (Nat.le_of_ble_eq_true rfl) ⟨(TL_m hT).1, (TL_m hT).2⟩ dX1_saysHouse_66 (fun H locs _ hB => ?_)
  refine lv_aload_n hx hb dX1_saysHouse_69 rfl (lv_at hl 1 rfl) ?_
  obtain ⟨v34, hv34, hf⟩ := ob_s hf
  refine bg_X1_70 S hS hB (vR_s hv34) dX1_saysHouse_70 ?_
  obtain ⟨v35, hv35, hf⟩ := ob_s hf
  refine bg_X1_296 S hS hB (vR_s hv35) dX1_saysHouse_73 ?_
  refine lv_iload_n hx hb dX1_saysHouse_76 rfl (lv_at hl 2 rfl) ?_
  obtain ⟨v36, hv36, hf⟩ := ob_s hf
  refine b_iald S hS.1 hB hv36 dX1_saysHouse_77 ?_
  refine lv_if_lt (tgt := 139) hx hb dX1_saysHouse_78 (by decide) (fun c37 => ?_) (fun c37 => ?_)
  · replace hf := it_t c37 hf
    refine lv_iconst hx hb dX1_saysHouse_139 kc_i0 ?_
    refine lv_istore_n (i := 3) (lv' := [(3, .int 0), (2, .ref v2), (0, .ref o), (1, .int a0)]) hx hb dX1_saysHouse_140 rfl hl (by decide) rfl (fun ls hl => ?_)
    exact (w141 FU) o a0 0 v32.2.1 (((((((nx + 1) + v4.2.2.1) + v7.2.2.1) + v11.2.2.1) + v14.2.2.1) + 1) + v32.2.2.1) ls H locs (((((((0 + 1) + v4.2.2.1) + v7.2.2.1) + v11.2.2.1) + v14.2.2.1) + 1) + v32.2.2.1) (((((((0 + 4) + v4.2.2.2) + v7.2.2.2) + v11.2.2.2) + v14.2.2.2) + 4) + v32.2.2.2) o33 hB (by omega) hT (lv_sub (l' := [(0, .ref o), (1, .int a0), (3, .int 0)]) hl [2, 3, 0] rfl) hf
  · replace hf := it_f c37 hf
    refine lv_aload_n hx hb dX1_saysHouse_81 rfl (lv_at hl 1 rfl) ?_
    refine lv_aload_n hx hb dX1_saysHouse_82 rfl (lv_at hl 1 rfl) ?_
    obtain ⟨v38, hv38, hf⟩ := ob_s hf
    refine bg_X1_70 S hS hB (vR_s hv38) dX1_saysHouse_83 ?_
    obtain ⟨v39, hv39, hf⟩ := ob_s hf
    refine bg_X1_296 S hS hB (vR_s hv39) dX1_saysHouse_86 ?_
    refine lv_iload_n hx hb dX1_saysHouse_89 rfl (lv_at hl 2 rfl) ?_
    obtain ⟨v40, hv40, hf⟩ := ob_s hf
    refine b_iald S hS.1 hB hv40 dX1_saysHouse_90 ?_
    obtain ⟨g41, hf⟩ := gd_t hf
    obtain ⟨v42, hv42, hf⟩ := ob_s hf
    refine mc_X1_591 (fE := fE) (lE := lE) S hS hB g41 hv42 hl.1 ⟨(by show _ ≤ (fE + 7); omega), (by show _ ≤ (lE + 234); omega)⟩ (Nat.le_of_ble_eq_true rfl) ⟨(TL_m hT).1, (TL_m hT).2⟩ dX1_saysHouse_91 (fun hnv42 => ?_)
    refine lv_if_ne (tgt := 139) hx hb dX1_saysHouse_94 (by decide) (fun c43 => ?_) (fun c43 => ?_)
    · replace hf := it_f c43 hf
      refine lv_iconst hx hb dX1_saysHouse_139 kc_i0 ?_
      refine lv_istore_n (i := 3) (lv' := [(3, .int 0), (2, .ref v2), (0, .ref o), (1, .int a0)]) hx hb dX1_saysHouse_140 rfl hl (by decide) rfl (fun ls hl => ?_)
      exact (w141 FU) o a0 0 v32.2.1 (((((((nx + 1) + v4.2.2.1) + v7.2.2.1) + v11.2.2.1) + v14.2.2.1) + 1) + v32.2.2.1) ls H locs (((((((0 + 1) + v4.2.2.1) + v7.2.2.1) + v11.2.2.1) + v14.2.2.1) + 1) + v32.2.2.1) (((((((0 + 4) + v4.2.2.2) + v7.2.2.2) + v11.2.2.2) + v14.2.2.2) + 4) + v32.2.2.2) o33 hB (by omega) hT (lv_sub (l' := [(0, .ref o), (1, .int a0), (3, .int 0)]) hl [2, 3, 0] rfl) hf
    · replace hf := it_t c43 hf
      refine lv_aload_n hx hb dX1_saysHouse_97 rfl (lv_at hl 1 rfl) ?_
      obtain ⟨o44, hf, hT⟩ := TL_c hT hf
      refine bn_X1_120 S hS hB (TL_m hT).1 (TL_m hT).2 dX1_saysHouse_98 (fun H hB => ?_)
      obtain ⟨h45, eh45⟩ : ∃ z, z = (hu v32.2.1 (((((((nx + 1) + v4.2.2.1) + v7.2.2.1) + v11.2.2.1) + v14.2.2.1) + 1) + v32.2.2.1) (.inr (.inl (12, df_J8)))) := ⟨_, rfl⟩
      replace hf := bd_e eh45 hf
      rw [← eh45] at hB
      refine lv_dup hx hb dX1_saysHouse_101 rfl ?_
      obtain ⟨v46, hv46, hf⟩ := ob_s hf
      obtain ⟨o47, hf, hT⟩ := TL_c hT hf
      refine mc_X1_122 (fE := fE) (lE := lE) S hS hB hv46 hl.1 ⟨(by show _ ≤ (fE + 7); omega), (by show _ ≤ (lE + 234); omega)⟩ (Nat.le_of_ble_eq_true rfl) ⟨(TL_m hT).1, (TL_m hT).2⟩ dX1_saysHouse_102 (fun H locs _ hB => ?_)
      refine b_ldcSW S hS 11 rfl rfl rfl dX1_saysHouse_105 ?_
      obtain ⟨g48, hf⟩ := gd_t hf
      obtain ⟨v49, hv49, hf⟩ := ob_s hf
      obtain ⟨o50, hf, hT⟩ := TL_c hT hf
      refine mc_X1_567 (fE := fE) (lE := lE) S hS hB g48 hv49 hl.1 ⟨(by show _ ≤ (fE + 7); omega), (by show _ ≤ (lE + 234); omega)⟩ (Nat.le_of_ble_eq_true rfl) ⟨(TL_m hT).1, (TL_m hT).2⟩ dX1_saysHouse_108 (fun H locs _ hB => ?_)
      refine lv_aload_n hx hb dX1_saysHouse_111 rfl (lv_at hl 1 rfl) ?_
      refine lv_aload_n hx hb dX1_saysHouse_112 rfl (lv_at hl 1 rfl) ?_
      obtain ⟨v51, hv51, hf⟩ := ob_s hf
      refine bg_X1_70 S hS hB (vR_s hv51) dX1_saysHouse_113 ?_
      obtain ⟨v52, hv52, hf⟩ := ob_s hf
      refine bg_X1_296 S hS hB (vR_s hv52) dX1_saysHouse_116 ?_
      refine lv_iload_n hx hb dX1_saysHouse_119 rfl (lv_at hl 2 rfl) ?_
      obtain ⟨v53, hv53, hf⟩ := ob_s hf
      refine b_iald S hS.1 hB hv53 dX1_saysHouse_120 ?_
      obtain ⟨g54, hf⟩ := gd_t hf
      obtain ⟨v55, hv55, hf⟩ := ob_s hf
      refine mc_X1_234 (fE := fE) (lE := lE) S hS hB g54 hv55 hl.1 ⟨(by show _ ≤ (fE + 7); omega), (by show _ ≤ (lE + 234); omega)⟩ (Nat.le_of_ble_eq_true rfl) ⟨(TL_m hT).1, (TL_m hT).2⟩ dX1_saysHouse_121 (fun _ => ?_)
      obtain ⟨v56, hv56, hf⟩ := ob_s hf
      refine bg_X1_596 S hS hB (vR_s hv56) dX1_saysHouse_124 ?_
      obtain ⟨g57, hf⟩ := gd_t hf
      obtain ⟨v58, hv58, hf⟩ := ob_s hf
      obtain ⟨o59, hf, hT⟩ := TL_c hT hf
      refine mc_X1_567 (fE := fE) (lE := lE) S hS hB g57 hv58 hl.1 ⟨(by show _ ≤ (fE + 7); omega), (by show _ ≤ (lE + 234); omega)⟩ (Nat.le_of_ble_eq_true rfl) ⟨(TL_m hT).1, (TL_m hT).2⟩ dX1_saysHouse_127 (fun H locs _ hB => ?_)
      obtain ⟨g60, hf⟩ := gd_t hf
      obtain ⟨v61, hv61, hf⟩ := ob_s hf
      obtain ⟨o62, hf, hT⟩ := TL_c hT hf
      refine mc_X1_583 (fE := fE) (lE := lE) S hS hB g60 hv61 hl.1 ⟨(by show _ ≤ (fE + 7); omega), (by show _ ≤ (lE + 234); omega)⟩ (Nat.le_of_ble_eq_true rfl) ⟨(TL_m hT).1, (TL_m hT).2⟩ dX1_saysHouse_130 (fun H locs _ hB => ?_)
      refine lv_iconst hx hb dX1_saysHouse_133 kc_i0 ?_
      obtain ⟨o63, hf, hT⟩ := TL_c hT hf
      refine b_newI S hS hB kn_0 kna_0 (TL_m hT).1 (TL_m hT).2 dX1_saysHouse_134 (fun H hB => ?_)
      obtain ⟨h64, eh64⟩ : ∃ z, z = (hu v61.2.1 ((((((((((((nx + 1) + v4.2.2.1) + v7.2.2.1) + v11.2.2.1) + v14.2.2.1) + 1) + v32.2.2.1) + 1) + v46.2.2.1) + v49.2.2.1) + v58.2.2.1) + v61.2.2.1) (.inl (0, 0, .inl (fun _ => 0)))) := ⟨_, rfl⟩
      replace hf := bd_e eh64 hf
      rw [← eh64] at hB
      obtain ⟨g65, hf⟩ := gd_t hf
      obtain ⟨v66, hv66, hf⟩ := ob_s hf
      obtain ⟨o67, hf, hT⟩ := TL_c hT hf
      refine mc_X1_587 (fE := fE) (lE := lE) S hS hB g65 hv66 hl.1 ⟨(by show _ ≤ (fE + 7); omega), (by show _ ≤ (lE + 234); omega)⟩ (Nat.le_of_ble_eq_true rfl) ⟨(TL_m hT).1, (TL_m hT).2⟩ dX1_saysHouse_136 (fun H locs _ hB => ?_)
      refine lv_iconst hx hb dX1_saysHouse_139 kc_i0 ?_
      refine lv_istore_n (i := 3) (lv' := [(3, .int 0), (2, .ref v2), (0, .ref o), (1, .int a0)]) hx hb dX1_saysHouse_140 rfl hl (by decide) rfl (fun ls hl => ?_)
      exact (w141 FU) o a0 0 v66.2.1 ((((((((((((((nx + 1) + v4.2.2.1) + v7.2.2.1) + v11.2.2.1) + v14.2.2.1) + 1) + v32.2.2.1) + 1) + v46.2.2.1) + v49.2.2.1) + v58.2.2.1) + v61.2.2.1) + 1) + v66.2.2.1) ls H locs ((((((((((((((0 + 1) + v4.2.2.1) + v7.2.2.1) + v11.2.2.1) + v14.2.2.1) + 1) + v32.2.2.1) + 1) + v46.2.2.1) + v49.2.2.1) + v58.2.2.1) + v61.2.2.1) + 1) + v66.2.2.1) ((((((((((((((0 + 4) + v4.2.2.2) + v7.2.2.2) + v11.2.2.2) + v14.2.2.2) + 4) + v32.2.2.2) + 4) + v46.2.2.2) + v49.2.2.2) + v58.2.2.2) + v61.2.2.2) + 0) + v66.2.2.2) o67 hB (by omega) hT (lv_sub (l' := [(0, .ref o), (1, .int a0), (3, .int 0)]) hl [2, 3, 0] rfl) hf
set_option maxRecDepth 100000 in
theorem mc_X1_608 {o : Nat} {a0 : Int32} {out : Unit × AH × Nat × Nat} (S : CallFix p m c cc nL s args lw_all RX1) (hS : SK G E.1 hSites A s) (hB : BI G A s.heap h nx H locs) (ho : isO h o 0 = true) (hf : f_X1_saysHouse E h nx o a0 = some out) (hsz : ls.size = nL) (hR : (fE + 7) + 1 ≤ R.frames ∧ 8 + (4 + 11) + (lE + 234) ≤ R.locals) (hW : (rest.map fun v => v.category).sum ≤ 8) (hcs : cells + out.2.2.1 ≤ R.cells ∧ slots + out.2.2.2 ≤ R.slots) (hdg : decode cc pc = .ok (.invokevirtual 608, 3))  (kk : ∀ (H1 : Heap) (locs1 : List Loc), True → BI G A s.heap out.2.1 (nx + out.2.2.1) H1 locs1 → W p l e R s m args below meth c H1 locs1 (cells + out.2.2.1) (slots + out.2.2.2) Q (F0 m (pc + 3) ls (rest))) : W p l e R s m args below meth c H locs cells slots Q (F0 m pc ls (.int a0 :: .ref o :: rest)) := by
  have hN := hS.2.1
  obtain ⟨fs, he⟩ := isO_s ho
  exact br_v (va_runV (As := [.int a0]) S (mm_X1_saysHouse (l := l) (G := G) (fE := fE) (lE := lE) hf) (cwV 1 S.2.2.2.2 (lw_V q1959 q1961 qs92 q174 q1962) rfl rfl rfl hd_X1_saysHouse hR) (bPreV hS hB (ci := 0) rfl he) rfl rfl hsz rfl (lv_room hW) hdg hcs) hB kk
theorem hd_X1_print : yX1_print.cls = RX1 ∧ yX1_print.cls ≠ "java/lang/invoke/MethodHandle" ∧ yX1_print.cls ≠ "java/lang/invoke/VarHandle" ∧ (parseMethodDescriptor yX1_print.desc).map (fun d => d.parameters.length) = some 0 := by decide +kernel
set_option maxHeartbeats 4000000 in
set_option maxRecDepth 100000 in
theorem mm_X1_print {o : Nat} {out : Int32 × AH × Nat × Nat} (hf : f_X1_print E h nx o = some out) : Met l yX1_print (ws_ yX1_print cX1_print 2 (some .int)) (rC (fE + 8) (lE + 257) out.2.2.1 out.2.2.2) (bPc G E.1 hSites h nx [.ref o]) (bQ G (some (.int out.1)) True out.2.1 (nx + out.2.2.1) (AA h nx)) out.2.2.1 out.2.2.2 (AA h nx) := by
  refine bGo (by decide +kernel) (Nat.le_of_ble_eq_true rfl) (fun p e s m below meth c ls S hr hlocks hin hnm hS hB hl => ?_)
  have S : CallFix p m c cX1_print 2 s _ lw_all RX1 := S
  obtain ⟨hx, hb, hml, hown, hts⟩ := id S
  have hl : lv_has ls 2 [(0, .ref o)] := hl
  have w180 : ∀ (n : Nat) , ∀ (x0 : Nat) (x1 : Int32) (hc : AH) (nc : Nat) (ls : Array Slot) (H : Heap) (locs : List Loc) (ce sl : Nat) (o1 : Int32 × AH × Nat × Nat), BI G (AA h nx) s.heap hc nc H locs → nc = nx + ce → TL out o1 ce sl → lv_has ls 2 [(0, .ref x0), (1, .int x1)] → f_X1_print_180 n E x0 x1 hc nc = some o1 → W p l e (rC (fE + 8) (lE + 257) out.2.2.1 out.2.2.2) s m ([.ref o] : List Value).toArray below meth c H locs ce sl (MQ below (bQ G (some (.int out.1)) True out.2.1 (nx + out.2.2.1) (AA h nx)) ([.ref o] : List Value).toArray s out.2.2.1 out.2.2.2 (AA h nx)) (F0 m 180 ls []) := by
    intro n
    induction n with
    | zero =>
      intro x0 x1 hc nc ls H locs ce sl o1 hB hn hT hl hf
      exact absurd hf (by rw [f_X1_print_180]; exact nofun)
    | succ n ih =>
      intro x0 x1 hc nc ls H locs ce sl o1 hB hn hT hl hf
      rw [f_X1_print_180] at hf
      refine lv_iload_n hx hb dX1_print_180 rfl (lv_at hl 1 rfl) ?_
      refine lv_aload_n hx hb dX1_print_181 rfl (lv_at hl 0 rfl) ?_
      obtain ⟨v1, hv1, hf⟩ := ob_s hf
      refine bg_X1_51 S hS hB (vR_s hv1) dX1_print_182 ?_
      obtain ⟨g2, hf⟩ := gd_t hf
      obtain ⟨v3, hv3, hf⟩ := ob_s hf
      refine mc_X1_130 (fE := fE) (lE := lE) S hS hB g2 hv3 hl.1 ⟨(by show _ ≤ (fE + 8); omega), (by show _ ≤ (lE + 257); omega)⟩ (Nat.le_of_ble_eq_true rfl) ⟨(TL_m hT).1, (TL_m hT).2⟩ dX1_print_185 (fun _ => ?_)
      refine lv_icmp_ge (tgt := 214) hx hb dX1_print_188 (by decide) (fun c4 => ?_) (fun c4 => ?_)
      · replace hf := it_t c4 hf
        refine lv_aload_n hx hb dX1_print_214 rfl (lv_at hl 0 rfl) ?_
        obtain ⟨v5, hv5, hf⟩ := ob_s hf
        refine bg_X1_123 S hS hB (vR_s hv5) dX1_print_215 ?_
        obtain ⟨g6, hf⟩ := gd_t hf
        obtain ⟨v7, hv7, hf⟩ := ob_s hf
        refine mc_X1_611 (fE := fE) (lE := lE) S hS hB g6 hv7 hl.1 ⟨(by show _ ≤ (fE + 8); omega), (by show _ ≤ (lE + 257); omega)⟩ (Nat.le_of_ble_eq_true rfl) ⟨(TL_m hT).1, (TL_m hT).2⟩ dX1_print_218 (fun _ => ?_)
        have hE9 := TL_e hT hf
        subst hE9
        exact bt_i S hr hlocks hB (by omega) trivial dX1_print_221
      · replace hf := it_f c4 hf
        refine lv_aload_n hx hb dX1_print_191 rfl (lv_at hl 0 rfl) ?_
        obtain ⟨v8, hv8, hf⟩ := ob_s hf
        refine bg_X1_70 S hS hB (vR_s hv8) dX1_print_192 ?_
        obtain ⟨v9, hv9, hf⟩ := ob_s hf
        refine bg_X1_305 S hS hB (vR_s hv9) dX1_print_195 ?_
        refine lv_iload_n hx hb dX1_print_198 rfl (lv_at hl 1 rfl) ?_
        obtain ⟨v10, hv10, hf⟩ := ob_s hf
        refine b_zald S hS.1 hB hv10 dX1_print_199 ?_
        refine lv_if_ne (tgt := 208) hx hb dX1_print_200 (by decide) (fun c11 => ?_) (fun c11 => ?_)
        · replace hf := it_f c11 hf
          refine lv_iinc (v := (x1 + 1)) (lv' := [(1, .int (x1 + 1)), (0, .ref x0)]) hx hb dX1_print_208 hl (k := 1) rfl rfl (by decide) rfl (fun ls hl => ?_)
          refine lv_goto (tgt := 180) hx hb dX1_print_211 (by decide) ?_
          exact (ih) x0 (x1 + 1) hc nc ls H locs ce sl o1 hB (by omega) hT (lv_sub (l' := [(0, .ref x0), (1, .int (x1 + 1))]) hl [1, 0] rfl) hf
        · replace hf := it_t c11 hf
          refine lv_aload_n hx hb dX1_print_203 rfl (lv_at hl 0 rfl) ?_
          refine lv_iload_n hx hb dX1_print_204 rfl (lv_at hl 1 rfl) ?_
          obtain ⟨g12, hf⟩ := gd_t hf
          obtain ⟨v13, hv13, hf⟩ := ob_s hf
          obtain ⟨o14, hf, hT⟩ := TL_c hT hf
          refine mc_X1_608 (fE := fE) (lE := lE) S hS hB g12 hv13 hl.1 ⟨(by show _ ≤ (fE + 8); omega), (by show _ ≤ (lE + 257); omega)⟩ (Nat.le_of_ble_eq_true rfl) ⟨(TL_m hT).1, (TL_m hT).2⟩ dX1_print_205 (fun H locs _ hB => ?_)
          refine lv_iinc (v := (x1 + 1)) (lv' := [(1, .int (x1 + 1)), (0, .ref x0)]) hx hb dX1_print_208 hl (k := 1) rfl rfl (by decide) rfl (fun ls hl => ?_)
          refine lv_goto (tgt := 180) hx hb dX1_print_211 (by decide) ?_
          exact (ih) x0 (x1 + 1) v13.2.1 (nc + v13.2.2.1) ls H locs (ce + v13.2.2.1) (sl + v13.2.2.2) o14 hB (by omega) hT (lv_sub (l' := [(0, .ref x0), (1, .int (x1 + 1))]) hl [1, 0] rfl) hf
  have w84 : ∀ (n : Nat) , ∀ (x0 : Nat) (x1 : Int32) (hc : AH) (nc : Nat) (ls : Array Slot) (H : Heap) (locs : List Loc) (ce sl : Nat) (o1 : Int32 × AH × Nat × Nat), BI G (AA h nx) s.heap hc nc H locs → nc = nx + ce → TL out o1 ce sl → lv_has ls 2 [(0, .ref x0), (1, .int x1)] → f_X1_print_84 n E x0 x1 hc nc = some o1 → W p l e (rC (fE + 8) (lE + 257) out.2.2.1 out.2.2.2) s m ([.ref o] : List Value).toArray below meth c H locs ce sl (MQ below (bQ G (some (.int out.1)) True out.2.1 (nx + out.2.2.1) (AA h nx)) ([.ref o] : List Value).toArray s out.2.2.1 out.2.2.2 (AA h nx)) (F0 m 84 ls []) := by
    intro n
    induction n with
    | zero =>
      intro x0 x1 hc nc ls H locs ce sl o1 hB hn hT hl hf
      exact absurd hf (by rw [f_X1_print_84]; exact nofun)
    | succ n ih =>
      intro x0 x1 hc nc ls H locs ce sl o1 hB hn hT hl hf
      rw [f_X1_print_84] at hf
      refine lv_iload_n hx hb dX1_print_84 rfl (lv_at hl 1 rfl) ?_
      refine lv_aload_n hx hb dX1_print_85 rfl (lv_at hl 0 rfl) ?_
      obtain ⟨v1, hv1, hf⟩ := ob_s hf
      refine bg_X1_39 S hS hB (vR_s hv1) dX1_print_86 ?_
      obtain ⟨g2, hf⟩ := gd_t hf
      obtain ⟨v3, hv3, hf⟩ := ob_s hf
      refine mc_X1_130 (fE := fE) (lE := lE) S hS hB g2 hv3 hl.1 ⟨(by show _ ≤ (fE + 8); omega), (by show _ ≤ (lE + 257); omega)⟩ (Nat.le_of_ble_eq_true rfl) ⟨(TL_m hT).1, (TL_m hT).2⟩ dX1_print_89 (fun _ => ?_)
      refine lv_icmp_ge (tgt := 178) hx hb dX1_print_92 (by decide) (fun c4 => ?_) (fun c4 => ?_)
      · replace hf := it_t c4 hf
        refine lv_iconst hx hb dX1_print_178 kc_i0 ?_
        refine lv_istore_n (i := 1) (lv' := [(1, .int 0), (0, .ref x0)]) hx hb dX1_print_179 rfl hl (by decide) rfl (fun ls hl => ?_)
        exact (w180 FU) x0 0 hc nc ls H locs ce sl o1 hB (by omega) hT (lv_sub (l' := [(0, .ref x0), (1, .int 0)]) hl [1, 0] rfl) hf
      · replace hf := it_f c4 hf
        refine lv_aload_n hx hb dX1_print_95 rfl (lv_at hl 0 rfl) ?_
        refine lv_iload_n hx hb dX1_print_96 rfl (lv_at hl 1 rfl) ?_
        obtain ⟨g5, hf⟩ := gd_t hf
        obtain ⟨v6, hv6, hf⟩ := ob_s hf
        refine mc_X1_591 (fE := fE) (lE := lE) S hS hB g5 hv6 hl.1 ⟨(by show _ ≤ (fE + 8); omega), (by show _ ≤ (lE + 257); omega)⟩ (Nat.le_of_ble_eq_true rfl) ⟨(TL_m hT).1, (TL_m hT).2⟩ dX1_print_97 (fun hnv6 => ?_)
        refine lv_if_eq (tgt := 106) hx hb dX1_print_100 (by decide) (fun c7 => ?_) (fun c7 => ?_)
        · replace hf := it_t c7 hf
          refine lv_aload_n hx hb dX1_print_106 rfl (lv_at hl 0 rfl) ?_
          obtain ⟨o8, hf, hT⟩ := TL_c hT hf
          refine bn_X1_120 S hS hB (TL_m hT).1 (TL_m hT).2 dX1_print_107 (fun H hB => ?_)
          refine lv_dup hx hb dX1_print_110 rfl ?_
          obtain ⟨v9, hv9, hf⟩ := ob_s hf
          obtain ⟨o10, hf, hT⟩ := TL_c hT hf
          refine mc_X1_122 (fE := fE) (lE := lE) S hS hB hv9 hl.1 ⟨(by show _ ≤ (fE + 8); omega), (by show _ ≤ (lE + 257); omega)⟩ (Nat.le_of_ble_eq_true rfl) ⟨(TL_m hT).1, (TL_m hT).2⟩ dX1_print_111 (fun H locs _ hB => ?_)
          refine b_ldcSW S hS 15 rfl rfl rfl dX1_print_114 ?_
          obtain ⟨g11, hf⟩ := gd_t hf
          obtain ⟨v12, hv12, hf⟩ := ob_s hf
          obtain ⟨o13, hf, hT⟩ := TL_c hT hf
          refine mc_X1_567 (fE := fE) (lE := lE) S hS hB g11 hv12 hl.1 ⟨(by show _ ≤ (fE + 8); omega), (by show _ ≤ (lE + 257); omega)⟩ (Nat.le_of_ble_eq_true rfl) ⟨(TL_m hT).1, (TL_m hT).2⟩ dX1_print_117 (fun H locs _ hB => ?_)
          refine lv_aload_n hx hb dX1_print_120 rfl (lv_at hl 0 rfl) ?_
          refine lv_iload_n hx hb dX1_print_121 rfl (lv_at hl 1 rfl) ?_
          obtain ⟨g14, hf⟩ := gd_t hf
          obtain ⟨v15, hv15, hf⟩ := ob_s hf
          refine mc_X1_234 (fE := fE) (lE := lE) S hS hB g14 hv15 hl.1 ⟨(by show _ ≤ (fE + 8); omega), (by show _ ≤ (lE + 257); omega)⟩ (Nat.le_of_ble_eq_true rfl) ⟨(TL_m hT).1, (TL_m hT).2⟩ dX1_print_122 (fun _ => ?_)
          obtain ⟨v16, hv16, hf⟩ := ob_s hf
          refine bg_X1_596 S hS hB (vR_s hv16) dX1_print_125 ?_
          obtain ⟨g17, hf⟩ := gd_t hf
          obtain ⟨v18, hv18, hf⟩ := ob_s hf
          obtain ⟨o19, hf, hT⟩ := TL_c hT hf
          refine mc_X1_567 (fE := fE) (lE := lE) S hS hB g17 hv18 hl.1 ⟨(by show _ ≤ (fE + 8); omega), (by show _ ≤ (lE + 257); omega)⟩ (Nat.le_of_ble_eq_true rfl) ⟨(TL_m hT).1, (TL_m hT).2⟩ dX1_print_128 (fun H locs _ hB => ?_)
          obtain ⟨g20, hf⟩ := gd_t hf
          obtain ⟨v21, hv21, hf⟩ := ob_s hf
          obtain ⟨o22, hf, hT⟩ := TL_c hT hf
          refine mc_X1_583 (fE := fE) (lE := lE) S hS hB g20 hv21 hl.1 ⟨(by show _ ≤ (fE + 8); omega), (by show _ ≤ (lE + 257); omega)⟩ (Nat.le_of_ble_eq_true rfl) ⟨(TL_m hT).1, (TL_m hT).2⟩ dX1_print_131 (fun H locs _ hB => ?_)
          refine lv_iconst hx hb dX1_print_134 kc_i2 ?_
          obtain ⟨o23, hf, hT⟩ := TL_c hT hf
          refine b_newI S hS hB kn_2 kna_2 (TL_m hT).1 (TL_m hT).2 dX1_print_135 (fun H hB => ?_)
          obtain ⟨h24, eh24⟩ : ∃ z, z = (hu v21.2.1 (((((nc + 1) + v9.2.2.1) + v12.2.2.1) + v18.2.2.1) + v21.2.2.1) (.inl (0, 2, .inl (fun _ => 0)))) := ⟨_, rfl⟩
          replace hf := bd_e eh24 hf
          rw [← eh24] at hB
          refine lv_dup hx hb dX1_print_137 rfl ?_
          refine lv_iconst hx hb dX1_print_138 kc_i0 ?_
          refine lv_aload_n hx hb dX1_print_139 rfl (lv_at hl 0 rfl) ?_
          refine lv_iload_n hx hb dX1_print_140 rfl (lv_at hl 1 rfl) ?_
          obtain ⟨g25, hf⟩ := gd_t hf
          obtain ⟨v26, hv26, hf⟩ := ob_s hf
          refine mc_X1_234 (fE := fE) (lE := lE) S hS hB g25 hv26 hl.1 ⟨(by show _ ≤ (fE + 8); omega), (by show _ ≤ (lE + 257); omega)⟩ (Nat.le_of_ble_eq_true rfl) ⟨(TL_m hT).1, (TL_m hT).2⟩ dX1_print_141 (fun _ => ?_)
          obtain ⟨v27, hv27, hf⟩ := ob_s hf
          refine bg_X1_238 S hS hB (vI_s hv27) dX1_print_144 ?_
          obtain ⟨h28, hh28, hf⟩ := ob_s hf
          refine b_iast S hS.1 hB hh28 dX1_print_147 (fun H locs hB => ?_)
          refine lv_dup hx hb dX1_print_148 rfl ?_
          refine lv_iconst hx hb dX1_print_149 kc_i1 ?_
          refine lv_aload_n hx hb dX1_print_150 rfl (lv_at hl 0 rfl) ?_
          refine lv_iload_n hx hb dX1_print_151 rfl (lv_at hl 1 rfl) ?_
          obtain ⟨g29, hf⟩ := gd_t hf
          obtain ⟨v30, hv30, hf⟩ := ob_s hf
          refine mc_X1_234 (fE := fE) (lE := lE) S hS hB g29 hv30 hl.1 ⟨(by show _ ≤ (fE + 8); omega), (by show _ ≤ (lE + 257); omega)⟩ (Nat.le_of_ble_eq_true rfl) ⟨(TL_m hT).1, (TL_m hT).2⟩ dX1_print_152 (fun _ => ?_)
          obtain ⟨v31, hv31, hf⟩ := ob_s hf
          refine bg_X1_241 S hS hB (vI_s hv31) dX1_print_155 ?_
          obtain ⟨h32, hh32, hf⟩ := ob_s hf
          refine b_iast S hS.1 hB hh32 dX1_print_158 (fun H locs hB => ?_)
          obtain ⟨g33, hf⟩ := gd_t hf
          obtain ⟨v34, hv34, hf⟩ := ob_s hf
          obtain ⟨o35, hf, hT⟩ := TL_c hT hf
          refine mc_X1_587 (fE := fE) (lE := lE) S hS hB g33 hv34 hl.1 ⟨(by show _ ≤ (fE + 8); omega), (by show _ ≤ (lE + 257); omega)⟩ (Nat.le_of_ble_eq_true rfl) ⟨(TL_m hT).1, (TL_m hT).2⟩ dX1_print_159 (fun H locs _ hB => ?_)
          refine lv_aload_n hx hb dX1_print_162 rfl (lv_at hl 0 rfl) ?_
          refine b_ldcSW S hS 13 rfl rfl rfl dX1_print_163 ?_
          refine lv_iconst hx hb dX1_print_166 kc_i0 ?_
          obtain ⟨o36, hf, hT⟩ := TL_c hT hf
          refine b_newI S hS hB kn_0 kna_0 (TL_m hT).1 (TL_m hT).2 dX1_print_167 (fun H hB => ?_)
          obtain ⟨h37, eh37⟩ : ∃ z, z = (hu v34.2.1 (((((((nc + 1) + v9.2.2.1) + v12.2.2.1) + v18.2.2.1) + v21.2.2.1) + 1) + v34.2.2.1) (.inl (0, 0, .inl (fun _ => 0)))) := ⟨_, rfl⟩
          replace hf := bd_e eh37 hf
          rw [← eh37] at hB
          obtain ⟨g38, hf⟩ := gd_t hf
          obtain ⟨v39, hv39, hf⟩ := ob_s hf
          obtain ⟨o40, hf, hT⟩ := TL_c hT hf
          refine mc_X1_587 (fE := fE) (lE := lE) S hS hB g38 hv39 hl.1 ⟨(by show _ ≤ (fE + 8); omega), (by show _ ≤ (lE + 257); omega)⟩ (Nat.le_of_ble_eq_true rfl) ⟨(TL_m hT).1, (TL_m hT).2⟩ dX1_print_169 (fun H locs _ hB => ?_)
          refine lv_iinc (v := (x1 + 1)) (lv' := [(1, .int (x1 + 1)), (0, .ref x0)]) hx hb dX1_print_172 hl (k := 1) rfl rfl (by decide) rfl (fun ls hl => ?_)
          refine lv_goto (tgt := 84) hx hb dX1_print_175 (by decide) ?_
          exact (ih) x0 (x1 + 1) v39.2.1 (((((((((nc + 1) + v9.2.2.1) + v12.2.2.1) + v18.2.2.1) + v21.2.2.1) + 1) + v34.2.2.1) + 1) + v39.2.2.1) ls H locs (((((((((ce + 1) + v9.2.2.1) + v12.2.2.1) + v18.2.2.1) + v21.2.2.1) + 1) + v34.2.2.1) + 1) + v39.2.2.1) (((((((((sl + 4) + v9.2.2.2) + v12.2.2.2) + v18.2.2.2) + v21.2.2.2) + 2) + v34.2.2.2) + 0) + v39.2.2.2) o40 hB (by omega) hT (lv_sub (l' := [(0, .ref x0), (1, .int (x1 + 1))]) hl [1, 0] rfl) hf
        · replace hf := it_f c7 hf
          refine lv_goto (tgt := 172) hx hb dX1_print_103 (by decide) ?_
          refine lv_iinc (v := (x1 + 1)) (lv' := [(1, .int (x1 + 1)), (0, .ref x0)]) hx hb dX1_print_172 hl (k := 1) rfl rfl (by decide) rfl (fun ls hl => ?_)
          refine lv_goto (tgt := 84) hx hb dX1_print_175 (by decide) ?_
          exact (ih) x0 (x1 + 1) hc nc ls H locs ce sl o1 hB (by omega) hT (lv_sub (l' := [(0, .ref x0), (1, .int (x1 + 1))]) hl [1, 0] rfl) hf
  have w16 : ∀ (n : Nat) , ∀ (x0 : Nat) (x1 : Int32) (hc : AH) (nc : Nat) (ls : Array Slot) (H : Heap) (locs : List Loc) (ce sl : Nat) (o1 : Int32 × AH × Nat × Nat), BI G (AA h nx) s.heap hc nc H locs → nc = nx + ce → TL out o1 ce sl → lv_has ls 2 [(0, .ref x0), (1, .int x1)] → f_X1_print_16 n E x0 x1 hc nc = some o1 → W p l e (rC (fE + 8) (lE + 257) out.2.2.1 out.2.2.2) s m ([.ref o] : List Value).toArray below meth c H locs ce sl (MQ below (bQ G (some (.int out.1)) True out.2.1 (nx + out.2.2.1) (AA h nx)) ([.ref o] : List Value).toArray s out.2.2.1 out.2.2.2 (AA h nx)) (F0 m 16 ls []) := by
    intro n
    induction n with
    | zero =>
      intro x0 x1 hc nc ls H locs ce sl o1 hB hn hT hl hf
      exact absurd hf (by rw [f_X1_print_16]; exact nofun)
    | succ n ih =>
      intro x0 x1 hc nc ls H locs ce sl o1 hB hn hT hl hf
      rw [f_X1_print_16] at hf
      refine lv_iload_n hx hb dX1_print_16 rfl (lv_at hl 1 rfl) ?_
      refine lv_bipush hx hb dX1_print_17 kc_b6 ?_
      refine lv_icmp_ge (tgt := 82) hx hb dX1_print_19 (by decide) (fun c1 => ?_) (fun c1 => ?_)
      · replace hf := it_t c1 hf
        refine lv_iconst hx hb dX1_print_82 kc_i0 ?_
        refine lv_istore_n (i := 1) (lv' := [(1, .int 0), (0, .ref x0)]) hx hb dX1_print_83 rfl hl (by decide) rfl (fun ls hl => ?_)
        exact (w84 FU) x0 0 hc nc ls H locs ce sl o1 hB (by omega) hT (lv_sub (l' := [(0, .ref x0), (1, .int 0)]) hl [1, 0] rfl) hf
      · replace hf := it_f c1 hf
        refine lv_aload_n hx hb dX1_print_22 rfl (lv_at hl 0 rfl) ?_
        obtain ⟨o2, hf, hT⟩ := TL_c hT hf
        refine bn_X1_120 S hS hB (TL_m hT).1 (TL_m hT).2 dX1_print_23 (fun H hB => ?_)
        refine lv_dup hx hb dX1_print_26 rfl ?_
        obtain ⟨v3, hv3, hf⟩ := ob_s hf
        obtain ⟨o4, hf, hT⟩ := TL_c hT hf
        refine mc_X1_122 (fE := fE) (lE := lE) S hS hB hv3 hl.1 ⟨(by show _ ≤ (fE + 8); omega), (by show _ ≤ (lE + 257); omega)⟩ (Nat.le_of_ble_eq_true rfl) ⟨(TL_m hT).1, (TL_m hT).2⟩ dX1_print_27 (fun H locs _ hB => ?_)
        refine b_ldcSW S hS 14 rfl rfl rfl dX1_print_30 ?_
        obtain ⟨g5, hf⟩ := gd_t hf
        obtain ⟨v6, hv6, hf⟩ := ob_s hf
        obtain ⟨o7, hf, hT⟩ := TL_c hT hf
        refine mc_X1_567 (fE := fE) (lE := lE) S hS hB g5 hv6 hl.1 ⟨(by show _ ≤ (fE + 8); omega), (by show _ ≤ (lE + 257); omega)⟩ (Nat.le_of_ble_eq_true rfl) ⟨(TL_m hT).1, (TL_m hT).2⟩ dX1_print_33 (fun H locs _ hB => ?_)
        refine lv_aload_n hx hb dX1_print_36 rfl (lv_at hl 0 rfl) ?_
        obtain ⟨v8, hv8, hf⟩ := ob_s hf
        refine bg_X1_101 S hS hB (vR_s hv8) dX1_print_37 ?_
        refine lv_iload_n hx hb dX1_print_40 rfl (lv_at hl 1 rfl) ?_
        obtain ⟨v9, hv9, hf⟩ := ob_s hf
        refine b_aald S hS.1 hB 8 rfl rfl hv9 dX1_print_41 ?_
        obtain ⟨g10, hf⟩ := gd_t hf
        obtain ⟨v11, hv11, hf⟩ := ob_s hf
        obtain ⟨o12, hf, hT⟩ := TL_c hT hf
        refine mc_X1_567 (fE := fE) (lE := lE) S hS hB g10 hv11 hl.1 ⟨(by show _ ≤ (fE + 8); omega), (by show _ ≤ (lE + 257); omega)⟩ (Nat.le_of_ble_eq_true rfl) ⟨(TL_m hT).1, (TL_m hT).2⟩ dX1_print_42 (fun H locs _ hB => ?_)
        obtain ⟨g13, hf⟩ := gd_t hf
        obtain ⟨v14, hv14, hf⟩ := ob_s hf
        obtain ⟨o15, hf, hT⟩ := TL_c hT hf
        refine mc_X1_583 (fE := fE) (lE := lE) S hS hB g13 hv14 hl.1 ⟨(by show _ ≤ (fE + 8); omega), (by show _ ≤ (lE + 257); omega)⟩ (Nat.le_of_ble_eq_true rfl) ⟨(TL_m hT).1, (TL_m hT).2⟩ dX1_print_45 (fun H locs _ hB => ?_)
        refine lv_iconst hx hb dX1_print_48 kc_i1 ?_
        obtain ⟨o16, hf, hT⟩ := TL_c hT hf
        refine b_newI S hS hB kn_1 kna_1 (TL_m hT).1 (TL_m hT).2 dX1_print_49 (fun H hB => ?_)
        obtain ⟨h17, eh17⟩ : ∃ z, z = (hu v14.2.1 (((((nc + 1) + v3.2.2.1) + v6.2.2.1) + v11.2.2.1) + v14.2.2.1) (.inl (0, 1, .inl (fun _ => 0)))) := ⟨_, rfl⟩
        replace hf := bd_e eh17 hf
        rw [← eh17] at hB
        refine lv_dup hx hb dX1_print_51 rfl ?_
        refine lv_iconst hx hb dX1_print_52 kc_i0 ?_
        refine lv_aload_n hx hb dX1_print_53 rfl (lv_at hl 0 rfl) ?_
        obtain ⟨v18, hv18, hf⟩ := ob_s hf
        refine bg_X1_70 S hS hB (vR_s hv18) dX1_print_54 ?_
        obtain ⟨v19, hv19, hf⟩ := ob_s hf
        refine bg_X1_316 S hS hB (vR_s hv19) dX1_print_57 ?_
        refine lv_iload_n hx hb dX1_print_60 rfl (lv_at hl 1 rfl) ?_
        obtain ⟨v20, hv20, hf⟩ := ob_s hf
        refine b_iald S hS.1 hB hv20 dX1_print_61 ?_
        obtain ⟨h21, hh21, hf⟩ := ob_s hf
        refine b_iast S hS.1 hB hh21 dX1_print_62 (fun H locs hB => ?_)
        obtain ⟨g22, hf⟩ := gd_t hf
        obtain ⟨v23, hv23, hf⟩ := ob_s hf
        obtain ⟨o24, hf, hT⟩ := TL_c hT hf
        refine mc_X1_587 (fE := fE) (lE := lE) S hS hB g22 hv23 hl.1 ⟨(by show _ ≤ (fE + 8); omega), (by show _ ≤ (lE + 257); omega)⟩ (Nat.le_of_ble_eq_true rfl) ⟨(TL_m hT).1, (TL_m hT).2⟩ dX1_print_63 (fun H locs _ hB => ?_)
        refine lv_aload_n hx hb dX1_print_66 rfl (lv_at hl 0 rfl) ?_
        refine b_ldcSW S hS 13 rfl rfl rfl dX1_print_67 ?_
        refine lv_iconst hx hb dX1_print_70 kc_i0 ?_
        obtain ⟨o25, hf, hT⟩ := TL_c hT hf
        refine b_newI S hS hB kn_0 kna_0 (TL_m hT).1 (TL_m hT).2 dX1_print_71 (fun H hB => ?_)
        obtain ⟨h26, eh26⟩ : ∃ z, z = (hu v23.2.1 (((((((nc + 1) + v3.2.2.1) + v6.2.2.1) + v11.2.2.1) + v14.2.2.1) + 1) + v23.2.2.1) (.inl (0, 0, .inl (fun _ => 0)))) := ⟨_, rfl⟩
        replace hf := bd_e eh26 hf
        rw [← eh26] at hB
        obtain ⟨g27, hf⟩ := gd_t hf
        obtain ⟨v28, hv28, hf⟩ := ob_s hf
        obtain ⟨o29, hf, hT⟩ := TL_c hT hf
        refine mc_X1_587 (fE := fE) (lE := lE) S hS hB g27 hv28 hl.1 ⟨(by show _ ≤ (fE + 8); omega), (by show _ ≤ (lE + 257); omega)⟩ (Nat.le_of_ble_eq_true rfl) ⟨(TL_m hT).1, (TL_m hT).2⟩ dX1_print_73 (fun H locs _ hB => ?_)
        refine lv_iinc (v := (x1 + 1)) (lv' := [(1, .int (x1 + 1)), (0, .ref x0)]) hx hb dX1_print_76 hl (k := 1) rfl rfl (by decide) rfl (fun ls hl => ?_)
        refine lv_goto (tgt := 16) hx hb dX1_print_79 (by decide) ?_
        exact (ih) x0 (x1 + 1) v28.2.1 (((((((((nc + 1) + v3.2.2.1) + v6.2.2.1) + v11.2.2.1) + v14.2.2.1) + 1) + v23.2.2.1) + 1) + v28.2.2.1) ls H locs (((((((((ce + 1) + v3.2.2.1) + v6.2.2.1) + v11.2.2.1) + v14.2.2.1) + 1) + v23.2.2.1) + 1) + v28.2.2.1) (((((((((sl + 4) + v3.2.2.2) + v6.2.2.2) + v11.2.2.2) + v14.2.2.2) + 1) + v23.2.2.2) + 0) + v28.2.2.2) o29 hB (by omega) hT (lv_sub (l' := [(0, .ref x0), (1, .int (x1 + 1))]) hl [1, 0] rfl) hf
  have hT : TL out out 0 0 := TL_0
  rw [f_X1_print] at hf
  refine lv_aload_n hx hb dX1_print_0 rfl (lv_at hl 0 rfl) ?_
  refine lv_iconst hx hb dX1_print_1 kc_i0 ?_
  obtain ⟨g1, hf⟩ := gd_t hf
  obtain ⟨v2, hv2, hf⟩ := ob_s hf
  obtain ⟨o3, hf, hT⟩ := TL_c hT hf
  refine mc_X1_155 (fE := fE) (lE := lE) S hS hB g1 hv2 hl.1 ⟨(by show _ ≤ (fE + 8); omega), (by show _ ≤ (lE + 257); omega)⟩ (Nat.le_of_ble_eq_true rfl) ⟨(TL_m hT).1, (TL_m hT).2⟩ dX1_print_2 (fun H locs hnv2 hB => ?_)
  refine lv_pop hx hb dX1_print_5 rfl ?_
  refine lv_aload_n hx hb dX1_print_6 rfl (lv_at hl 0 rfl) ?_
  obtain ⟨v4, hv4, hf⟩ := ob_s hf
  refine bg_X1_123 S hS hB (vR_s hv4) dX1_print_7 ?_
  refine lv_iconst hx hb dX1_print_10 kc_i0 ?_
  obtain ⟨g5, hf⟩ := gd_t hf
  obtain ⟨v6, hv6, hf⟩ := ob_s hf
  obtain ⟨o7, hf, hT⟩ := TL_c hT hf
  refine mc_X1_601 (fE := fE) (lE := lE) S hS hB g5 hv6 hl.1 ⟨(by show _ ≤ (fE + 8); omega), (by show _ ≤ (lE + 257); omega)⟩ (Nat.le_of_ble_eq_true rfl) ⟨(TL_m hT).1, (TL_m hT).2⟩ dX1_print_11 (fun H locs _ hB => ?_)
  refine lv_iconst hx hb dX1_print_14 kc_i0 ?_
  refine lv_istore_n (i := 1) (lv' := [(1, .int 0), (0, .ref o)]) hx hb dX1_print_15 rfl hl (by decide) rfl (fun ls hl => ?_)
  exact (w16 FU) o 0 v6.2.1 ((nx + v2.2.2.1) + v6.2.2.1) ls H locs ((0 + v2.2.2.1) + v6.2.2.1) ((0 + v2.2.2.2) + v6.2.2.2) o7 hB (by omega) hT (lv_sub (l' := [(0, .ref o), (1, .int 0)]) hl [1, 0] rfl) hf
theorem hd_J9_checkIndex : yJ9_checkIndex.cls ≠ "java/lang/invoke/MethodHandle" ∧ yJ9_checkIndex.cls ≠ "java/lang/invoke/VarHandle" ∧ (parseMethodDescriptor yJ9_checkIndex.desc).map (fun d => d.parameters.length) = some 2 := by decide +kernel
set_option maxHeartbeats 4000000 in
set_option maxRecDepth 100000 in
theorem mm_J9_checkIndex {a0 : Int32} {a1 : Int32} {out : Unit} (hf : f_J9_checkIndex E h a0 a1 = some out) : Met l yJ9_checkIndex (ws_ yJ9_checkIndex cJ9_checkIndex 2 none) (rM (fE + 1) (lE + 22)) (bPc G E.1 hSites h nx [.int a0, .int a1]) (gR none True) 0 0 (fun _ => False) := by
  refine bGo (by decide +kernel) (Nat.le_of_ble_eq_true rfl) (fun p e s m below meth c ls S hr hlocks hin hnm hS hB hl => ?_)
  have S : CallFix p m c cJ9_checkIndex 2 s _ lw_all RJ9 := S
  obtain ⟨hx, hb, hml, hown, hts⟩ := id S
  have hl : lv_has ls 2 [(0, .int a0), (1, .int a1)] := hl
  rw [f_J9_checkIndex] at hf
  refine lv_iload_n hx hb dJ9_checkIndex_0 rfl (lv_at hl 0 rfl) ?_
  refine lv_iload_n hx hb dJ9_checkIndex_1 rfl (lv_at hl 1 rfl) ?_
  refine b_gets S hS hB 8 rfl (hts _ q744) dJ9_checkIndex_2 ?_
  obtain ⟨v1, hv1, hf⟩ := ob_s hf
  refine mc_J9_1059 S hS.1 hv1 hl.1 ⟨(by show _ ≤ (fE + 1); omega), (by show _ ≤ (lE + 22); omega)⟩ (Nat.le_of_ble_eq_true rfl) ⟨Nat.zero_le _, Nat.zero_le _⟩ dJ9_checkIndex_5 (fun _ => ?_)
  refine lv_pop hx hb dJ9_checkIndex_8 rfl ?_
  have hE9 := Option.some.inj hf
  subst hE9
  exact gt_rv S hr hlocks trivial dJ9_checkIndex_9
set_option maxRecDepth 100000 in
theorem mc_J7_144 {a0 : Int32} {a1 : Int32} {out : Unit} (S : CallFix p m c cc nL s args lw_all RJ7) (hS : SK G E.1 hSites A s) (hB : BI G A s.heap h nx H locs) (hf : f_J9_checkIndex E h a0 a1 = some out) (hsz : ls.size = nL) (hR : (fE + 1) + 1 ≤ R.frames ∧ 8 + (2 + 11) + (lE + 22) ≤ R.locals) (hW : (rest.map fun v => v.category).sum ≤ 8) (hcs : cells ≤ R.cells ∧ slots ≤ R.slots) (hdg : decode cc pc = .ok (.invokestatic 144, 3))  (kk : True → W p l e R s m args below meth c H locs cells slots Q (F0 m (pc + 3) ls (rest))) : W p l e R s m args below meth c H locs cells slots Q (F0 m pc ls (.int a1 :: .int a0 :: rest)) := by
  have hN := hS.2.1
  exact br_rv (va_runS (As := [.int a0, .int a1]) S (mm_J9_checkIndex (l := l) (G := G) (nx := nx) (fE := fE) (lE := lE) hf) (va_cwS 2 S.2.2.2.2 (lw_S q1985 q765 q187 q766) rfl rfl rfl hd_J9_checkIndex hR) (bPreS hS hB) rfl rfl hsz rfl (lv_room hW) hdg hcs) kk
theorem hd_J7_charAt : yJ7_charAt.cls = RJ7 ∧ yJ7_charAt.cls ≠ "java/lang/invoke/MethodHandle" ∧ yJ7_charAt.cls ≠ "java/lang/invoke/VarHandle" ∧ (parseMethodDescriptor yJ7_charAt.desc).map (fun d => d.parameters.length) = some 1 := by decide +kernel
set_option maxHeartbeats 4000000 in
set_option maxRecDepth 100000 in
theorem mm_J7_charAt {o : Nat} {a0 : Int32} {out : Int32} (hf : f_J7_charAt E h o a0 = some out) : Met l yJ7_charAt (ws_ yJ7_charAt cJ7_charAt 5 (some .char)) (rM (fE + 2) (lE + 43)) (bPc G E.1 hSites h nx [.ref o, .int a0]) (gR (some (.int out)) True) 0 0 (fun _ => False) := by
  refine bGo (by decide +kernel) (Nat.le_of_ble_eq_true rfl) (fun p e s m below meth c ls S hr hlocks hin hnm hS hB hl => ?_)
  have S : CallFix p m c cJ7_charAt 5 s _ lw_all RJ7 := S
  obtain ⟨hx, hb, hml, hown, hts⟩ := id S
  have hl : lv_has ls 5 [(0, .ref o), (1, .int a0)] := hl
  rw [f_J7_charAt] at hf
  refine lv_aload_n hx hb dJ7_charAt_0 rfl (lv_at hl 0 rfl) ?_
  obtain ⟨v1, hv1, hf⟩ := ob_s hf
  refine bg_J7_22 S hS hB (vI_s hv1) dJ7_charAt_1 ?_
  refine lv_istore_n (i := 2) (lv' := [(2, .int v1), (0, .ref o), (1, .int a0)]) hx hb dJ7_charAt_4 rfl hl (by decide) rfl (fun ls hl => ?_)
  refine lv_aload_n hx hb dJ7_charAt_5 rfl (lv_at hl 1 rfl) ?_
  obtain ⟨v2, hv2, hf⟩ := ob_s hf
  refine bg_J7_15 S hS hB (vR_s hv2) dJ7_charAt_6 ?_
  refine lv_astore_n (i := 3) (lv' := [(3, .ref v2), (2, .int v1), (0, .ref o), (1, .int a0)]) hx hb dJ7_charAt_9 rfl hl (by decide) rfl (fun ls hl => ?_)
  refine lv_aload_n hx hb dJ7_charAt_10 rfl (lv_at hl 2 rfl) ?_
  obtain ⟨v3, hv3, hf⟩ := ob_s hf
  refine bg_J7_79 S hS hB (vI_s hv3) dJ7_charAt_11 ?_
  refine lv_aload_n hx hb dJ7_charAt_14 rfl (lv_at hl 0 rfl) ?_
  obtain ⟨v4, hv4, hf⟩ := ob_s hf
  refine b_alen S hS.1 hB hv4 dJ7_charAt_15 ?_
  refine lv_iload_n hx hb dJ7_charAt_16 rfl (lv_at hl 1 rfl) ?_
  refine lv_ishr hx hb dJ7_charAt_17 ?_
  obtain ⟨v5, hv5, hf⟩ := ob_s hf
  refine mc_J7_138 S hS.1 hv5 hl.1 ⟨(by show _ ≤ (fE + 2); omega), (by show _ ≤ (lE + 43); omega)⟩ (Nat.le_of_ble_eq_true rfl) ⟨Nat.zero_le _, Nat.zero_le _⟩ dJ7_charAt_18 (fun _ => ?_)
  refine lv_istore (lv' := [(4, .int v5), (3, .ref v2), (2, .int v1), (0, .ref o), (1, .int a0)]) hx hb dJ7_charAt_21 hl (by decide) rfl (fun ls hl => ?_)
  refine lv_iload_n hx hb dJ7_charAt_23 rfl (lv_at hl 4 rfl) ?_
  refine lv_iload hx hb dJ7_charAt_24 (lv_at hl 0 rfl) ?_
  obtain ⟨v6, hv6, hf⟩ := ob_s hf
  refine mc_J7_144 (fE := fE) (lE := lE) S hS hB hv6 hl.1 ⟨(by show _ ≤ (fE + 2); omega), (by show _ ≤ (lE + 43); omega)⟩ (Nat.le_of_ble_eq_true rfl) ⟨Nat.zero_le _, Nat.zero_le _⟩ dJ7_charAt_26 (fun _ => ?_)
  refine lv_iload_n hx hb dJ7_charAt_29 rfl (lv_at hl 2 rfl) ?_
  refine lv_if_ne (tgt := 42) hx hb dJ7_charAt_30 (by decide) (fun c7 => ?_) (fun c7 => ?_)
  · replace hf := it_f c7 hf
    exact absurd hf (by nofun)
  · replace hf := it_t c7 hf
    refine lv_aload_n hx hb dJ7_charAt_33 rfl (lv_at hl 1 rfl) ?_
    refine lv_iload_n hx hb dJ7_charAt_34 rfl (lv_at hl 4 rfl) ?_
    obtain ⟨v8, hv8, hf⟩ := ob_s hf
    refine b_bald S hS.1 hB hv8 dJ7_charAt_35 ?_
    refine lv_sipush hx hb dJ7_charAt_36 kc_s255 ?_
    refine lv_iand hx hb dJ7_charAt_39 ?_
    refine lv_i2c hx hb dJ7_charAt_40 rfl ?_
    obtain ⟨g9, hf⟩ := gd_t hf
    have hE9 := Option.some.inj hf
    subst hE9
    exact gt_rn S hr hlocks (isC_n g9) dJ7_charAt_41
set_option maxRecDepth 100000 in
theorem mc_J8_329 {o : Nat} {a0 : Int32} {out : Int32} (S : CallFix p m c cc nL s args lw_all RJ8) (hS : SK G E.1 hSites A s) (hB : BI G A s.heap h nx H locs) (ho : isO h o 12 = true) (hf : f_J7_charAt E h o a0 = some out) (hsz : ls.size = nL) (hR : (fE + 2) + 1 ≤ R.frames ∧ 8 + (5 + 11) + (lE + 43) ≤ R.locals) (hW : (rest.map fun v => v.category).sum ≤ 8) (hcs : cells ≤ R.cells ∧ slots ≤ R.slots) (hdg : decode cc pc = .ok (.invokespecial 329, 3))  (kk : True → W p l e R s m args below meth c H locs cells slots Q (F0 m (pc + 3) ls (.int out :: rest))) : W p l e R s m args below meth c H locs cells slots Q (F0 m pc ls (.int a0 :: .ref o :: rest)) := by
  have hN := hS.2.1
  obtain ⟨fs, he⟩ := isO_s ho
  exact br_r (va_runSU (hS.1.1 12 _ rfl).2 (As := [.int a0]) S (mm_J7_charAt (l := l) (G := G) (nx := nx) (fE := fE) (lE := lE) hf) (va_cwSU 1 S.2.2.2.2 (lw_app (c := ws_ yJ7_charAt cJ7_charAt 5 (some .char)) (fun w hw => by simp only [List.mem_cons, List.not_mem_nil, or_false] at hw; rcases hw with e | e | e | e | e <;> (rw [e]; first | exact q1981 | exact q2659 | exact q580 | exact q1982 | exact q185)) (lw_meth q1983)) rfl rfl rfl (by decide +kernel) hR) (bPreV hS hB (ci := 12) rfl he) rfl rfl hsz rfl (lv_room hW) hdg hcs) kk
theorem hd_J8_charAt : yJ8_charAt.cls = RJ8 ∧ yJ8_charAt.cls ≠ "java/lang/invoke/MethodHandle" ∧ yJ8_charAt.cls ≠ "java/lang/invoke/VarHandle" ∧ (parseMethodDescriptor yJ8_charAt.desc).map (fun d => d.parameters.length) = some 1 := by decide +kernel
set_option maxHeartbeats 4000000 in
set_option maxRecDepth 100000 in
theorem mm_J8_charAt {o : Nat} {a0 : Int32} {out : Int32} (hf : f_J8_charAt E h o a0 = some out) : Met l yJ8_charAt (ws_ yJ8_charAt cJ8_charAt 2 (some .char)) (rM (fE + 3) (lE + 67)) (bPc G E.1 hSites h nx [.ref o, .int a0]) (gR (some (.int out)) True) 0 0 (fun _ => False) := by
  refine bGo (by decide +kernel) (Nat.le_of_ble_eq_true rfl) (fun p e s m below meth c ls S hr hlocks hin hnm hS hB hl => ?_)
  have S : CallFix p m c cJ8_charAt 2 s _ lw_all RJ8 := S
  obtain ⟨hx, hb, hml, hown, hts⟩ := id S
  have hl : lv_has ls 2 [(0, .ref o), (1, .int a0)] := hl
  rw [f_J8_charAt] at hf
  refine lv_aload_n hx hb dJ8_charAt_0 rfl (lv_at hl 0 rfl) ?_
  refine lv_iload_n hx hb dJ8_charAt_1 rfl (lv_at hl 1 rfl) ?_
  obtain ⟨g1, hf⟩ := gd_t hf
  obtain ⟨v2, hv2, hf⟩ := ob_s hf
  refine mc_J8_329 (fE := fE) (lE := lE) S hS hB g1 hv2 hl.1 ⟨(by show _ ≤ (fE + 3); omega), (by show _ ≤ (lE + 67); omega)⟩ (Nat.le_of_ble_eq_true rfl) ⟨Nat.zero_le _, Nat.zero_le _⟩ dJ8_charAt_2 (fun _ => ?_)
  obtain ⟨g3, hf⟩ := gd_t hf
  have hE9 := Option.some.inj hf
  subst hE9
  exact gt_rn S hr hlocks (isC_n g3) dJ8_charAt_5
set_option maxRecDepth 100000 in
theorem mc_X1_617 {o : Nat} {a0 : Int32} {out : Int32} (S : CallFix p m c cc nL s args lw_all RX1) (hS : SK G E.1 hSites A s) (hB : BI G A s.heap h nx H locs) (ho : isO h o 12 = true) (hf : f_J8_charAt E h o a0 = some out) (hsz : ls.size = nL) (hR : (fE + 3) + 1 ≤ R.frames ∧ 8 + (2 + 11) + (lE + 67) ≤ R.locals) (hW : (rest.map fun v => v.category).sum ≤ 8) (hcs : cells ≤ R.cells ∧ slots ≤ R.slots) (hdg : decode cc pc = .ok (.invokevirtual 617, 3))  (kk : True → W p l e R s m args below meth c H locs cells slots Q (F0 m (pc + 3) ls (.int out :: rest))) : W p l e R s m args below meth c H locs cells slots Q (F0 m pc ls (.int a0 :: .ref o :: rest)) := by
  have hN := hS.2.1
  obtain ⟨fs, he⟩ := isO_s ho
  exact br_r (va_runV (As := [.int a0]) S (mm_J8_charAt (l := l) (G := G) (nx := nx) (fE := fE) (lE := lE) hf) (cwV 1 S.2.2.2.2 (lw_V q1977 q1978 q1979 q186 q1980) rfl rfl rfl hd_J8_charAt hR) (bPreV hS hB (ci := 12) rfl he) rfl rfl hsz rfl (lv_room hW) hdg hcs) kk
theorem hd_X1_out : yX1_out.cls = RX1 ∧ yX1_out.cls ≠ "java/lang/invoke/MethodHandle" ∧ yX1_out.cls ≠ "java/lang/invoke/VarHandle" ∧ (parseMethodDescriptor yX1_out.desc).map (fun d => d.parameters.length) = some 1 := by decide +kernel
set_option maxHeartbeats 4000000 in
set_option maxRecDepth 100000 in
theorem mm_X1_out {o : Nat} {a0 : Int32} {out : Int32} (hf : f_X1_out E h o a0 = some out) : Met l yX1_out (ws_ yX1_out cX1_out 2 (some .int)) (rM (fE + 4) (lE + 88)) (bPc G E.1 hSites h nx [.ref o, .int a0]) (gR (some (.int out)) True) 0 0 (fun _ => False) := by
  refine bGo (by decide +kernel) (Nat.le_of_ble_eq_true rfl) (fun p e s m below meth c ls S hr hlocks hin hnm hS hB hl => ?_)
  have S : CallFix p m c cX1_out 2 s _ lw_all RX1 := S
  obtain ⟨hx, hb, hml, hown, hts⟩ := id S
  have hl : lv_has ls 2 [(0, .ref o), (1, .int a0)] := hl
  rw [f_X1_out] at hf
  refine lv_iload_n hx hb dX1_out_0 rfl (lv_at hl 1 rfl) ?_
  refine lv_i2l hx hb dX1_out_1 rfl ?_
  refine lv_lconst (v := 0) hx hb dX1_out_2 (by decide) ?_
  refine lv_aload_n hx hb dX1_out_3 rfl (lv_at hl 0 rfl) ?_
  obtain ⟨v1, hv1, hf⟩ := ob_s hf
  refine bg_X1_123 S hS hB (vR_s hv1) dX1_out_4 ?_
  obtain ⟨g2, hf⟩ := gd_t hf
  obtain ⟨v3, hv3, hf⟩ := ob_s hf
  refine mc_X1_611 (fE := fE) (lE := lE) S hS hB g2 hv3 hl.1 ⟨(by show _ ≤ (fE + 4); omega), (by show _ ≤ (lE + 88); omega)⟩ (Nat.le_of_ble_eq_true rfl) ⟨Nat.zero_le _, Nat.zero_le _⟩ dX1_out_7 (fun _ => ?_)
  refine lv_iconst hx hb dX1_out_10 kc_i1 ?_
  refine lv_isub hx hb dX1_out_11 ?_
  refine lv_i2l hx hb dX1_out_12 rfl ?_
  obtain ⟨v4, hv4, hf⟩ := ob_s hf
  refine mc_X1_134 S hS.1 hv4 hl.1 ⟨(by show _ ≤ (fE + 4); omega), (by show _ ≤ (lE + 88); omega)⟩ (Nat.le_of_ble_eq_true rfl) ⟨Nat.zero_le _, Nat.zero_le _⟩ dX1_out_13 (fun hnv4 => ?_)
  refine lv_if_ne (tgt := 27) hx hb dX1_out_16 (by decide) (fun c5 => ?_) (fun c5 => ?_)
  · replace hf := it_f c5 hf
    refine lv_aload_n hx hb dX1_out_27 rfl (lv_at hl 0 rfl) ?_
    obtain ⟨v6, hv6, hf⟩ := ob_s hf
    refine bg_X1_123 S hS hB (vR_s hv6) dX1_out_28 ?_
    refine lv_iload_n hx hb dX1_out_31 rfl (lv_at hl 1 rfl) ?_
    obtain ⟨g7, hf⟩ := gd_t hf
    obtain ⟨v8, hv8, hf⟩ := ob_s hf
    refine mc_X1_617 (fE := fE) (lE := lE) S hS hB g7 hv8 hl.1 ⟨(by show _ ≤ (fE + 4); omega), (by show _ ≤ (lE + 88); omega)⟩ (Nat.le_of_ble_eq_true rfl) ⟨Nat.zero_le _, Nat.zero_le _⟩ dX1_out_32 (fun _ => ?_)
    have hE9 := Option.some.inj hf
    subst hE9
    exact gt_ri S hr hlocks trivial dX1_out_35
  · replace hf := it_t c5 hf
    exact absurd hf (by nofun)
end
