section
variable {l : Launch} {D : va_G} {cl : List vw_C} {tys : List (ClassId × FieldType)} {G : hG} {E : bE} {fE lE : Nat} {h : AH} {nx : Nat} {A : Nat → Prop}
variable {p : Program} {e : Env} {R : Room} {s : State} {m : MethodId} {args : Array Value} {below : List Frame} {meth : Method} {c : Code} {H H0 : Heap} {locs : List Loc} {cells slots : Nat} {Q : State → Prop} {cc : ByteArray} {nL pc : Nat} {ls : Array Slot} {rest : List Value}
theorem hd_X4_ruleLine : yX4_ruleLine.cls = RX4 ∧ yX4_ruleLine.cls ≠ "java/lang/invoke/MethodHandle" ∧ yX4_ruleLine.cls ≠ "java/lang/invoke/VarHandle" ∧ (parseMethodDescriptor yX4_ruleLine.desc).map (fun d => d.parameters.length) = some 0 := by decide +kernel
set_option maxHeartbeats 4000000 in
set_option maxRecDepth 100000 in
theorem mm_X4_ruleLine {o : Nat} {out : (Nat ⊕ Unit) × AH × Nat × Nat} (hf : f_X4_ruleLine E h nx o = some out) : wx_Met l yX4_ruleLine (ws_ yX4_ruleLine cX4_ruleLine 2 none) (rC (fE + 8) (lE + 275) out.2.2.1 out.2.2.2) (bPc G E.1 hSites h nx [.ref o]) (xQ G out.1 (fun _ => none) out.2.1 (nx + out.2.2.1) (AA h nx)) (xX G out.1 out.2.1 (nx + out.2.2.1) (AA h nx)) out.2.2.1 out.2.2.2 (AA h nx) := by
  refine bGoX (by decide +kernel) (Nat.le_of_ble_eq_true rfl) (fun p e s m below meth c ls S hr hlocks hin hnm hem hS hB hl => ?_)
  have S : CallFix p m c cX4_ruleLine 2 s _ lw_all RX4 := S
  obtain ⟨hx, hb, hml, hown, hts⟩ := id S
  have hl : lv_has ls 2 [(0, .ref o)] := hl
  have w52 : ∀ (x0 : Nat) (x1 : Int32) (y0 : Nat) (y1 : Int32) (hc : AH) (nc : Nat) (ls : Array Slot) (H : Heap) (locs : List Loc) (ce sl : Nat) (o1 : (Nat ⊕ Unit) × AH × Nat × Nat), BI G (AA h nx) s.heap hc nc H locs → nc = nx + ce → TL out o1 ce sl → lv_has ls 2 [(0, .ref x0), (1, .int x1)] → f_X4_ruleLine_52 E x0 x1 y0 y1 hc nc = some o1 → W p l e (rC (fE + 8) (lE + 275) out.2.2.1 out.2.2.2) s m ([.ref o] : List Value).toArray below meth c H locs ce sl (wx_MQ below (xQ G out.1 (fun _ => none) out.2.1 (nx + out.2.2.1) (AA h nx)) (xX G out.1 out.2.1 (nx + out.2.2.1) (AA h nx)) ([.ref o] : List Value).toArray s out.2.2.1 out.2.2.2 (AA h nx)) (F0 m 52 ls [.int y1, .ref y0]) := by
    intro x0 x1 y0 y1 hc nc ls H locs ce sl o1 hB hn hT hl hf
    rw [f_X4_ruleLine_52] at hf
    refine lv_iconst hx hb dX4_ruleLine_52 kc_i2 ?_
    obtain ⟨g1, hf⟩ := gd_t hf
    obtain ⟨v2, hv2, hf⟩ := ob_s hf
    obtain ⟨o3, hf, hT⟩ := TL_c hT hf
    refine mc_X4_107 (fE := fE) (lE := lE) S hS hB g1 hv2 hl.1 ⟨(by show _ ≤ (fE + 8); omega), (by show _ ≤ (lE + 275); omega)⟩ (Nat.le_of_ble_eq_true rfl) ⟨(TL_m hT).1, (TL_m hT).2⟩ dX4_ruleLine_53 (fun H locs ax hax hix hB => ?_) (fun H locs r4 hrx hB => ?_)
    · replace hf := sc_l hax hf
      have hE9 := TL_e hT hf
      subst hE9
      exact xt_out hS hem hlocks hB (by omega) hix
    · replace hf := sc_r hrx hf
      refine lv_aload_n hx hb dX4_ruleLine_56 rfl (lv_at hl 0 rfl) ?_
      obtain ⟨g5, hf⟩ := gd_t hf
      obtain ⟨v6, hv6, hf⟩ := ob_s hf
      obtain ⟨o7, hf, hT⟩ := TL_c hT hf
      refine mc_X4_46 (fE := fE) (lE := lE) S hS hB g5 hv6 hl.1 ⟨(by show _ ≤ (fE + 8); omega), (by show _ ≤ (lE + 275); omega)⟩ (Nat.le_of_ble_eq_true rfl) ⟨(TL_m hT).1, (TL_m hT).2⟩ dX4_ruleLine_57 (fun H locs _ hB => ?_)
      refine lv_aload_n hx hb dX4_ruleLine_60 rfl (lv_at hl 0 rfl) ?_
      obtain ⟨v8, hv8, hf⟩ := ob_s hf
      refine bg_X4_38 S hS hB (vR_s hv8) dX4_ruleLine_61 ?_
      obtain ⟨v9, hv9, hf⟩ := ob_s hf
      refine bg_X4_193 S hS hB (vR_s hv9) dX4_ruleLine_64 ?_
      refine lv_iload_n hx hb dX4_ruleLine_67 rfl (lv_at hl 1 rfl) ?_
      refine lv_aload_n hx hb dX4_ruleLine_68 rfl (lv_at hl 0 rfl) ?_
      refine b_getsN S hS hB 0 rfl (va_Nw.use rfl (hS.2.1 _ q1163 rfl)) dX4_ruleLine_69 ?_
      refine lv_iload_n hx hb dX4_ruleLine_72 rfl (lv_at hl 1 rfl) ?_
      obtain ⟨v10, hv10, hf⟩ := ob_s hf
      refine b_iald S hS.1 hB hv10 dX4_ruleLine_73 ?_
      refine b_getsN S hS hB 1 rfl (va_Nw.use rfl (hS.2.1 _ q1165 rfl)) dX4_ruleLine_74 ?_
      refine lv_iload_n hx hb dX4_ruleLine_77 rfl (lv_at hl 1 rfl) ?_
      obtain ⟨v11, hv11, hf⟩ := ob_s hf
      refine b_iald S hS.1 hB hv11 dX4_ruleLine_78 ?_
      obtain ⟨g12, hf⟩ := gd_t hf
      obtain ⟨v13, hv13, hf⟩ := ob_s hf
      obtain ⟨o14, hf, hT⟩ := TL_c hT hf
      refine mc_X4_152 (fE := fE) (lE := lE) S hS hB g12 hv13 hl.1 ⟨(by show _ ≤ (fE + 8); omega), (by show _ ≤ (lE + 275); omega)⟩ (Nat.le_of_ble_eq_true rfl) ⟨(TL_m hT).1, (TL_m hT).2⟩ dX4_ruleLine_79 (fun H locs ax hax hix hB => ?_) (fun H locs r15 hrx hB => ?_)
      · replace hf := sc_l hax hf
        have hE9 := TL_e hT hf
        subst hE9
        exact xt_out hS hem hlocks hB (by omega) hix
      · replace hf := sc_r hrx hf
        obtain ⟨h16, hh16, hf⟩ := ob_s hf
        refine b_iast S hS.1 hB hh16 dX4_ruleLine_82 (fun H locs hB => ?_)
        have hE9 := TL_e hT hf
        subst hE9
        exact wx_ret (bt_v S hr hlocks hB (by omega) trivial dX4_ruleLine_83)
  have w41 : ∀ (x0 : Nat) (y0 : Int32) (hc : AH) (nc : Nat) (ls : Array Slot) (H : Heap) (locs : List Loc) (ce sl : Nat) (o1 : (Nat ⊕ Unit) × AH × Nat × Nat), BI G (AA h nx) s.heap hc nc H locs → nc = nx + ce → TL out o1 ce sl → lv_has ls 2 [(0, .ref x0)] → f_X4_ruleLine_41 E x0 y0 hc nc = some o1 → W p l e (rC (fE + 8) (lE + 275) out.2.2.1 out.2.2.2) s m ([.ref o] : List Value).toArray below meth c H locs ce sl (wx_MQ below (xQ G out.1 (fun _ => none) out.2.1 (nx + out.2.2.1) (AA h nx)) (xX G out.1 out.2.1 (nx + out.2.2.1) (AA h nx)) ([.ref o] : List Value).toArray s out.2.2.1 out.2.2.2 (AA h nx)) (F0 m 41 ls [.int y0]) := by
    intro x0 y0 hc nc ls H locs ce sl o1 hB hn hT hl hf
    rw [f_X4_ruleLine_41] at hf
    refine lv_istore_n (i := 1) (lv' := [(1, .int y0), (0, .ref x0)]) hx hb dX4_ruleLine_41 rfl hl (by decide) rfl (fun ls hl => ?_)
    refine lv_aload_n hx hb dX4_ruleLine_42 rfl (lv_at hl 1 rfl) ?_
    refine lv_iload_n hx hb dX4_ruleLine_43 rfl (lv_at hl 0 rfl) ?_
    refine lv_if_lt (tgt := 51) hx hb dX4_ruleLine_44 (by decide) (fun c1 => ?_) (fun c1 => ?_)
    · replace hf := it_t c1 hf
      refine lv_iconst hx hb dX4_ruleLine_51 kc_i0 ?_
      exact (w52) x0 y0 x0 0 hc nc ls H locs ce sl o1 hB (by omega) hT (lv_sub (l' := [(0, .ref x0), (1, .int y0)]) hl [1, 0] rfl) hf
    · replace hf := it_f c1 hf
      refine lv_iconst hx hb dX4_ruleLine_47 kc_i1 ?_
      refine lv_goto (tgt := 52) hx hb dX4_ruleLine_48 (by decide) ?_
      exact (w52) x0 y0 x0 1 hc nc ls H locs ce sl o1 hB (by omega) hT (lv_sub (l' := [(0, .ref x0), (1, .int y0)]) hl [1, 0] rfl) hf
  have hT : TL out out 0 0 := TL_0
  rw [f_X4_ruleLine] at hf
  refine lv_aload_n hx hb dX4_ruleLine_0 rfl (lv_at hl 0 rfl) ?_
  refine lv_aload_n hx hb dX4_ruleLine_1 rfl (lv_at hl 0 rfl) ?_
  refine b_ldcS S hS 18 rfl rfl rfl dX4_ruleLine_2 ?_
  obtain ⟨g1, hf⟩ := gd_t hf
  obtain ⟨v2, hv2, hf⟩ := ob_s hf
  refine mc_X4_168 (fE := fE) (lE := lE) S hS hB g1 hv2 hl.1 ⟨(by show _ ≤ (fE + 8); omega), (by show _ ≤ (lE + 275); omega)⟩ (Nat.le_of_ble_eq_true rfl) ⟨(TL_m hT).1, (TL_m hT).2⟩ dX4_ruleLine_4 (fun hnv2 => ?_)
  refine lv_iconst hx hb dX4_ruleLine_7 kc_i2 ?_
  obtain ⟨g3, hf⟩ := gd_t hf
  obtain ⟨v4, hv4, hf⟩ := ob_s hf
  obtain ⟨o5, hf, hT⟩ := TL_c hT hf
  refine mc_X4_107 (fE := fE) (lE := lE) S hS hB g3 hv4 hl.1 ⟨(by show _ ≤ (fE + 8); omega), (by show _ ≤ (lE + 275); omega)⟩ (Nat.le_of_ble_eq_true rfl) ⟨(TL_m hT).1, (TL_m hT).2⟩ dX4_ruleLine_8 (fun H locs ax hax hix hB => ?_) (fun H locs r6 hrx hB => ?_)
  · replace hf := sc_l hax hf
    have hE9 := TL_e hT hf
    subst hE9
    exact xt_out hS hem hlocks hB (by omega) hix
  · replace hf := sc_r hrx hf
    refine lv_aload_n hx hb dX4_ruleLine_11 rfl (lv_at hl 0 rfl) ?_
    obtain ⟨g7, hf⟩ := gd_t hf
    obtain ⟨v8, hv8, hf⟩ := ob_s hf
    obtain ⟨o9, hf, hT⟩ := TL_c hT hf
    refine mc_X4_46 (fE := fE) (lE := lE) S hS hB g7 hv8 hl.1 ⟨(by show _ ≤ (fE + 8); omega), (by show _ ≤ (lE + 275); omega)⟩ (Nat.le_of_ble_eq_true rfl) ⟨(TL_m hT).1, (TL_m hT).2⟩ dX4_ruleLine_12 (fun H locs _ hB => ?_)
    refine lv_aload_n hx hb dX4_ruleLine_15 rfl (lv_at hl 0 rfl) ?_
    obtain ⟨v10, hv10, hf⟩ := ob_s hf
    refine bg_X4_67 S hS hB (vI_s hv10) dX4_ruleLine_16 ?_
    refine lv_iconst hx hb dX4_ruleLine_19 kc_i1 ?_
    refine lv_icmp_ne (tgt := 40) hx hb dX4_ruleLine_20 (by decide) (fun c11 => ?_) (fun c11 => ?_)
    · replace hf := it_f c11 hf
      refine lv_iconst hx hb dX4_ruleLine_40 kc_im1 ?_
      exact (w41) o (-1) v8.2.1 ((nx + v4.2.2.1) + v8.2.2.1) ls H locs ((0 + v4.2.2.1) + v8.2.2.1) ((0 + v4.2.2.2) + v8.2.2.2) o9 hB (by omega) hT hl hf
    · replace hf := it_t c11 hf
      refine lv_aload_n hx hb dX4_ruleLine_23 rfl (lv_at hl 0 rfl) ?_
      obtain ⟨v12, hv12, hf⟩ := ob_s hf
      refine bg_X4_17 S hS hB (vR_s hv12) dX4_ruleLine_24 ?_
      refine lv_aload_n hx hb dX4_ruleLine_27 rfl (lv_at hl 0 rfl) ?_
      obtain ⟨v13, hv13, hf⟩ := ob_s hf
      refine bg_X4_3 S hS hB (vR_s hv13) dX4_ruleLine_28 ?_
      obtain ⟨v14, hv14, hf⟩ := ob_s hf
      refine bg_X4_96 S hS hB (vR_s hv14) dX4_ruleLine_31 ?_
      obtain ⟨v15, hv15, hf⟩ := ob_s hf
      refine mc_X4_100 (fE := fE) (lE := lE) S hS hB hv15 hl.1 ⟨(by show _ ≤ (fE + 8); omega), (by show _ ≤ (lE + 275); omega)⟩ (Nat.le_of_ble_eq_true rfl) ⟨(TL_m hT).1, (TL_m hT).2⟩ dX4_ruleLine_34 (fun _ => ?_)
      refine lv_goto (tgt := 41) hx hb dX4_ruleLine_37 (by decide) ?_
      exact (w41) o v15 v8.2.1 ((nx + v4.2.2.1) + v8.2.2.1) ls H locs ((0 + v4.2.2.1) + v8.2.2.1) ((0 + v4.2.2.2) + v8.2.2.2) o9 hB (by omega) hT hl hf
set_option maxRecDepth 100000 in
theorem mc_X4_212 {o : Nat} {out : (Nat ⊕ Unit) × AH × Nat × Nat} (S : CallFix p m c cc nL s args lw_all RX4) (hS : SK G E.1 hSites A s) (hB : BI G A s.heap h nx H locs) (ho : isO h o 3 = true) (hf : f_X4_ruleLine E h nx o = some out) (hsz : ls.size = nL) (hR : (fE + 8) + 1 ≤ R.frames ∧ 8 + (2 + 11) + (lE + 275) ≤ R.locals) (hW : (rest.map fun v => v.category).sum ≤ 8) (hcs : cells + out.2.2.1 ≤ R.cells ∧ slots + out.2.2.2 ≤ R.slots) (hdg : decode cc pc = .ok (.invokevirtual 212, 3))  (kx : ∀ (H1 : Heap) (locs1 : List Loc) (a : Nat), out.1 = .inl a → isO out.2.1 a 4 = true → BI G A s.heap out.2.1 (nx + out.2.2.1) H1 locs1 → wx_W p l e R s m args below meth c H1 locs1 (cells + out.2.2.1) (slots + out.2.2.2) Q (F0 m pc ls rest) a) (kk : ∀ (H1 : Heap) (locs1 : List Loc) (r : Unit), out.1 = .inr r → BI G A s.heap out.2.1 (nx + out.2.2.1) H1 locs1 → W p l e R s m args below meth c H1 locs1 (cells + out.2.2.1) (slots + out.2.2.2) Q (F0 m (pc + 3) ls (rest))) : W p l e R s m args below meth c H locs cells slots Q (F0 m pc ls (.ref o :: rest)) := by
  have hN := hS.2.1
  obtain ⟨fs, he⟩ := isO_s ho
  exact br_x (wx_runV (As := []) S (mm_X4_ruleLine (l := l) (G := G) (fE := fE) (lE := lE) hf) (cwV 0 S.2.2.2.2 (lw_V q1158 q1160 qs32 q190 q1161) rfl rfl rfl hd_X4_ruleLine hR) (bPreV hS hB (ci := 3) rfl he) rfl rfl hsz rfl (lv_room hW) hdg hcs) hB kx kk
theorem hd_X4_isName : yX4_isName.cls = RX4 ∧ yX4_isName.cls ≠ "java/lang/invoke/MethodHandle" ∧ yX4_isName.cls ≠ "java/lang/invoke/VarHandle" ∧ (parseMethodDescriptor yX4_isName.desc).map (fun d => d.parameters.length) = some 0 := by decide +kernel
set_option maxHeartbeats 4000000 in
set_option maxRecDepth 100000 in
theorem mm_X4_isName {o : Nat} {out : Int32} (hf : f_X4_isName E h o = some out) : Met l yX4_isName (ws_ yX4_isName cX4_isName 1 (some .boolean)) (rM (fE + 3) (lE + 66)) (bPc G E.1 hSites h nx [.ref o]) (gR (some (.int out)) (narrow .boolean (.int out) = .int out)) 0 0 (fun _ => False) := by
  refine bGo (by decide +kernel) (Nat.le_of_ble_eq_true rfl) (fun p e s m below meth c ls S hr hlocks hin hnm hS hB hl => ?_)
  have S : CallFix p m c cX4_isName 1 s _ lw_all RX4 := S
  obtain ⟨hx, hb, hml, hown, hts⟩ := id S
  have hl : lv_has ls 1 [(0, .ref o)] := hl
  rw [f_X4_isName] at hf
  refine lv_aload_n hx hb dX4_isName_0 rfl (lv_at hl 0 rfl) ?_
  obtain ⟨v1, hv1, hf⟩ := ob_s hf
  refine bg_X4_67 S hS hB (vI_s hv1) dX4_isName_1 ?_
  refine lv_iconst hx hb dX4_isName_4 kc_i1 ?_
  refine lv_icmp_ne (tgt := 46) hx hb dX4_isName_5 (by decide) (fun c2 => ?_) (fun c2 => ?_)
  · replace hf := it_f c2 hf
    refine lv_iconst hx hb dX4_isName_46 kc_i0 ?_
    have hE9 := Option.some.inj hf
    subst hE9
    exact gt_rz S hr hlocks nb0 dX4_isName_47
  · replace hf := it_t c2 hf
    refine lv_aload_n hx hb dX4_isName_8 rfl (lv_at hl 0 rfl) ?_
    obtain ⟨v3, hv3, hf⟩ := ob_s hf
    refine bg_X4_17 S hS hB (vR_s hv3) dX4_isName_9 ?_
    refine lv_aload_n hx hb dX4_isName_12 rfl (lv_at hl 0 rfl) ?_
    obtain ⟨v4, hv4, hf⟩ := ob_s hf
    refine bg_X4_3 S hS hB (vR_s hv4) dX4_isName_13 ?_
    obtain ⟨v5, hv5, hf⟩ := ob_s hf
    refine bg_X4_96 S hS hB (vR_s hv5) dX4_isName_16 ?_
    obtain ⟨v6, hv6, hf⟩ := ob_s hf
    refine mc_X4_100 (fE := fE) (lE := lE) S hS hB hv6 hl.1 ⟨(by show _ ≤ (fE + 3); omega), (by show _ ≤ (lE + 66); omega)⟩ (Nat.le_of_ble_eq_true rfl) ⟨Nat.zero_le _, Nat.zero_le _⟩ dX4_isName_19 (fun _ => ?_)
    refine lv_if_ge (tgt := 46) hx hb dX4_isName_22 (by decide) (fun c7 => ?_) (fun c7 => ?_)
    · replace hf := it_t c7 hf
      refine lv_iconst hx hb dX4_isName_46 kc_i0 ?_
      have hE9 := Option.some.inj hf
      subst hE9
      exact gt_rz S hr hlocks nb0 dX4_isName_47
    · replace hf := it_f c7 hf
      refine lv_aload_n hx hb dX4_isName_25 rfl (lv_at hl 0 rfl) ?_
      obtain ⟨v8, hv8, hf⟩ := ob_s hf
      refine bg_X4_17 S hS hB (vR_s hv8) dX4_isName_26 ?_
      refine lv_aload_n hx hb dX4_isName_29 rfl (lv_at hl 0 rfl) ?_
      obtain ⟨v9, hv9, hf⟩ := ob_s hf
      refine bg_X4_3 S hS hB (vR_s hv9) dX4_isName_30 ?_
      obtain ⟨v10, hv10, hf⟩ := ob_s hf
      refine bg_X4_104 S hS hB (vR_s hv10) dX4_isName_33 ?_
      obtain ⟨v11, hv11, hf⟩ := ob_s hf
      refine mc_X4_100 (fE := fE) (lE := lE) S hS hB hv11 hl.1 ⟨(by show _ ≤ (fE + 3); omega), (by show _ ≤ (lE + 66); omega)⟩ (Nat.le_of_ble_eq_true rfl) ⟨Nat.zero_le _, Nat.zero_le _⟩ dX4_isName_36 (fun _ => ?_)
      refine lv_if_ge (tgt := 46) hx hb dX4_isName_39 (by decide) (fun c12 => ?_) (fun c12 => ?_)
      · replace hf := it_t c12 hf
        refine lv_iconst hx hb dX4_isName_46 kc_i0 ?_
        have hE9 := Option.some.inj hf
        subst hE9
        exact gt_rz S hr hlocks nb0 dX4_isName_47
      · replace hf := it_f c12 hf
        refine lv_iconst hx hb dX4_isName_42 kc_i1 ?_
        refine lv_goto (tgt := 47) hx hb dX4_isName_43 (by decide) ?_
        have hE9 := Option.some.inj hf
        subst hE9
        exact gt_rz S hr hlocks nb1 dX4_isName_47
set_option maxRecDepth 100000 in
theorem mc_X4_143 {o : Nat} {out : Int32} (S : CallFix p m c cc nL s args lw_all RX4) (hS : SK G E.1 hSites A s) (hB : BI G A s.heap h nx H locs) (ho : isO h o 3 = true) (hf : f_X4_isName E h o = some out) (hsz : ls.size = nL) (hR : (fE + 3) + 1 ≤ R.frames ∧ 8 + (1 + 11) + (lE + 66) ≤ R.locals) (hW : (rest.map fun v => v.category).sum ≤ 8) (hcs : cells ≤ R.cells ∧ slots ≤ R.slots) (hdg : decode cc pc = .ok (.invokevirtual 143, 3))  (kk : (narrow .boolean (.int out) = .int out) → W p l e R s m args below meth c H locs cells slots Q (F0 m (pc + 3) ls (.int out :: rest))) : W p l e R s m args below meth c H locs cells slots Q (F0 m pc ls (.ref o :: rest)) := by
  have hN := hS.2.1
  obtain ⟨fs, he⟩ := isO_s ho
  exact br_r (va_runV (As := []) S (mm_X4_isName (l := l) (G := G) (nx := nx) (fE := fE) (lE := lE) hf) (cwV 0 S.2.2.2.2 (lw_V q965 q967 qs23 q190 q968) rfl rfl rfl hd_X4_isName hR) (bPreV hS hB (ci := 3) rfl he) rfl rfl hsz rfl (lv_room hW) hdg hcs) kk
theorem hd_X4_homeNamed : yX4_homeNamed.cls = RX4 ∧ yX4_homeNamed.cls ≠ "java/lang/invoke/MethodHandle" ∧ yX4_homeNamed.cls ≠ "java/lang/invoke/VarHandle" ∧ (parseMethodDescriptor yX4_homeNamed.desc).map (fun d => d.parameters.length) = some 0 := by decide +kernel
set_option maxHeartbeats 4000000 in
set_option maxRecDepth 100000 in
theorem mm_X4_homeNamed {o : Nat} {out : Int32} (hf : f_X4_homeNamed E h o = some out) : Met l yX4_homeNamed (ws_ yX4_homeNamed cX4_homeNamed 2 (some .int)) (rM (fE + 3) (lE + 64)) (bPc G E.1 hSites h nx [.ref o]) (gR (some (.int out)) True) 0 0 (fun _ => False) := by
  refine bGo (by decide +kernel) (Nat.le_of_ble_eq_true rfl) (fun p e s m below meth c ls S hr hlocks hin hnm hS hB hl => ?_)
  have S : CallFix p m c cX4_homeNamed 2 s _ lw_all RX4 := S
  obtain ⟨hx, hb, hml, hown, hts⟩ := id S
  have hl : lv_has ls 2 [(0, .ref o)] := hl
  have w2 : ∀ (n : Nat) , ∀ (x0 : Nat) (x1 : Int32) (ls : Array Slot), lv_has ls 2 [(0, .ref x0), (1, .int x1)] → f_X4_homeNamed_2 n E h x0 x1 = some out → W p l e (rM (fE + 3) (lE + 64)) s m ([.ref o] : List Value).toArray below meth c s.heap [] 0 0 (MQ below (gR (some (.int out)) True) ([.ref o] : List Value).toArray s 0 0 (fun _ => False)) (F0 m 2 ls []) := by
    intro n
    induction n with
    | zero =>
      intro x0 x1 ls hl hf
      exact absurd hf (by rw [f_X4_homeNamed_2]; exact nofun)
    | succ n ih =>
      intro x0 x1 ls hl hf
      rw [f_X4_homeNamed_2] at hf
      refine lv_iload_n hx hb dX4_homeNamed_2 rfl (lv_at hl 1 rfl) ?_
      refine lv_aload_n hx hb dX4_homeNamed_3 rfl (lv_at hl 0 rfl) ?_
      obtain ⟨v1, hv1, hf⟩ := ob_s hf
      refine bg_X4_26 S hS hB (vR_s hv1) dX4_homeNamed_4 ?_
      obtain ⟨g2, hf⟩ := gd_t hf
      obtain ⟨v3, hv3, hf⟩ := ob_s hf
      refine mc_X4_111 (fE := fE) (lE := lE) S hS hB g2 hv3 hl.1 ⟨(by show _ ≤ (fE + 3); omega), (by show _ ≤ (lE + 64); omega)⟩ (Nat.le_of_ble_eq_true rfl) ⟨Nat.zero_le _, Nat.zero_le _⟩ dX4_homeNamed_7 (fun _ => ?_)
      refine lv_icmp_ge (tgt := 45) hx hb dX4_homeNamed_10 (by decide) (fun c4 => ?_) (fun c4 => ?_)
      · replace hf := it_t c4 hf
        refine lv_iconst hx hb dX4_homeNamed_45 kc_im1 ?_
        have hE9 := Option.some.inj hf
        subst hE9
        exact gt_ri S hr hlocks trivial dX4_homeNamed_46
      · replace hf := it_f c4 hf
        refine lv_aload_n hx hb dX4_homeNamed_13 rfl (lv_at hl 0 rfl) ?_
        obtain ⟨v5, hv5, hf⟩ := ob_s hf
        refine bg_X4_26 S hS hB (vR_s hv5) dX4_homeNamed_14 ?_
        refine lv_iload_n hx hb dX4_homeNamed_17 rfl (lv_at hl 1 rfl) ?_
        obtain ⟨g6, hf⟩ := gd_t hf
        obtain ⟨v7, hv7, hf⟩ := ob_s hf
        refine mc_X4_114 (fE := fE) (lE := lE) S hS hB g6 hv7 hl.1 ⟨(by show _ ≤ (fE + 3); omega), (by show _ ≤ (lE + 64); omega)⟩ (Nat.le_of_ble_eq_true rfl) ⟨Nat.zero_le _, Nat.zero_le _⟩ dX4_homeNamed_18 (fun _ => ?_)
        obtain ⟨g8, hf⟩ := gd_t hf
        refine b_castO S hS.1 hB (ci := 5) rfl (hts _ q1052) g8 dX4_homeNamed_21 ?_
        obtain ⟨v9, hv9, hf⟩ := ob_s hf
        refine bg_X4_120 S hS hB (vR_s hv9) dX4_homeNamed_24 ?_
        refine lv_aload_n hx hb dX4_homeNamed_27 rfl (lv_at hl 0 rfl) ?_
        obtain ⟨v10, hv10, hf⟩ := ob_s hf
        refine bg_X4_17 S hS hB (vR_s hv10) dX4_homeNamed_28 ?_
        obtain ⟨g11, hf⟩ := gd_t hf
        obtain ⟨v12, hv12, hf⟩ := ob_s hf
        refine mc_X4_90 (fE := fE) (lE := lE) S hS hB g11 hv12 hl.1 ⟨(by show _ ≤ (fE + 3); omega), (by show _ ≤ (lE + 64); omega)⟩ (Nat.le_of_ble_eq_true rfl) ⟨Nat.zero_le _, Nat.zero_le _⟩ dX4_homeNamed_31 (fun hnv12 => ?_)
        refine lv_if_eq (tgt := 39) hx hb dX4_homeNamed_34 (by decide) (fun c13 => ?_) (fun c13 => ?_)
        · replace hf := it_t c13 hf
          refine lv_iinc (v := (x1 + 1)) (lv' := [(1, .int (x1 + 1)), (0, .ref x0)]) hx hb dX4_homeNamed_39 hl (k := 1) rfl rfl (by decide) rfl (fun ls hl => ?_)
          refine lv_goto (tgt := 2) hx hb dX4_homeNamed_42 (by decide) ?_
          exact (ih) x0 (x1 + 1) ls (lv_sub (l' := [(0, .ref x0), (1, .int (x1 + 1))]) hl [1, 0] rfl) hf
        · replace hf := it_f c13 hf
          refine lv_iload_n hx hb dX4_homeNamed_37 rfl (lv_at hl 1 rfl) ?_
          have hE9 := Option.some.inj hf
          subst hE9
          exact gt_ri S hr hlocks trivial dX4_homeNamed_38
  rw [f_X4_homeNamed] at hf
  refine lv_iconst hx hb dX4_homeNamed_0 kc_i0 ?_
  refine lv_istore_n (i := 1) (lv' := [(1, .int 0), (0, .ref o)]) hx hb dX4_homeNamed_1 rfl hl (by decide) rfl (fun ls hl => ?_)
  exact (w2 FU) o 0 ls (lv_sub (l' := [(0, .ref o), (1, .int 0)]) hl [1, 0] rfl) hf
set_option maxRecDepth 100000 in
theorem mc_X4_140 {o : Nat} {out : Int32} (S : CallFix p m c cc nL s args lw_all RX4) (hS : SK G E.1 hSites A s) (hB : BI G A s.heap h nx H locs) (ho : isO h o 3 = true) (hf : f_X4_homeNamed E h o = some out) (hsz : ls.size = nL) (hR : (fE + 3) + 1 ≤ R.frames ∧ 8 + (2 + 11) + (lE + 64) ≤ R.locals) (hW : (rest.map fun v => v.category).sum ≤ 8) (hcs : cells ≤ R.cells ∧ slots ≤ R.slots) (hdg : decode cc pc = .ok (.invokevirtual 140, 3))  (kk : True → W p l e R s m args below meth c H locs cells slots Q (F0 m (pc + 3) ls (.int out :: rest))) : W p l e R s m args below meth c H locs cells slots Q (F0 m pc ls (.ref o :: rest)) := by
  have hN := hS.2.1
  obtain ⟨fs, he⟩ := isO_s ho
  exact br_r (va_runV (As := []) S (mm_X4_homeNamed (l := l) (G := G) (nx := nx) (fE := fE) (lE := lE) hf) (cwV 0 S.2.2.2.2 (lw_V q1047 q1049 qs25 q190 q1050) rfl rfl rfl hd_X4_homeNamed hR) (bPreV hS hB (ci := 3) rfl he) rfl rfl hsz rfl (lv_room hW) hdg hcs) kk
theorem hd_X4_isTaken : yX4_isTaken.cls = RX4 ∧ yX4_isTaken.cls ≠ "java/lang/invoke/MethodHandle" ∧ yX4_isTaken.cls ≠ "java/lang/invoke/VarHandle" ∧ (parseMethodDescriptor yX4_isTaken.desc).map (fun d => d.parameters.length) = some 0 := by decide +kernel
set_option maxHeartbeats 4000000 in
set_option maxRecDepth 100000 in
theorem mm_X4_isTaken {o : Nat} {out : Int32 × AH × Nat × Nat} (hf : f_X4_isTaken E h nx o = some out) : Met l yX4_isTaken (ws_ yX4_isTaken cX4_isTaken 3 (some .boolean)) (rC (fE + 4) (lE + 85) out.2.2.1 out.2.2.2) (bPc G E.1 hSites h nx [.ref o]) (bQ G (some (.int out.1)) (narrow .boolean (.int out.1) = .int out.1) out.2.1 (nx + out.2.2.1) (AA h nx)) out.2.2.1 out.2.2.2 (AA h nx) := by
  refine bGo (by decide +kernel) (Nat.le_of_ble_eq_true rfl) (fun p e s m below meth c ls S hr hlocks hin hnm hS hB hl => ?_)
  have S : CallFix p m c cX4_isTaken 3 s _ lw_all RX4 := S
  obtain ⟨hx, hb, hml, hown, hts⟩ := id S
  have hl : lv_has ls 3 [(0, .ref o)] := hl
  have w8 : ∀ (n : Nat) , ∀ (x0 : Nat) (x1 : Nat) (hc : AH) (nc : Nat) (ls : Array Slot) (H : Heap) (locs : List Loc) (ce sl : Nat) (o1 : Int32 × AH × Nat × Nat), BI G (AA h nx) s.heap hc nc H locs → nc = nx + ce → TL out o1 ce sl → lv_has ls 3 [(0, .ref x0), (1, .ref x1)] → f_X4_isTaken_8 n E x0 x1 hc nc = some o1 → W p l e (rC (fE + 4) (lE + 85) out.2.2.1 out.2.2.2) s m ([.ref o] : List Value).toArray below meth c H locs ce sl (MQ below (bQ G (some (.int out.1)) (narrow .boolean (.int out.1) = .int out.1) out.2.1 (nx + out.2.2.1) (AA h nx)) ([.ref o] : List Value).toArray s out.2.2.1 out.2.2.2 (AA h nx)) (F0 m 8 ls []) := by
    intro n
    induction n with
    | zero =>
      intro x0 x1 hc nc ls H locs ce sl o1 hB hn hT hl hf
      exact absurd hf (by rw [f_X4_isTaken_8]; exact nofun)
    | succ n ih =>
      intro x0 x1 hc nc ls H locs ce sl o1 hB hn hT hl hf
      rw [f_X4_isTaken_8] at hf
      refine lv_aload_n hx hb dX4_isTaken_8 rfl (lv_at hl 1 rfl) ?_
      obtain ⟨g1, hf⟩ := gd_t hf
      obtain ⟨v2, hv2, hf⟩ := ob_s hf
      refine mc_X4_127 (fE := fE) (lE := lE) S hS hB g1 hv2 hl.1 ⟨(by show _ ≤ (fE + 4); omega), (by show _ ≤ (lE + 85); omega)⟩ (Nat.le_of_ble_eq_true rfl) ⟨(TL_m hT).1, (TL_m hT).2⟩ dX4_isTaken_9 (fun hnv2 => ?_)
      refine lv_if_eq (tgt := 46) hx hb dX4_isTaken_14 (by decide) (fun c3 => ?_) (fun c3 => ?_)
      · replace hf := it_t c3 hf
        refine lv_aload_n hx hb dX4_isTaken_46 rfl (lv_at hl 0 rfl) ?_
        obtain ⟨g4, hf⟩ := gd_t hf
        obtain ⟨v5, hv5, hf⟩ := ob_s hf
        refine mc_X4_140 (fE := fE) (lE := lE) S hS hB g4 hv5 hl.1 ⟨(by show _ ≤ (fE + 4); omega), (by show _ ≤ (lE + 85); omega)⟩ (Nat.le_of_ble_eq_true rfl) ⟨(TL_m hT).1, (TL_m hT).2⟩ dX4_isTaken_47 (fun _ => ?_)
        refine lv_if_lt (tgt := 57) hx hb dX4_isTaken_50 (by decide) (fun c6 => ?_) (fun c6 => ?_)
        · replace hf := it_t c6 hf
          refine lv_iconst hx hb dX4_isTaken_57 kc_i0 ?_
          have hE9 := TL_e hT hf
          subst hE9
          exact bt_z S hr hlocks hB (by omega) nb0 dX4_isTaken_58
        · replace hf := it_f c6 hf
          refine lv_iconst hx hb dX4_isTaken_53 kc_i1 ?_
          refine lv_goto (tgt := 58) hx hb dX4_isTaken_54 (by decide) ?_
          have hE9 := TL_e hT hf
          subst hE9
          exact bt_z S hr hlocks hB (by omega) nb1 dX4_isTaken_58
      · replace hf := it_f c3 hf
        refine lv_aload_n hx hb dX4_isTaken_17 rfl (lv_at hl 1 rfl) ?_
        obtain ⟨g7, hf⟩ := gd_t hf
        obtain ⟨v8, hv8, hf⟩ := ob_s hf
        obtain ⟨o9, hf, hT⟩ := TL_c hT hf
        refine mc_X4_133 (fE := fE) (lE := lE) S hS hB g7 hv8 hl.1 ⟨(by show _ ≤ (fE + 4); omega), (by show _ ≤ (lE + 85); omega)⟩ (Nat.le_of_ble_eq_true rfl) ⟨(TL_m hT).1, (TL_m hT).2⟩ dX4_isTaken_18 (fun H locs _ hB => ?_)
        obtain ⟨g10, hf⟩ := gd_t hf
        refine b_castO S hS.1 hB (ci := 6) rfl (hts _ q1046) g10 dX4_isTaken_23 ?_
        refine lv_astore_n (i := 2) (lv' := [(2, .ref v8.1), (0, .ref x0), (1, .ref x1)]) hx hb dX4_isTaken_26 rfl hl (by decide) rfl (fun ls hl => ?_)
        refine lv_aload_n hx hb dX4_isTaken_27 rfl (lv_at hl 0 rfl) ?_
        obtain ⟨v11, hv11, hf⟩ := ob_s hf
        refine bg_X4_139 S hS hB (vR_s hv11) dX4_isTaken_28 ?_
        refine lv_aload_n hx hb dX4_isTaken_31 rfl (lv_at hl 1 rfl) ?_
        obtain ⟨v12, hv12, hf⟩ := ob_s hf
        refine bg_X4_17 S hS hB (vR_s hv12) dX4_isTaken_32 ?_
        obtain ⟨g13, hf⟩ := gd_t hf
        obtain ⟨v14, hv14, hf⟩ := ob_s hf
        refine mc_X4_90 (fE := fE) (lE := lE) S hS hB g13 hv14 hl.1 ⟨(by show _ ≤ (fE + 4); omega), (by show _ ≤ (lE + 85); omega)⟩ (Nat.le_of_ble_eq_true rfl) ⟨(TL_m hT).1, (TL_m hT).2⟩ dX4_isTaken_35 (fun hnv14 => ?_)
        refine lv_if_eq (tgt := 43) hx hb dX4_isTaken_38 (by decide) (fun c15 => ?_) (fun c15 => ?_)
        · replace hf := it_t c15 hf
          refine lv_goto (tgt := 8) hx hb dX4_isTaken_43 (by decide) ?_
          exact (ih) x0 x1 v8.2.1 (nc + v8.2.2.1) ls H locs (ce + v8.2.2.1) (sl + v8.2.2.2) o9 hB (by omega) hT (lv_sub (l' := [(0, .ref x0), (1, .ref x1)]) hl [1, 2] rfl) hf
        · replace hf := it_f c15 hf
          refine lv_iconst hx hb dX4_isTaken_41 kc_i1 ?_
          have hE9 := TL_e hT hf
          subst hE9
          exact bt_z S hr hlocks hB (by omega) nb1 dX4_isTaken_42
  have hT : TL out out 0 0 := TL_0
  rw [f_X4_isTaken] at hf
  refine lv_aload_n hx hb dX4_isTaken_0 rfl (lv_at hl 0 rfl) ?_
  obtain ⟨v1, hv1, hf⟩ := ob_s hf
  refine bg_X4_30 S hS hB (vR_s hv1) dX4_isTaken_1 ?_
  obtain ⟨g2, hf⟩ := gd_t hf
  obtain ⟨v3, hv3, hf⟩ := ob_s hf
  obtain ⟨o4, hf, hT⟩ := TL_c hT hf
  refine mc_X4_123 (fE := fE) (lE := lE) S hS hB g2 hv3 hl.1 ⟨(by show _ ≤ (fE + 4); omega), (by show _ ≤ (lE + 85); omega)⟩ (Nat.le_of_ble_eq_true rfl) ⟨(TL_m hT).1, (TL_m hT).2⟩ dX4_isTaken_4 (fun H locs _ hB => ?_)
  refine lv_astore_n (i := 1) (lv' := [(1, .ref v3.1), (0, .ref o)]) hx hb dX4_isTaken_7 rfl hl (by decide) rfl (fun ls hl => ?_)
  exact (w8 FU) o v3.1 v3.2.1 (nx + v3.2.2.1) ls H locs (0 + v3.2.2.1) (0 + v3.2.2.2) o4 hB (by omega) hT (lv_sub (l' := [(0, .ref o), (1, .ref v3.1)]) hl [1, 0] rfl) hf
set_option maxRecDepth 100000 in
theorem mc_X4_146 {o : Nat} {out : Int32 × AH × Nat × Nat} (S : CallFix p m c cc nL s args lw_all RX4) (hS : SK G E.1 hSites A s) (hB : BI G A s.heap h nx H locs) (ho : isO h o 3 = true) (hf : f_X4_isTaken E h nx o = some out) (hsz : ls.size = nL) (hR : (fE + 4) + 1 ≤ R.frames ∧ 8 + (3 + 11) + (lE + 85) ≤ R.locals) (hW : (rest.map fun v => v.category).sum ≤ 8) (hcs : cells + out.2.2.1 ≤ R.cells ∧ slots + out.2.2.2 ≤ R.slots) (hdg : decode cc pc = .ok (.invokevirtual 146, 3))  (kk : ∀ (H1 : Heap) (locs1 : List Loc), (narrow .boolean (.int out.1) = .int out.1) → BI G A s.heap out.2.1 (nx + out.2.2.1) H1 locs1 → W p l e R s m args below meth c H1 locs1 (cells + out.2.2.1) (slots + out.2.2.2) Q (F0 m (pc + 3) ls (.int out.1 :: rest))) : W p l e R s m args below meth c H locs cells slots Q (F0 m pc ls (.ref o :: rest)) := by
  have hN := hS.2.1
  obtain ⟨fs, he⟩ := isO_s ho
  exact br_w (va_runV (As := []) S (mm_X4_isTaken (l := l) (G := G) (fE := fE) (lE := lE) hf) (cwV 0 S.2.2.2.2 (lw_V q973 q975 qs24 q190 q976) rfl rfl rfl hd_X4_isTaken hR) (bPreV hS hB (ci := 3) rfl he) rfl rfl hsz rfl (lv_room hW) hdg hcs) hB kk
theorem hd_X4_fresh : yX4_fresh.cls = RX4 ∧ yX4_fresh.cls ≠ "java/lang/invoke/MethodHandle" ∧ yX4_fresh.cls ≠ "java/lang/invoke/VarHandle" ∧ (parseMethodDescriptor yX4_fresh.desc).map (fun d => d.parameters.length) = some 0 := by decide +kernel
set_option maxHeartbeats 4000000 in
set_option maxRecDepth 100000 in
theorem mm_X4_fresh {o : Nat} {out : (Nat ⊕ Nat) × AH × Nat × Nat} (hf : f_X4_fresh E h nx o = some out) : wx_Met l yX4_fresh (ws_ yX4_fresh cX4_fresh 2 (some (.object "java/lang/String"))) (rC (fE + 7) (lE + 252) out.2.2.1 out.2.2.2) (bPc G E.1 hSites h nx [.ref o]) (xQ G out.1 (fun r => some (.ref r)) out.2.1 (nx + out.2.2.1) (AA h nx)) (xX G out.1 out.2.1 (nx + out.2.2.1) (AA h nx)) out.2.2.1 out.2.2.2 (AA h nx) := by
  refine bGoX (by decide +kernel) (Nat.le_of_ble_eq_true rfl) (fun p e s m below meth c ls S hr hlocks hin hnm hem hS hB hl => ?_)
  have S : CallFix p m c cX4_fresh 2 s _ lw_all RX4 := S
  obtain ⟨hx, hb, hml, hown, hts⟩ := id S
  have hl : lv_has ls 2 [(0, .ref o)] := hl
  have w22 : ∀ (x0 : Nat) (y0 : Nat) (y1 : Int32) (hc : AH) (nc : Nat) (ls : Array Slot) (H : Heap) (locs : List Loc) (ce sl : Nat) (o1 : (Nat ⊕ Nat) × AH × Nat × Nat), BI G (AA h nx) s.heap hc nc H locs → nc = nx + ce → TL out o1 ce sl → lv_has ls 2 [(0, .ref x0)] → f_X4_fresh_22 E x0 y0 y1 hc nc = some o1 → W p l e (rC (fE + 7) (lE + 252) out.2.2.1 out.2.2.2) s m ([.ref o] : List Value).toArray below meth c H locs ce sl (wx_MQ below (xQ G out.1 (fun r => some (.ref r)) out.2.1 (nx + out.2.2.1) (AA h nx)) (xX G out.1 out.2.1 (nx + out.2.2.1) (AA h nx)) ([.ref o] : List Value).toArray s out.2.2.1 out.2.2.2 (AA h nx)) (F0 m 22 ls [.int y1, .ref y0]) := by
    intro x0 y0 y1 hc nc ls H locs ce sl o1 hB hn hT hl hf
    rw [f_X4_fresh_22] at hf
    refine lv_iconst hx hb dX4_fresh_22 kc_i4 ?_
    obtain ⟨g1, hf⟩ := gd_t hf
    obtain ⟨v2, hv2, hf⟩ := ob_s hf
    obtain ⟨o3, hf, hT⟩ := TL_c hT hf
    refine mc_X4_107 (fE := fE) (lE := lE) S hS hB g1 hv2 hl.1 ⟨(by show _ ≤ (fE + 7); omega), (by show _ ≤ (lE + 252); omega)⟩ (Nat.le_of_ble_eq_true rfl) ⟨(TL_m hT).1, (TL_m hT).2⟩ dX4_fresh_23 (fun H locs ax hax hix hB => ?_) (fun H locs r4 hrx hB => ?_)
    · replace hf := sc_l hax hf
      have hE9 := TL_e hT hf
      subst hE9
      exact xt_out hS hem hlocks hB (by omega) hix
    · replace hf := sc_r hrx hf
      refine lv_aload_n hx hb dX4_fresh_26 rfl (lv_at hl 0 rfl) ?_
      obtain ⟨v5, hv5, hf⟩ := ob_s hf
      refine bg_X4_17 S hS hB (vR_s hv5) dX4_fresh_27 ?_
      refine lv_astore_n (i := 1) (lv' := [(1, .ref v5), (0, .ref x0)]) hx hb dX4_fresh_30 rfl hl (by decide) rfl (fun ls hl => ?_)
      refine lv_aload_n hx hb dX4_fresh_31 rfl (lv_at hl 1 rfl) ?_
      obtain ⟨g6, hf⟩ := gd_t hf
      obtain ⟨v7, hv7, hf⟩ := ob_s hf
      obtain ⟨o8, hf, hT⟩ := TL_c hT hf
      refine mc_X4_46 (fE := fE) (lE := lE) S hS hB g6 hv7 hl.1 ⟨(by show _ ≤ (fE + 7); omega), (by show _ ≤ (lE + 252); omega)⟩ (Nat.le_of_ble_eq_true rfl) ⟨(TL_m hT).1, (TL_m hT).2⟩ dX4_fresh_32 (fun H locs _ hB => ?_)
      refine lv_aload_n hx hb dX4_fresh_35 rfl (lv_at hl 0 rfl) ?_
      have hE9 := TL_e hT hf
      subst hE9
      exact wx_ret (bt_a S hr (Or.inl ⟨_, rfl⟩) hlocks hB (by omega) trivial dX4_fresh_36)
  have hT : TL out out 0 0 := TL_0
  rw [f_X4_fresh] at hf
  refine lv_aload_n hx hb dX4_fresh_0 rfl (lv_at hl 0 rfl) ?_
  refine lv_aload_n hx hb dX4_fresh_1 rfl (lv_at hl 0 rfl) ?_
  obtain ⟨g1, hf⟩ := gd_t hf
  obtain ⟨v2, hv2, hf⟩ := ob_s hf
  refine mc_X4_143 (fE := fE) (lE := lE) S hS hB g1 hv2 hl.1 ⟨(by show _ ≤ (fE + 7); omega), (by show _ ≤ (lE + 252); omega)⟩ (Nat.le_of_ble_eq_true rfl) ⟨(TL_m hT).1, (TL_m hT).2⟩ dX4_fresh_2 (fun hnv2 => ?_)
  refine lv_iconst hx hb dX4_fresh_5 kc_i2 ?_
  obtain ⟨g3, hf⟩ := gd_t hf
  obtain ⟨v4, hv4, hf⟩ := ob_s hf
  obtain ⟨o5, hf, hT⟩ := TL_c hT hf
  refine mc_X4_107 (fE := fE) (lE := lE) S hS hB g3 hv4 hl.1 ⟨(by show _ ≤ (fE + 7); omega), (by show _ ≤ (lE + 252); omega)⟩ (Nat.le_of_ble_eq_true rfl) ⟨(TL_m hT).1, (TL_m hT).2⟩ dX4_fresh_6 (fun H locs ax hax hix hB => ?_) (fun H locs r6 hrx hB => ?_)
  · replace hf := sc_l hax hf
    have hE9 := TL_e hT hf
    subst hE9
    exact xt_out hS hem hlocks hB (by omega) hix
  · replace hf := sc_r hrx hf
    refine lv_aload_n hx hb dX4_fresh_9 rfl (lv_at hl 0 rfl) ?_
    refine lv_aload_n hx hb dX4_fresh_10 rfl (lv_at hl 0 rfl) ?_
    obtain ⟨g7, hf⟩ := gd_t hf
    obtain ⟨v8, hv8, hf⟩ := ob_s hf
    obtain ⟨o9, hf, hT⟩ := TL_c hT hf
    refine mc_X4_146 (fE := fE) (lE := lE) S hS hB g7 hv8 hl.1 ⟨(by show _ ≤ (fE + 7); omega), (by show _ ≤ (lE + 252); omega)⟩ (Nat.le_of_ble_eq_true rfl) ⟨(TL_m hT).1, (TL_m hT).2⟩ dX4_fresh_11 (fun H locs hnv8 hB => ?_)
    refine lv_if_ne (tgt := 21) hx hb dX4_fresh_14 (by decide) (fun c10 => ?_) (fun c10 => ?_)
    · replace hf := it_f c10 hf
      refine lv_iconst hx hb dX4_fresh_21 kc_i0 ?_
      exact (w22) o o 0 v8.2.1 ((nx + v4.2.2.1) + v8.2.2.1) ls H locs ((0 + v4.2.2.1) + v8.2.2.1) ((0 + v4.2.2.2) + v8.2.2.2) o9 hB (by omega) hT hl hf
    · replace hf := it_t c10 hf
      refine lv_iconst hx hb dX4_fresh_17 kc_i1 ?_
      refine lv_goto (tgt := 22) hx hb dX4_fresh_18 (by decide) ?_
      exact (w22) o o 1 v8.2.1 ((nx + v4.2.2.1) + v8.2.2.1) ls H locs ((0 + v4.2.2.1) + v8.2.2.1) ((0 + v4.2.2.2) + v8.2.2.2) o9 hB (by omega) hT hl hf
set_option maxRecDepth 100000 in
theorem mc_X4_149 {o : Nat} {out : (Nat ⊕ Nat) × AH × Nat × Nat} (S : CallFix p m c cc nL s args lw_all RX4) (hS : SK G E.1 hSites A s) (hB : BI G A s.heap h nx H locs) (ho : isO h o 3 = true) (hf : f_X4_fresh E h nx o = some out) (hsz : ls.size = nL) (hR : (fE + 7) + 1 ≤ R.frames ∧ 8 + (2 + 11) + (lE + 252) ≤ R.locals) (hW : (rest.map fun v => v.category).sum ≤ 8) (hcs : cells + out.2.2.1 ≤ R.cells ∧ slots + out.2.2.2 ≤ R.slots) (hdg : decode cc pc = .ok (.invokevirtual 149, 3))  (kx : ∀ (H1 : Heap) (locs1 : List Loc) (a : Nat), out.1 = .inl a → isO out.2.1 a 4 = true → BI G A s.heap out.2.1 (nx + out.2.2.1) H1 locs1 → wx_W p l e R s m args below meth c H1 locs1 (cells + out.2.2.1) (slots + out.2.2.2) Q (F0 m pc ls rest) a) (kk : ∀ (H1 : Heap) (locs1 : List Loc) (r : Nat), out.1 = .inr r → BI G A s.heap out.2.1 (nx + out.2.2.1) H1 locs1 → W p l e R s m args below meth c H1 locs1 (cells + out.2.2.1) (slots + out.2.2.2) Q (F0 m (pc + 3) ls (.ref r :: rest))) : W p l e R s m args below meth c H locs cells slots Q (F0 m pc ls (.ref o :: rest)) := by
  have hN := hS.2.1
  obtain ⟨fs, he⟩ := isO_s ho
  exact br_x (wx_runV (As := []) S (mm_X4_fresh (l := l) (G := G) (fE := fE) (lE := lE) hf) (cwV 0 S.2.2.2.2 (lw_V q961 q963 qs22 q190 q964) rfl rfl rfl hd_X4_fresh hR) (bPreV hS hB (ci := 3) rfl he) rfl rfl hsz rfl (lv_room hW) hdg hcs) hB kx kk
theorem hd_X4_isLivedIn : yX4_isLivedIn.cls = RX4 ∧ yX4_isLivedIn.cls ≠ "java/lang/invoke/MethodHandle" ∧ yX4_isLivedIn.cls ≠ "java/lang/invoke/VarHandle" ∧ (parseMethodDescriptor yX4_isLivedIn.desc).map (fun d => d.parameters.length) = some 1 := by decide +kernel
set_option maxHeartbeats 4000000 in
set_option maxRecDepth 100000 in
theorem mm_X4_isLivedIn {o : Nat} {a0 : Int32} {out : Int32} (hf : f_X4_isLivedIn E h o a0 = some out) : Met l yX4_isLivedIn (ws_ yX4_isLivedIn cX4_isLivedIn 3 (some .boolean)) (rM (fE + 1) (lE + 20)) (bPc G E.1 hSites h nx [.ref o, .int a0]) (gR (some (.int out)) (narrow .boolean (.int out) = .int out)) 0 0 (fun _ => False) := by
  refine bGo (by decide +kernel) (Nat.le_of_ble_eq_true rfl) (fun p e s m below meth c ls S hr hlocks hin hnm hS hB hl => ?_)
  have S : CallFix p m c cX4_isLivedIn 3 s _ lw_all RX4 := S
  obtain ⟨hx, hb, hml, hown, hts⟩ := id S
  have hl : lv_has ls 3 [(0, .ref o), (1, .int a0)] := hl
  have w2 : ∀ (n : Nat) , ∀ (x0 : Nat) (x1 : Int32) (x2 : Int32) (ls : Array Slot), lv_has ls 3 [(0, .ref x0), (1, .int x1), (2, .int x2)] → f_X4_isLivedIn_2 n E h x0 x1 x2 = some out → W p l e (rM (fE + 1) (lE + 20)) s m ([.ref o, .int a0] : List Value).toArray below meth c s.heap [] 0 0 (MQ below (gR (some (.int out)) (narrow .boolean (.int out) = .int out)) ([.ref o, .int a0] : List Value).toArray s 0 0 (fun _ => False)) (F0 m 2 ls []) := by
    intro n
    induction n with
    | zero =>
      intro x0 x1 x2 ls hl hf
      exact absurd hf (by rw [f_X4_isLivedIn_2]; exact nofun)
    | succ n ih =>
      intro x0 x1 x2 ls hl hf
      rw [f_X4_isLivedIn_2] at hf
      refine lv_iload_n hx hb dX4_isLivedIn_2 rfl (lv_at hl 2 rfl) ?_
      refine lv_aload_n hx hb dX4_isLivedIn_3 rfl (lv_at hl 0 rfl) ?_
      obtain ⟨v1, hv1, hf⟩ := ob_s hf
      refine bg_X4_30 S hS hB (vR_s hv1) dX4_isLivedIn_4 ?_
      obtain ⟨g2, hf⟩ := gd_t hf
      obtain ⟨v3, hv3, hf⟩ := ob_s hf
      refine mc_X4_111 (fE := fE) (lE := lE) S hS hB g2 hv3 hl.1 ⟨(by show _ ≤ (fE + 1); omega), (by show _ ≤ (lE + 20); omega)⟩ (Nat.le_of_ble_eq_true rfl) ⟨Nat.zero_le _, Nat.zero_le _⟩ dX4_isLivedIn_7 (fun _ => ?_)
      refine lv_icmp_ge (tgt := 34) hx hb dX4_isLivedIn_10 (by decide) (fun c4 => ?_) (fun c4 => ?_)
      · replace hf := it_t c4 hf
        refine lv_iconst hx hb dX4_isLivedIn_34 kc_i0 ?_
        have hE9 := Option.some.inj hf
        subst hE9
        exact gt_rz S hr hlocks nb0 dX4_isLivedIn_35
      · replace hf := it_f c4 hf
        refine lv_aload_n hx hb dX4_isLivedIn_13 rfl (lv_at hl 0 rfl) ?_
        obtain ⟨v5, hv5, hf⟩ := ob_s hf
        refine bg_X4_38 S hS hB (vR_s hv5) dX4_isLivedIn_14 ?_
        obtain ⟨v6, hv6, hf⟩ := ob_s hf
        refine bg_X4_162 S hS hB (vR_s hv6) dX4_isLivedIn_17 ?_
        refine lv_iload_n hx hb dX4_isLivedIn_20 rfl (lv_at hl 2 rfl) ?_
        obtain ⟨v7, hv7, hf⟩ := ob_s hf
        refine b_iald S hS.1 hB hv7 dX4_isLivedIn_21 ?_
        refine lv_iload_n hx hb dX4_isLivedIn_22 rfl (lv_at hl 1 rfl) ?_
        refine lv_icmp_ne (tgt := 28) hx hb dX4_isLivedIn_23 (by decide) (fun c8 => ?_) (fun c8 => ?_)
        · replace hf := it_f c8 hf
          refine lv_iinc (v := (x2 + 1)) (lv' := [(2, .int (x2 + 1)), (0, .ref x0), (1, .int x1)]) hx hb dX4_isLivedIn_28 hl (k := 2) rfl rfl (by decide) rfl (fun ls hl => ?_)
          refine lv_goto (tgt := 2) hx hb dX4_isLivedIn_31 (by decide) ?_
          exact (ih) x0 x1 (x2 + 1) ls (lv_sub (l' := [(0, .ref x0), (1, .int x1), (2, .int (x2 + 1))]) hl [1, 2, 0] rfl) hf
        · replace hf := it_t c8 hf
          refine lv_iconst hx hb dX4_isLivedIn_26 kc_i1 ?_
          have hE9 := Option.some.inj hf
          subst hE9
          exact gt_rz S hr hlocks nb1 dX4_isLivedIn_27
  rw [f_X4_isLivedIn] at hf
  refine lv_iconst hx hb dX4_isLivedIn_0 kc_i0 ?_
  refine lv_istore_n (i := 2) (lv' := [(2, .int 0), (0, .ref o), (1, .int a0)]) hx hb dX4_isLivedIn_1 rfl hl (by decide) rfl (fun ls hl => ?_)
  exact (w2 FU) o a0 0 ls (lv_sub (l' := [(0, .ref o), (1, .int a0), (2, .int 0)]) hl [1, 2, 0] rfl) hf
set_option maxRecDepth 100000 in
theorem mc_X4_172 {o : Nat} {a0 : Int32} {out : Int32} (S : CallFix p m c cc nL s args lw_all RX4) (hS : SK G E.1 hSites A s) (hB : BI G A s.heap h nx H locs) (ho : isO h o 3 = true) (hf : f_X4_isLivedIn E h o a0 = some out) (hsz : ls.size = nL) (hR : (fE + 1) + 1 ≤ R.frames ∧ 8 + (3 + 11) + (lE + 20) ≤ R.locals) (hW : (rest.map fun v => v.category).sum ≤ 8) (hcs : cells ≤ R.cells ∧ slots ≤ R.slots) (hdg : decode cc pc = .ok (.invokevirtual 172, 3))  (kk : (narrow .boolean (.int out) = .int out) → W p l e R s m args below meth c H locs cells slots Q (F0 m (pc + 3) ls (.int out :: rest))) : W p l e R s m args below meth c H locs cells slots Q (F0 m pc ls (.int a0 :: .ref o :: rest)) := by
  have hN := hS.2.1
  obtain ⟨fs, he⟩ := isO_s ho
  exact br_r (va_runV (As := [.int a0]) S (mm_X4_isLivedIn (l := l) (G := G) (nx := nx) (fE := fE) (lE := lE) hf) (cwV 1 S.2.2.2.2 (lw_V q1132 q1134 qs31 q190 q1135) rfl rfl rfl hd_X4_isLivedIn hR) (bPreV hS hB (ci := 3) rfl he) rfl rfl hsz rfl (lv_room hW) hdg hcs) kk
theorem hd_X4_houseLine : yX4_houseLine.cls = RX4 ∧ yX4_houseLine.cls ≠ "java/lang/invoke/MethodHandle" ∧ yX4_houseLine.cls ≠ "java/lang/invoke/VarHandle" ∧ (parseMethodDescriptor yX4_houseLine.desc).map (fun d => d.parameters.length) = some 0 := by decide +kernel
set_option maxHeartbeats 4000000 in
set_option maxRecDepth 100000 in
theorem mm_X4_houseLine {o : Nat} {out : (Nat ⊕ Unit) × AH × Nat × Nat} (hf : f_X4_houseLine E h nx o = some out) : wx_Met l yX4_houseLine (ws_ yX4_houseLine cX4_houseLine 5 none) (rC (fE + 8) (lE + 275) out.2.2.1 out.2.2.2) (bPc G E.1 hSites h nx [.ref o]) (xQ G out.1 (fun _ => none) out.2.1 (nx + out.2.2.1) (AA h nx)) (xX G out.1 out.2.1 (nx + out.2.2.1) (AA h nx)) out.2.2.1 out.2.2.2 (AA h nx) := by
  refine bGoX (by decide +kernel) (Nat.le_of_ble_eq_true rfl) (fun p e s m below meth c ls S hr hlocks hin hnm hem hS hB hl => ?_)
  have S : CallFix p m c cX4_houseLine 5 s _ lw_all RX4 := S
  obtain ⟨hx, hb, hml, hown, hts⟩ := id S
  have hl : lv_has ls 5 [(0, .ref o)] := hl
  have w128 : ∀ (k149 : Nat → Nat → Int32 → Nat → AH → Nat → Option ((Nat ⊕ Unit) × AH × Nat × Nat)), (∀ (b0 : Nat) (b1 : Nat) (b2 : Int32) (b3 : Nat) (b4 : AH) (b5 : Nat) (ls : Array Slot) (H : Heap) (locs : List Loc) (ce sl : Nat) (o1 : (Nat ⊕ Unit) × AH × Nat × Nat), BI G (AA h nx) s.heap b4 b5 H locs → b5 = nx + ce → TL out o1 ce sl → lv_has ls 5 [(0, .ref b0), (1, .ref b1), (2, .int b2), (3, .ref b3)] → k149 b0 b1 b2 b3 b4 b5 = some o1 → W p l e (rC (fE + 8) (lE + 275) out.2.2.1 out.2.2.2) s m ([.ref o] : List Value).toArray below meth c H locs ce sl (wx_MQ below (xQ G out.1 (fun _ => none) out.2.1 (nx + out.2.2.1) (AA h nx)) (xX G out.1 out.2.1 (nx + out.2.2.1) (AA h nx)) ([.ref o] : List Value).toArray s out.2.2.1 out.2.2.2 (AA h nx)) (F0 m 149 ls [])) → ∀ (x0 : Nat) (x1 : Nat) (x2 : Int32) (x3 : Nat) (y0 : Nat) (y1 : Int32) (hc : AH) (nc : Nat) (ls : Array Slot) (H : Heap) (locs : List Loc) (ce sl : Nat) (o1 : (Nat ⊕ Unit) × AH × Nat × Nat), BI G (AA h nx) s.heap hc nc H locs → nc = nx + ce → TL out o1 ce sl → lv_has ls 5 [(0, .ref x0), (1, .ref x1), (2, .int x2), (3, .ref x3)] → f_X4_houseLine_128 k149 E x0 x1 x2 x3 y0 y1 hc nc = some o1 → W p l e (rC (fE + 8) (lE + 275) out.2.2.1 out.2.2.2) s m ([.ref o] : List Value).toArray below meth c H locs ce sl (wx_MQ below (xQ G out.1 (fun _ => none) out.2.1 (nx + out.2.2.1) (AA h nx)) (xX G out.1 out.2.1 (nx + out.2.2.1) (AA h nx)) ([.ref o] : List Value).toArray s out.2.2.1 out.2.2.2 (AA h nx)) (F0 m 128 ls [.int y1, .ref y0]) := by
    intro k149 hk149 x0 x1 x2 x3 y0 y1 hc nc ls H locs ce sl o1 hB hn hT hl hf
    rw [f_X4_houseLine_128] at hf
    refine lv_iconst hx hb dX4_houseLine_128 kc_i4 ?_
    obtain ⟨g1, hf⟩ := gd_t hf
    obtain ⟨v2, hv2, hf⟩ := ob_s hf
    obtain ⟨o3, hf, hT⟩ := TL_c hT hf
    refine mc_X4_107 (fE := fE) (lE := lE) S hS hB g1 hv2 hl.1 ⟨(by show _ ≤ (fE + 8); omega), (by show _ ≤ (lE + 275); omega)⟩ (Nat.le_of_ble_eq_true rfl) ⟨(TL_m hT).1, (TL_m hT).2⟩ dX4_houseLine_129 (fun H locs ax hax hix hB => ?_) (fun H locs r4 hrx hB => ?_)
    · replace hf := sc_l hax hf
      have hE9 := TL_e hT hf
      subst hE9
      exact xt_out hS hem hlocks hB (by omega) hix
    · replace hf := sc_r hrx hf
      refine lv_aload_n hx hb dX4_houseLine_132 rfl (lv_at hl 0 rfl) ?_
      obtain ⟨v5, hv5, hf⟩ := ob_s hf
      refine bg_X4_38 S hS hB (vR_s hv5) dX4_houseLine_133 ?_
      obtain ⟨v6, hv6, hf⟩ := ob_s hf
      refine bg_X4_162 S hS hB (vR_s hv6) dX4_houseLine_136 ?_
      refine lv_iload_n hx hb dX4_houseLine_139 rfl (lv_at hl 2 rfl) ?_
      refine lv_aload_n hx hb dX4_houseLine_140 rfl (lv_at hl 0 rfl) ?_
      obtain ⟨g7, hf⟩ := gd_t hf
      obtain ⟨v8, hv8, hf⟩ := ob_s hf
      refine mc_X4_140 (fE := fE) (lE := lE) S hS hB g7 hv8 hl.1 ⟨(by show _ ≤ (fE + 8); omega), (by show _ ≤ (lE + 275); omega)⟩ (Nat.le_of_ble_eq_true rfl) ⟨(TL_m hT).1, (TL_m hT).2⟩ dX4_houseLine_141 (fun _ => ?_)
      obtain ⟨h9, hh9, hf⟩ := ob_s hf
      refine b_iast S hS.1 hB hh9 dX4_houseLine_144 (fun H locs hB => ?_)
      refine lv_aload_n hx hb dX4_houseLine_145 rfl (lv_at hl 0 rfl) ?_
      obtain ⟨g10, hf⟩ := gd_t hf
      obtain ⟨v11, hv11, hf⟩ := ob_s hf
      obtain ⟨o12, hf, hT⟩ := TL_c hT hf
      refine mc_X4_46 (fE := fE) (lE := lE) S hS hB g10 hv11 hl.1 ⟨(by show _ ≤ (fE + 8); omega), (by show _ ≤ (lE + 275); omega)⟩ (Nat.le_of_ble_eq_true rfl) ⟨(TL_m hT).1, (TL_m hT).2⟩ dX4_houseLine_146 (fun H locs _ hB => ?_)
      exact hk149 x0 x1 x2 x3 v11.2.1 ((nc + v2.2.2.1) + v11.2.2.1) ls H locs ((ce + v2.2.2.1) + v11.2.2.1) ((sl + v2.2.2.2) + v11.2.2.2) o12 hB (by omega) hT hl hf
  have w210 : ∀ (k149 : Nat → Nat → Int32 → Nat → AH → Nat → Option ((Nat ⊕ Unit) × AH × Nat × Nat)), (∀ (b0 : Nat) (b1 : Nat) (b2 : Int32) (b3 : Nat) (b4 : AH) (b5 : Nat) (ls : Array Slot) (H : Heap) (locs : List Loc) (ce sl : Nat) (o1 : (Nat ⊕ Unit) × AH × Nat × Nat), BI G (AA h nx) s.heap b4 b5 H locs → b5 = nx + ce → TL out o1 ce sl → lv_has ls 5 [(0, .ref b0), (1, .ref b1), (2, .int b2), (3, .ref b3)] → k149 b0 b1 b2 b3 b4 b5 = some o1 → W p l e (rC (fE + 8) (lE + 275) out.2.2.1 out.2.2.2) s m ([.ref o] : List Value).toArray below meth c H locs ce sl (wx_MQ below (xQ G out.1 (fun _ => none) out.2.1 (nx + out.2.2.1) (AA h nx)) (xX G out.1 out.2.1 (nx + out.2.2.1) (AA h nx)) ([.ref o] : List Value).toArray s out.2.2.1 out.2.2.2 (AA h nx)) (F0 m 149 ls [])) → ∀ (x0 : Nat) (x1 : Nat) (x2 : Int32) (x3 : Nat) (x4 : Int32) (y0 : Nat) (y1 : Int32) (hc : AH) (nc : Nat) (ls : Array Slot) (H : Heap) (locs : List Loc) (ce sl : Nat) (o1 : (Nat ⊕ Unit) × AH × Nat × Nat), BI G (AA h nx) s.heap hc nc H locs → nc = nx + ce → TL out o1 ce sl → lv_has ls 5 [(0, .ref x0), (1, .ref x1), (2, .int x2), (3, .ref x3), (4, .int x4)] → f_X4_houseLine_210 k149 E x0 x1 x2 x3 x4 y0 y1 hc nc = some o1 → W p l e (rC (fE + 8) (lE + 275) out.2.2.1 out.2.2.2) s m ([.ref o] : List Value).toArray below meth c H locs ce sl (wx_MQ below (xQ G out.1 (fun _ => none) out.2.1 (nx + out.2.2.1) (AA h nx)) (xX G out.1 out.2.1 (nx + out.2.2.1) (AA h nx)) ([.ref o] : List Value).toArray s out.2.2.1 out.2.2.2 (AA h nx)) (F0 m 210 ls [.int y1, .ref y0]) := by
    intro k149 hk149 x0 x1 x2 x3 x4 y0 y1 hc nc ls H locs ce sl o1 hB hn hT hl hf
    rw [f_X4_houseLine_210] at hf
    refine lv_iconst hx hb dX4_houseLine_210 kc_i5 ?_
    obtain ⟨g1, hf⟩ := gd_t hf
    obtain ⟨v2, hv2, hf⟩ := ob_s hf
    obtain ⟨o3, hf, hT⟩ := TL_c hT hf
    refine mc_X4_107 (fE := fE) (lE := lE) S hS hB g1 hv2 hl.1 ⟨(by show _ ≤ (fE + 8); omega), (by show _ ≤ (lE + 275); omega)⟩ (Nat.le_of_ble_eq_true rfl) ⟨(TL_m hT).1, (TL_m hT).2⟩ dX4_houseLine_211 (fun H locs ax hax hix hB => ?_) (fun H locs r4 hrx hB => ?_)
    · replace hf := sc_l hax hf
      have hE9 := TL_e hT hf
      subst hE9
      exact xt_out hS hem hlocks hB (by omega) hix
    · replace hf := sc_r hrx hf
      refine lv_aload_n hx hb dX4_houseLine_214 rfl (lv_at hl 0 rfl) ?_
      obtain ⟨v5, hv5, hf⟩ := ob_s hf
      refine bg_X4_38 S hS hB (vR_s hv5) dX4_houseLine_215 ?_
      obtain ⟨v6, hv6, hf⟩ := ob_s hf
      refine bg_X4_183 S hS hB (vR_s hv6) dX4_houseLine_218 ?_
      refine lv_bipush hx hb dX4_houseLine_221 kc_b6 ?_
      refine lv_iload_n hx hb dX4_houseLine_223 rfl (lv_at hl 2 rfl) ?_
      refine lv_imul hx hb dX4_houseLine_224 ?_
      refine lv_aload_n hx hb dX4_houseLine_225 rfl (lv_at hl 0 rfl) ?_
      obtain ⟨v7, hv7, hf⟩ := ob_s hf
      refine bg_X4_38 S hS hB (vR_s hv7) dX4_houseLine_226 ?_
      obtain ⟨v8, hv8, hf⟩ := ob_s hf
      refine bg_X4_180 S hS hB (vR_s hv8) dX4_houseLine_229 ?_
      refine lv_iload_n hx hb dX4_houseLine_232 rfl (lv_at hl 2 rfl) ?_
      obtain ⟨v9, hv9, hf⟩ := ob_s hf
      refine b_iald S hS.1 hB hv9 dX4_houseLine_233 ?_
      refine lv_iadd hx hb dX4_houseLine_234 ?_
      refine lv_iload hx hb dX4_houseLine_235 (lv_at hl 4 rfl) ?_
      obtain ⟨h10, hh10, hf⟩ := ob_s hf
      refine b_iast S hS.1 hB hh10 dX4_houseLine_237 (fun H locs hB => ?_)
      refine lv_aload_n hx hb dX4_houseLine_238 rfl (lv_at hl 0 rfl) ?_
      obtain ⟨v11, hv11, hf⟩ := ob_s hf
      refine bg_X4_38 S hS hB (vR_s hv11) dX4_houseLine_239 ?_
      obtain ⟨v12, hv12, hf⟩ := ob_s hf
      refine bg_X4_180 S hS hB (vR_s hv12) dX4_houseLine_242 ?_
      refine lv_iload_n hx hb dX4_houseLine_245 rfl (lv_at hl 2 rfl) ?_
      refine lv_dup2_11 hx hb dX4_houseLine_246 rfl rfl ?_
      obtain ⟨v13, hv13, hf⟩ := ob_s hf
      refine b_iald S hS.1 hB hv13 dX4_houseLine_247 ?_
      refine lv_iconst hx hb dX4_houseLine_248 kc_i1 ?_
      refine lv_iadd hx hb dX4_houseLine_249 ?_
      obtain ⟨h14, hh14, hf⟩ := ob_s hf
      refine b_iast S hS.1 hB hh14 dX4_houseLine_250 (fun H locs hB => ?_)
      refine lv_aload_n hx hb dX4_houseLine_251 rfl (lv_at hl 0 rfl) ?_
      obtain ⟨g15, hf⟩ := gd_t hf
      obtain ⟨v16, hv16, hf⟩ := ob_s hf
      obtain ⟨o17, hf, hT⟩ := TL_c hT hf
      refine mc_X4_46 (fE := fE) (lE := lE) S hS hB g15 hv16 hl.1 ⟨(by show _ ≤ (fE + 8); omega), (by show _ ≤ (lE + 275); omega)⟩ (Nat.le_of_ble_eq_true rfl) ⟨(TL_m hT).1, (TL_m hT).2⟩ dX4_houseLine_252 (fun H locs _ hB => ?_)
      refine lv_goto (tgt := 149) hx hb dX4_houseLine_255 (by decide) ?_
      exact hk149 x0 x1 x2 x3 v16.2.1 ((nc + v2.2.2.1) + v16.2.2.1) ls H locs ((ce + v2.2.2.1) + v16.2.2.1) ((sl + v2.2.2.2) + v16.2.2.2) o17 hB (by omega) hT (lv_sub (l' := [(0, .ref x0), (1, .ref x1), (2, .int x2), (3, .ref x3)]) hl [0, 1, 2, 3] rfl) hf
  have w186 : ∀ (k149 : Nat → Nat → Int32 → Nat → AH → Nat → Option ((Nat ⊕ Unit) × AH × Nat × Nat)), (∀ (b0 : Nat) (b1 : Nat) (b2 : Int32) (b3 : Nat) (b4 : AH) (b5 : Nat) (ls : Array Slot) (H : Heap) (locs : List Loc) (ce sl : Nat) (o1 : (Nat ⊕ Unit) × AH × Nat × Nat), BI G (AA h nx) s.heap b4 b5 H locs → b5 = nx + ce → TL out o1 ce sl → lv_has ls 5 [(0, .ref b0), (1, .ref b1), (2, .int b2), (3, .ref b3)] → k149 b0 b1 b2 b3 b4 b5 = some o1 → W p l e (rC (fE + 8) (lE + 275) out.2.2.1 out.2.2.2) s m ([.ref o] : List Value).toArray below meth c H locs ce sl (wx_MQ below (xQ G out.1 (fun _ => none) out.2.1 (nx + out.2.2.1) (AA h nx)) (xX G out.1 out.2.1 (nx + out.2.2.1) (AA h nx)) ([.ref o] : List Value).toArray s out.2.2.1 out.2.2.2 (AA h nx)) (F0 m 149 ls [])) → ∀ (x0 : Nat) (x1 : Nat) (x2 : Int32) (x3 : Nat) (x4 : Int32) (y0 : Nat) (y1 : Int32) (hc : AH) (nc : Nat) (ls : Array Slot) (H : Heap) (locs : List Loc) (ce sl : Nat) (o1 : (Nat ⊕ Unit) × AH × Nat × Nat), BI G (AA h nx) s.heap hc nc H locs → nc = nx + ce → TL out o1 ce sl → lv_has ls 5 [(0, .ref x0), (1, .ref x1), (2, .int x2), (3, .ref x3), (4, .int x4)] → f_X4_houseLine_186 k149 E x0 x1 x2 x3 x4 y0 y1 hc nc = some o1 → W p l e (rC (fE + 8) (lE + 275) out.2.2.1 out.2.2.2) s m ([.ref o] : List Value).toArray below meth c H locs ce sl (wx_MQ below (xQ G out.1 (fun _ => none) out.2.1 (nx + out.2.2.1) (AA h nx)) (xX G out.1 out.2.1 (nx + out.2.2.1) (AA h nx)) ([.ref o] : List Value).toArray s out.2.2.1 out.2.2.2 (AA h nx)) (F0 m 186 ls [.int y1, .ref y0]) := by
    intro k149 hk149 x0 x1 x2 x3 x4 y0 y1 hc nc ls H locs ce sl o1 hB hn hT hl hf
    rw [f_X4_houseLine_186] at hf
    refine lv_iconst hx hb dX4_houseLine_186 kc_i4 ?_
    obtain ⟨g1, hf⟩ := gd_t hf
    obtain ⟨v2, hv2, hf⟩ := ob_s hf
    obtain ⟨o3, hf, hT⟩ := TL_c hT hf
    refine mc_X4_107 (fE := fE) (lE := lE) S hS hB g1 hv2 hl.1 ⟨(by show _ ≤ (fE + 8); omega), (by show _ ≤ (lE + 275); omega)⟩ (Nat.le_of_ble_eq_true rfl) ⟨(TL_m hT).1, (TL_m hT).2⟩ dX4_houseLine_187 (fun H locs ax hax hix hB => ?_) (fun H locs r4 hrx hB => ?_)
    · replace hf := sc_l hax hf
      have hE9 := TL_e hT hf
      subst hE9
      exact xt_out hS hem hlocks hB (by omega) hix
    · replace hf := sc_r hrx hf
      refine lv_aload_n hx hb dX4_houseLine_190 rfl (lv_at hl 0 rfl) ?_
      refine lv_aload_n hx hb dX4_houseLine_191 rfl (lv_at hl 0 rfl) ?_
      obtain ⟨v5, hv5, hf⟩ := ob_s hf
      refine bg_X4_38 S hS hB (vR_s hv5) dX4_houseLine_192 ?_
      obtain ⟨v6, hv6, hf⟩ := ob_s hf
      refine bg_X4_180 S hS hB (vR_s hv6) dX4_houseLine_195 ?_
      refine lv_iload_n hx hb dX4_houseLine_198 rfl (lv_at hl 2 rfl) ?_
      obtain ⟨v7, hv7, hf⟩ := ob_s hf
      refine b_iald S hS.1 hB hv7 dX4_houseLine_199 ?_
      refine lv_bipush hx hb dX4_houseLine_200 kc_b6 ?_
      refine lv_icmp_ge (tgt := 209) hx hb dX4_houseLine_202 (by decide) (fun c8 => ?_) (fun c8 => ?_)
      · replace hf := it_t c8 hf
        refine lv_iconst hx hb dX4_houseLine_209 kc_i0 ?_
        exact (w210 k149 hk149) x0 x1 x2 x3 x4 x0 0 v2.2.1 (nc + v2.2.2.1) ls H locs (ce + v2.2.2.1) (sl + v2.2.2.2) o3 hB (by omega) hT hl hf
      · replace hf := it_f c8 hf
        refine lv_iconst hx hb dX4_houseLine_205 kc_i1 ?_
        refine lv_goto (tgt := 210) hx hb dX4_houseLine_206 (by decide) ?_
        exact (w210 k149 hk149) x0 x1 x2 x3 x4 x0 1 v2.2.1 (nc + v2.2.2.1) ls H locs (ce + v2.2.2.1) (sl + v2.2.2.2) o3 hB (by omega) hT hl hf
  have w149 : ∀ (n : Nat) , ∀ (x0 : Nat) (x1 : Nat) (x2 : Int32) (x3 : Nat) (hc : AH) (nc : Nat) (ls : Array Slot) (H : Heap) (locs : List Loc) (ce sl : Nat) (o1 : (Nat ⊕ Unit) × AH × Nat × Nat), BI G (AA h nx) s.heap hc nc H locs → nc = nx + ce → TL out o1 ce sl → lv_has ls 5 [(0, .ref x0), (1, .ref x1), (2, .int x2), (3, .ref x3)] → f_X4_houseLine_149 n E x0 x1 x2 x3 hc nc = some o1 → W p l e (rC (fE + 8) (lE + 275) out.2.2.1 out.2.2.2) s m ([.ref o] : List Value).toArray below meth c H locs ce sl (wx_MQ below (xQ G out.1 (fun _ => none) out.2.1 (nx + out.2.2.1) (AA h nx)) (xX G out.1 out.2.1 (nx + out.2.2.1) (AA h nx)) ([.ref o] : List Value).toArray s out.2.2.1 out.2.2.2 (AA h nx)) (F0 m 149 ls []) := by
    intro n
    induction n with
    | zero =>
      intro x0 x1 x2 x3 hc nc ls H locs ce sl o1 hB hn hT hl hf
      exact absurd hf (by rw [f_X4_houseLine_149]; exact nofun)
    | succ n ih =>
      intro x0 x1 x2 x3 hc nc ls H locs ce sl o1 hB hn hT hl hf
      rw [f_X4_houseLine_149] at hf
      refine lv_aload_n hx hb dX4_houseLine_149 rfl (lv_at hl 0 rfl) ?_
      obtain ⟨g1, hf⟩ := gd_t hf
      obtain ⟨v2, hv2, hf⟩ := ob_s hf
      refine mc_X4_143 (fE := fE) (lE := lE) S hS hB g1 hv2 hl.1 ⟨(by show _ ≤ (fE + 8); omega), (by show _ ≤ (lE + 275); omega)⟩ (Nat.le_of_ble_eq_true rfl) ⟨(TL_m hT).1, (TL_m hT).2⟩ dX4_houseLine_150 (fun hnv2 => ?_)
      refine lv_if_eq (tgt := 258) hx hb dX4_houseLine_153 (by decide) (fun c3 => ?_) (fun c3 => ?_)
      · replace hf := it_t c3 hf
        refine lv_aload_n hx hb dX4_houseLine_258 rfl (lv_at hl 0 rfl) ?_
        obtain ⟨v4, hv4, hf⟩ := ob_s hf
        refine bg_X4_38 S hS hB (vR_s hv4) dX4_houseLine_259 ?_
        obtain ⟨v5, hv5, hf⟩ := ob_s hf
        refine bg_X4_186 S hS hB (vR_s hv5) dX4_houseLine_262 ?_
        refine lv_iload_n hx hb dX4_houseLine_265 rfl (lv_at hl 2 rfl) ?_
        refine lv_aload_n hx hb dX4_houseLine_266 rfl (lv_at hl 3 rfl) ?_
        refine lv_iconst hx hb dX4_houseLine_267 kc_i1 ?_
        obtain ⟨v6, hv6, hf⟩ := ob_s hf
        refine b_iald S hS.1 hB hv6 dX4_houseLine_268 ?_
        obtain ⟨h7, hh7, hf⟩ := ob_s hf
        refine b_iast S hS.1 hB hh7 dX4_houseLine_269 (fun H locs hB => ?_)
        refine lv_aload_n hx hb dX4_houseLine_270 rfl (lv_at hl 0 rfl) ?_
        obtain ⟨v8, hv8, hf⟩ := ob_s hf
        refine bg_X4_30 S hS hB (vR_s hv8) dX4_houseLine_271 ?_
        obtain ⟨o9, hf, hT⟩ := TL_c hT hf
        refine bn_X4_137 S hS hB (TL_m hT).1 (TL_m hT).2 dX4_houseLine_274 (fun H hB => ?_)
        refine lv_dup hx hb dX4_houseLine_277 rfl ?_
        refine lv_aload_n hx hb dX4_houseLine_278 rfl (lv_at hl 1 rfl) ?_
        refine lv_aload_n hx hb dX4_houseLine_279 rfl (lv_at hl 3 rfl) ?_
        obtain ⟨v10, hv10, hf⟩ := ob_s hf
        obtain ⟨o11, hf, hT⟩ := TL_c hT hf
        refine mc_X4_188 (fE := fE) (lE := lE) S hS hB hv10 hl.1 ⟨(by show _ ≤ (fE + 8); omega), (by show _ ≤ (lE + 275); omega)⟩ (Nat.le_of_ble_eq_true rfl) ⟨(TL_m hT).1, (TL_m hT).2⟩ dX4_houseLine_280 (fun H locs _ hB => ?_)
        obtain ⟨g12, hf⟩ := gd_t hf
        obtain ⟨v13, hv13, hf⟩ := ob_s hf
        obtain ⟨o14, hf, hT⟩ := TL_c hT hf
        refine mc_X4_159 (fE := fE) (lE := lE) S hS hB g12 hv13 hl.1 ⟨(by show _ ≤ (fE + 8); omega), (by show _ ≤ (lE + 275); omega)⟩ (Nat.le_of_ble_eq_true rfl) ⟨(TL_m hT).1, (TL_m hT).2⟩ dX4_houseLine_283 (fun H locs hnv13 hB => ?_)
        refine lv_pop hx hb dX4_houseLine_286 rfl ?_
        have hE9 := TL_e hT hf
        subst hE9
        exact wx_ret (bt_v S hr hlocks hB (by omega) trivial dX4_houseLine_287)
      · replace hf := it_f c3 hf
        refine lv_aload_n hx hb dX4_houseLine_156 rfl (lv_at hl 0 rfl) ?_
        obtain ⟨g15, hf⟩ := gd_t hf
        obtain ⟨v16, hv16, hf⟩ := ob_s hf
        refine mc_X4_140 (fE := fE) (lE := lE) S hS hB g15 hv16 hl.1 ⟨(by show _ ≤ (fE + 8); omega), (by show _ ≤ (lE + 275); omega)⟩ (Nat.le_of_ble_eq_true rfl) ⟨(TL_m hT).1, (TL_m hT).2⟩ dX4_houseLine_157 (fun _ => ?_)
        refine lv_istore (lv' := [(4, .int v16), (0, .ref x0), (1, .ref x1), (2, .int x2), (3, .ref x3)]) hx hb dX4_houseLine_160 hl (by decide) rfl (fun ls hl => ?_)
        refine lv_aload_n hx hb dX4_houseLine_162 rfl (lv_at hl 1 rfl) ?_
        refine lv_iload hx hb dX4_houseLine_163 (lv_at hl 0 rfl) ?_
        refine lv_if_lt (tgt := 185) hx hb dX4_houseLine_165 (by decide) (fun c17 => ?_) (fun c17 => ?_)
        · replace hf := it_t c17 hf
          refine lv_iconst hx hb dX4_houseLine_185 kc_i0 ?_
          exact (w186 (f_X4_houseLine_149 n E) (ih)) x0 x1 x2 x3 v16 x0 0 hc nc ls H locs ce sl o1 hB (by omega) hT (lv_sub (l' := [(0, .ref x0), (1, .ref x1), (2, .int x2), (3, .ref x3), (4, .int v16)]) hl [1, 2, 3, 4, 0] rfl) hf
        · replace hf := it_f c17 hf
          refine lv_aload_n hx hb dX4_houseLine_168 rfl (lv_at hl 1 rfl) ?_
          obtain ⟨v18, hv18, hf⟩ := ob_s hf
          refine bg_X4_38 S hS hB (vR_s hv18) dX4_houseLine_169 ?_
          refine lv_iload_n hx hb dX4_houseLine_172 rfl (lv_at hl 3 rfl) ?_
          refine lv_iload hx hb dX4_houseLine_173 (lv_at hl 0 rfl) ?_
          obtain ⟨g19, hf⟩ := gd_t hf
          obtain ⟨v20, hv20, hf⟩ := ob_s hf
          refine mc_X4_176 (fE := fE) (lE := lE) S hS hB g19 hv20 hl.1 ⟨(by show _ ≤ (fE + 8); omega), (by show _ ≤ (lE + 275); omega)⟩ (Nat.le_of_ble_eq_true rfl) ⟨(TL_m hT).1, (TL_m hT).2⟩ dX4_houseLine_175 (fun hnv20 => ?_)
          refine lv_if_ne (tgt := 185) hx hb dX4_houseLine_178 (by decide) (fun c21 => ?_) (fun c21 => ?_)
          · replace hf := it_f c21 hf
            refine lv_iconst hx hb dX4_houseLine_185 kc_i0 ?_
            exact (w186 (f_X4_houseLine_149 n E) (ih)) x0 x1 x2 x3 v16 x0 0 hc nc ls H locs ce sl o1 hB (by omega) hT (lv_sub (l' := [(0, .ref x0), (1, .ref x1), (2, .int x2), (3, .ref x3), (4, .int v16)]) hl [1, 2, 3, 4, 0] rfl) hf
          · replace hf := it_t c21 hf
            refine lv_iconst hx hb dX4_houseLine_181 kc_i1 ?_
            refine lv_goto (tgt := 186) hx hb dX4_houseLine_182 (by decide) ?_
            exact (w186 (f_X4_houseLine_149 n E) (ih)) x0 x1 x2 x3 v16 x0 1 hc nc ls H locs ce sl o1 hB (by omega) hT (lv_sub (l' := [(0, .ref x0), (1, .ref x1), (2, .int x2), (3, .ref x3), (4, .int v16)]) hl [1, 2, 3, 4, 0] rfl) hf
  have w18 : ∀ (x0 : Nat) (y0 : Nat) (y1 : Int32) (hc : AH) (nc : Nat) (ls : Array Slot) (H : Heap) (locs : List Loc) (ce sl : Nat) (o1 : (Nat ⊕ Unit) × AH × Nat × Nat), BI G (AA h nx) s.heap hc nc H locs → nc = nx + ce → TL out o1 ce sl → lv_has ls 5 [(0, .ref x0)] → f_X4_houseLine_18 E x0 y0 y1 hc nc = some o1 → W p l e (rC (fE + 8) (lE + 275) out.2.2.1 out.2.2.2) s m ([.ref o] : List Value).toArray below meth c H locs ce sl (wx_MQ below (xQ G out.1 (fun _ => none) out.2.1 (nx + out.2.2.1) (AA h nx)) (xX G out.1 out.2.1 (nx + out.2.2.1) (AA h nx)) ([.ref o] : List Value).toArray s out.2.2.1 out.2.2.2 (AA h nx)) (F0 m 18 ls [.int y1, .ref y0]) := by
    intro x0 y0 y1 hc nc ls H locs ce sl o1 hB hn hT hl hf
    rw [f_X4_houseLine_18] at hf
    refine lv_iconst hx hb dX4_houseLine_18 kc_i5 ?_
    obtain ⟨g1, hf⟩ := gd_t hf
    obtain ⟨v2, hv2, hf⟩ := ob_s hf
    obtain ⟨o3, hf, hT⟩ := TL_c hT hf
    refine mc_X4_107 (fE := fE) (lE := lE) S hS hB g1 hv2 hl.1 ⟨(by show _ ≤ (fE + 8); omega), (by show _ ≤ (lE + 275); omega)⟩ (Nat.le_of_ble_eq_true rfl) ⟨(TL_m hT).1, (TL_m hT).2⟩ dX4_houseLine_19 (fun H locs ax hax hix hB => ?_) (fun H locs r4 hrx hB => ?_)
    · replace hf := sc_l hax hf
      have hE9 := TL_e hT hf
      subst hE9
      exact xt_out hS hem hlocks hB (by omega) hix
    · replace hf := sc_r hrx hf
      refine lv_aload_n hx hb dX4_houseLine_22 rfl (lv_at hl 0 rfl) ?_
      obtain ⟨g5, hf⟩ := gd_t hf
      obtain ⟨v6, hv6, hf⟩ := ob_s hf
      obtain ⟨o7, hf, hT⟩ := TL_c hT hf
      refine mc_X4_46 (fE := fE) (lE := lE) S hS hB g5 hv6 hl.1 ⟨(by show _ ≤ (fE + 8); omega), (by show _ ≤ (lE + 275); omega)⟩ (Nat.le_of_ble_eq_true rfl) ⟨(TL_m hT).1, (TL_m hT).2⟩ dX4_houseLine_23 (fun H locs _ hB => ?_)
      refine lv_aload_n hx hb dX4_houseLine_26 rfl (lv_at hl 0 rfl) ?_
      obtain ⟨g8, hf⟩ := gd_t hf
      obtain ⟨v9, hv9, hf⟩ := ob_s hf
      obtain ⟨o10, hf, hT⟩ := TL_c hT hf
      refine mc_X4_149 (fE := fE) (lE := lE) S hS hB g8 hv9 hl.1 ⟨(by show _ ≤ (fE + 8); omega), (by show _ ≤ (lE + 275); omega)⟩ (Nat.le_of_ble_eq_true rfl) ⟨(TL_m hT).1, (TL_m hT).2⟩ dX4_houseLine_27 (fun H locs ax hax hix hB => ?_) (fun H locs r11 hrx hB => ?_)
      · replace hf := sc_l hax hf
        have hE9 := TL_e hT hf
        subst hE9
        exact xt_out hS hem hlocks hB (by omega) hix
      · replace hf := sc_r hrx hf
        refine lv_astore_n (i := 1) (lv' := [(1, .ref r11), (0, .ref x0)]) hx hb dX4_houseLine_30 rfl hl (by decide) rfl (fun ls hl => ?_)
        refine lv_aload_n hx hb dX4_houseLine_31 rfl (lv_at hl 1 rfl) ?_
        obtain ⟨v12, hv12, hf⟩ := ob_s hf
        refine bg_X4_30 S hS hB (vR_s hv12) dX4_houseLine_32 ?_
        obtain ⟨g13, hf⟩ := gd_t hf
        obtain ⟨v14, hv14, hf⟩ := ob_s hf
        refine mc_X4_111 (fE := fE) (lE := lE) S hS hB g13 hv14 hl.1 ⟨(by show _ ≤ (fE + 8); omega), (by show _ ≤ (lE + 275); omega)⟩ (Nat.le_of_ble_eq_true rfl) ⟨(TL_m hT).1, (TL_m hT).2⟩ dX4_houseLine_35 (fun _ => ?_)
        refine lv_istore_n (i := 2) (lv' := [(2, .int v14), (1, .ref r11), (0, .ref x0)]) hx hb dX4_houseLine_38 rfl hl (by decide) rfl (fun ls hl => ?_)
        refine lv_iconst hx hb dX4_houseLine_39 kc_i4 ?_
        obtain ⟨o15, hf, hT⟩ := TL_c hT hf
        refine b_newI S hS hB kn_4 kna_4 (TL_m hT).1 (TL_m hT).2 dX4_houseLine_40 (fun H hB => ?_)
        obtain ⟨h16, eh16⟩ : ∃ z, z = (hu v9.2.1 (((nc + v2.2.2.1) + v6.2.2.1) + v9.2.2.1) (.inl (0, 4, .inl (fun _ => 0)))) := ⟨_, rfl⟩
        replace hf := bd_e eh16 hf
        rw [← eh16] at hB
        refine lv_dup hx hb dX4_houseLine_42 rfl ?_
        refine lv_iconst hx hb dX4_houseLine_43 kc_i0 ?_
        refine lv_aload_n hx hb dX4_houseLine_44 rfl (lv_at hl 2 rfl) ?_
        refine lv_iconst hx hb dX4_houseLine_45 kc_i1 ?_
        refine lv_iconst hx hb dX4_houseLine_46 kc_i4 ?_
        obtain ⟨g17, hf⟩ := gd_t hf
        obtain ⟨v18, hv18, hf⟩ := ob_s hf
        obtain ⟨o19, hf, hT⟩ := TL_c hT hf
        refine mc_X4_152 (fE := fE) (lE := lE) S hS hB g17 hv18 hl.1 ⟨(by show _ ≤ (fE + 8); omega), (by show _ ≤ (lE + 275); omega)⟩ (Nat.le_of_ble_eq_true rfl) ⟨(TL_m hT).1, (TL_m hT).2⟩ dX4_houseLine_47 (fun H locs ax hax hix hB => ?_) (fun H locs r20 hrx hB => ?_)
        · replace hf := sc_l hax hf
          have hE9 := TL_e hT hf
          subst hE9
          exact xt_out hS hem hlocks hB (by omega) hix
        · replace hf := sc_r hrx hf
          obtain ⟨h21, hh21, hf⟩ := ob_s hf
          refine b_iast S hS.1 hB hh21 dX4_houseLine_50 (fun H locs hB => ?_)
          refine lv_dup hx hb dX4_houseLine_51 rfl ?_
          refine lv_iconst hx hb dX4_houseLine_52 kc_i1 ?_
          refine lv_aload_n hx hb dX4_houseLine_53 rfl (lv_at hl 2 rfl) ?_
          refine lv_iconst hx hb dX4_houseLine_54 kc_i1 ?_
          refine lv_iconst hx hb dX4_houseLine_55 kc_i4 ?_
          obtain ⟨g22, hf⟩ := gd_t hf
          obtain ⟨v23, hv23, hf⟩ := ob_s hf
          obtain ⟨o24, hf, hT⟩ := TL_c hT hf
          refine mc_X4_152 (fE := fE) (lE := lE) S hS hB g22 hv23 hl.1 ⟨(by show _ ≤ (fE + 8); omega), (by show _ ≤ (lE + 275); omega)⟩ (Nat.le_of_ble_eq_true rfl) ⟨(TL_m hT).1, (TL_m hT).2⟩ dX4_houseLine_56 (fun H locs ax hax hix hB => ?_) (fun H locs r25 hrx hB => ?_)
          · replace hf := sc_l hax hf
            have hE9 := TL_e hT hf
            subst hE9
            exact xt_out hS hem hlocks hB (by omega) hix
          · replace hf := sc_r hrx hf
            obtain ⟨h26, hh26, hf⟩ := ob_s hf
            refine b_iast S hS.1 hB hh26 dX4_houseLine_59 (fun H locs hB => ?_)
            refine lv_dup hx hb dX4_houseLine_60 rfl ?_
            refine lv_iconst hx hb dX4_houseLine_61 kc_i2 ?_
            refine lv_aload_n hx hb dX4_houseLine_62 rfl (lv_at hl 2 rfl) ?_
            refine lv_iconst hx hb dX4_houseLine_63 kc_i0 ?_
            refine lv_bipush hx hb dX4_houseLine_64 kc_b7 ?_
            obtain ⟨g27, hf⟩ := gd_t hf
            obtain ⟨v28, hv28, hf⟩ := ob_s hf
            obtain ⟨o29, hf, hT⟩ := TL_c hT hf
            refine mc_X4_152 (fE := fE) (lE := lE) S hS hB g27 hv28 hl.1 ⟨(by show _ ≤ (fE + 8); omega), (by show _ ≤ (lE + 275); omega)⟩ (Nat.le_of_ble_eq_true rfl) ⟨(TL_m hT).1, (TL_m hT).2⟩ dX4_houseLine_66 (fun H locs ax hax hix hB => ?_) (fun H locs r30 hrx hB => ?_)
            · replace hf := sc_l hax hf
              have hE9 := TL_e hT hf
              subst hE9
              exact xt_out hS hem hlocks hB (by omega) hix
            · replace hf := sc_r hrx hf
              obtain ⟨h31, hh31, hf⟩ := ob_s hf
              refine b_iast S hS.1 hB hh31 dX4_houseLine_69 (fun H locs hB => ?_)
              refine lv_dup hx hb dX4_houseLine_70 rfl ?_
              refine lv_iconst hx hb dX4_houseLine_71 kc_i3 ?_
              refine lv_aload_n hx hb dX4_houseLine_72 rfl (lv_at hl 2 rfl) ?_
              refine lv_iconst hx hb dX4_houseLine_73 kc_i0 ?_
              refine lv_sipush hx hb dX4_houseLine_74 kc_s999 ?_
              obtain ⟨g32, hf⟩ := gd_t hf
              obtain ⟨v33, hv33, hf⟩ := ob_s hf
              obtain ⟨o34, hf, hT⟩ := TL_c hT hf
              refine mc_X4_152 (fE := fE) (lE := lE) S hS hB g32 hv33 hl.1 ⟨(by show _ ≤ (fE + 8); omega), (by show _ ≤ (lE + 275); omega)⟩ (Nat.le_of_ble_eq_true rfl) ⟨(TL_m hT).1, (TL_m hT).2⟩ dX4_houseLine_77 (fun H locs ax hax hix hB => ?_) (fun H locs r35 hrx hB => ?_)
              · replace hf := sc_l hax hf
                have hE9 := TL_e hT hf
                subst hE9
                exact xt_out hS hem hlocks hB (by omega) hix
              · replace hf := sc_r hrx hf
                obtain ⟨h36, hh36, hf⟩ := ob_s hf
                refine b_iast S hS.1 hB hh36 dX4_houseLine_80 (fun H locs hB => ?_)
                refine lv_astore_n (i := 3) (lv' := [(3, .ref (((nc + v2.2.2.1) + v6.2.2.1) + v9.2.2.1)), (2, .int v14), (1, .ref r11), (0, .ref x0)]) hx hb dX4_houseLine_81 rfl hl (by decide) rfl (fun ls hl => ?_)
                refine lv_aload_n hx hb dX4_houseLine_82 rfl (lv_at hl 3 rfl) ?_
                refine b_ldcS S hS 17 rfl rfl rfl dX4_houseLine_83 ?_
                obtain ⟨g37, hf⟩ := gd_t hf
                obtain ⟨v38, hv38, hf⟩ := ob_s hf
                refine mc_X4_168 (fE := fE) (lE := lE) S hS hB g37 hv38 hl.1 ⟨(by show _ ≤ (fE + 8); omega), (by show _ ≤ (lE + 275); omega)⟩ (Nat.le_of_ble_eq_true rfl) ⟨(TL_m hT).1, (TL_m hT).2⟩ dX4_houseLine_85 (fun hnv38 => ?_)
                refine lv_if_eq (tgt := 149) hx hb dX4_houseLine_88 (by decide) (fun c39 => ?_) (fun c39 => ?_)
                · replace hf := it_t c39 hf
                  exact (w149 FU) x0 r11 v14 (((nc + v2.2.2.1) + v6.2.2.1) + v9.2.2.1) h36 ((((((((nc + v2.2.2.1) + v6.2.2.1) + v9.2.2.1) + 1) + v18.2.2.1) + v23.2.2.1) + v28.2.2.1) + v33.2.2.1) ls H locs ((((((((ce + v2.2.2.1) + v6.2.2.1) + v9.2.2.1) + 1) + v18.2.2.1) + v23.2.2.1) + v28.2.2.1) + v33.2.2.1) ((((((((sl + v2.2.2.2) + v6.2.2.2) + v9.2.2.2) + 4) + v18.2.2.2) + v23.2.2.2) + v28.2.2.2) + v33.2.2.2) o34 hB (by omega) hT (lv_sub (l' := [(0, .ref x0), (1, .ref r11), (2, .int v14), (3, .ref (((nc + v2.2.2.1) + v6.2.2.1) + v9.2.2.1))]) hl [3, 2, 1, 0] rfl) hf
                · replace hf := it_f c39 hf
                  refine lv_aload_n hx hb dX4_houseLine_91 rfl (lv_at hl 3 rfl) ?_
                  obtain ⟨g40, hf⟩ := gd_t hf
                  obtain ⟨v41, hv41, hf⟩ := ob_s hf
                  obtain ⟨o42, hf, hT⟩ := TL_c hT hf
                  refine mc_X4_46 (fE := fE) (lE := lE) S hS hB g40 hv41 hl.1 ⟨(by show _ ≤ (fE + 8); omega), (by show _ ≤ (lE + 275); omega)⟩ (Nat.le_of_ble_eq_true rfl) ⟨(TL_m hT).1, (TL_m hT).2⟩ dX4_houseLine_92 (fun H locs _ hB => ?_)
                  refine lv_aload_n hx hb dX4_houseLine_95 rfl (lv_at hl 3 rfl) ?_
                  refine lv_aload_n hx hb dX4_houseLine_96 rfl (lv_at hl 3 rfl) ?_
                  obtain ⟨g43, hf⟩ := gd_t hf
                  obtain ⟨v44, hv44, hf⟩ := ob_s hf
                  refine mc_X4_143 (fE := fE) (lE := lE) S hS hB g43 hv44 hl.1 ⟨(by show _ ≤ (fE + 8); omega), (by show _ ≤ (lE + 275); omega)⟩ (Nat.le_of_ble_eq_true rfl) ⟨(TL_m hT).1, (TL_m hT).2⟩ dX4_houseLine_97 (fun hnv44 => ?_)
                  refine lv_iconst hx hb dX4_houseLine_100 kc_i2 ?_
                  obtain ⟨g45, hf⟩ := gd_t hf
                  obtain ⟨v46, hv46, hf⟩ := ob_s hf
                  obtain ⟨o47, hf, hT⟩ := TL_c hT hf
                  refine mc_X4_107 (fE := fE) (lE := lE) S hS hB g45 hv46 hl.1 ⟨(by show _ ≤ (fE + 8); omega), (by show _ ≤ (lE + 275); omega)⟩ (Nat.le_of_ble_eq_true rfl) ⟨(TL_m hT).1, (TL_m hT).2⟩ dX4_houseLine_101 (fun H locs ax hax hix hB => ?_) (fun H locs r48 hrx hB => ?_)
                  · replace hf := sc_l hax hf
                    have hE9 := TL_e hT hf
                    subst hE9
                    exact xt_out hS hem hlocks hB (by omega) hix
                  · replace hf := sc_r hrx hf
                    refine lv_aload_n hx hb dX4_houseLine_104 rfl (lv_at hl 3 rfl) ?_
                    refine lv_aload_n hx hb dX4_houseLine_105 rfl (lv_at hl 3 rfl) ?_
                    obtain ⟨g49, hf⟩ := gd_t hf
                    obtain ⟨v50, hv50, hf⟩ := ob_s hf
                    refine mc_X4_140 (fE := fE) (lE := lE) S hS hB g49 hv50 hl.1 ⟨(by show _ ≤ (fE + 8); omega), (by show _ ≤ (lE + 275); omega)⟩ (Nat.le_of_ble_eq_true rfl) ⟨(TL_m hT).1, (TL_m hT).2⟩ dX4_houseLine_106 (fun _ => ?_)
                    refine lv_if_lt (tgt := 127) hx hb dX4_houseLine_109 (by decide) (fun c51 => ?_) (fun c51 => ?_)
                    · replace hf := it_t c51 hf
                      refine lv_iconst hx hb dX4_houseLine_127 kc_i0 ?_
                      exact (w128 (f_X4_houseLine_149 FU E) (w149 FU)) x0 r11 v14 (((nc + v2.2.2.1) + v6.2.2.1) + v9.2.2.1) x0 0 v46.2.1 ((((((((((nc + v2.2.2.1) + v6.2.2.1) + v9.2.2.1) + 1) + v18.2.2.1) + v23.2.2.1) + v28.2.2.1) + v33.2.2.1) + v41.2.2.1) + v46.2.2.1) ls H locs ((((((((((ce + v2.2.2.1) + v6.2.2.1) + v9.2.2.1) + 1) + v18.2.2.1) + v23.2.2.1) + v28.2.2.1) + v33.2.2.1) + v41.2.2.1) + v46.2.2.1) ((((((((((sl + v2.2.2.2) + v6.2.2.2) + v9.2.2.2) + 4) + v18.2.2.2) + v23.2.2.2) + v28.2.2.2) + v33.2.2.2) + v41.2.2.2) + v46.2.2.2) o47 hB (by omega) hT (lv_sub (l' := [(0, .ref x0), (1, .ref r11), (2, .int v14), (3, .ref (((nc + v2.2.2.1) + v6.2.2.1) + v9.2.2.1))]) hl [3, 2, 1, 0] rfl) hf
                    · replace hf := it_f c51 hf
                      refine lv_aload_n hx hb dX4_houseLine_112 rfl (lv_at hl 3 rfl) ?_
                      refine lv_aload_n hx hb dX4_houseLine_113 rfl (lv_at hl 3 rfl) ?_
                      obtain ⟨g52, hf⟩ := gd_t hf
                      obtain ⟨v53, hv53, hf⟩ := ob_s hf
                      refine mc_X4_140 (fE := fE) (lE := lE) S hS hB g52 hv53 hl.1 ⟨(by show _ ≤ (fE + 8); omega), (by show _ ≤ (lE + 275); omega)⟩ (Nat.le_of_ble_eq_true rfl) ⟨(TL_m hT).1, (TL_m hT).2⟩ dX4_houseLine_114 (fun _ => ?_)
                      obtain ⟨g54, hf⟩ := gd_t hf
                      obtain ⟨v55, hv55, hf⟩ := ob_s hf
                      refine mc_X4_172 (fE := fE) (lE := lE) S hS hB g54 hv55 hl.1 ⟨(by show _ ≤ (fE + 8); omega), (by show _ ≤ (lE + 275); omega)⟩ (Nat.le_of_ble_eq_true rfl) ⟨(TL_m hT).1, (TL_m hT).2⟩ dX4_houseLine_117 (fun hnv55 => ?_)
                      refine lv_if_ne (tgt := 127) hx hb dX4_houseLine_120 (by decide) (fun c56 => ?_) (fun c56 => ?_)
                      · replace hf := it_f c56 hf
                        refine lv_iconst hx hb dX4_houseLine_127 kc_i0 ?_
                        exact (w128 (f_X4_houseLine_149 FU E) (w149 FU)) x0 r11 v14 (((nc + v2.2.2.1) + v6.2.2.1) + v9.2.2.1) x0 0 v46.2.1 ((((((((((nc + v2.2.2.1) + v6.2.2.1) + v9.2.2.1) + 1) + v18.2.2.1) + v23.2.2.1) + v28.2.2.1) + v33.2.2.1) + v41.2.2.1) + v46.2.2.1) ls H locs ((((((((((ce + v2.2.2.1) + v6.2.2.1) + v9.2.2.1) + 1) + v18.2.2.1) + v23.2.2.1) + v28.2.2.1) + v33.2.2.1) + v41.2.2.1) + v46.2.2.1) ((((((((((sl + v2.2.2.2) + v6.2.2.2) + v9.2.2.2) + 4) + v18.2.2.2) + v23.2.2.2) + v28.2.2.2) + v33.2.2.2) + v41.2.2.2) + v46.2.2.2) o47 hB (by omega) hT (lv_sub (l' := [(0, .ref x0), (1, .ref r11), (2, .int v14), (3, .ref (((nc + v2.2.2.1) + v6.2.2.1) + v9.2.2.1))]) hl [3, 2, 1, 0] rfl) hf
                      · replace hf := it_t c56 hf
                        refine lv_iconst hx hb dX4_houseLine_123 kc_i1 ?_
                        refine lv_goto (tgt := 128) hx hb dX4_houseLine_124 (by decide) ?_
                        exact (w128 (f_X4_houseLine_149 FU E) (w149 FU)) x0 r11 v14 (((nc + v2.2.2.1) + v6.2.2.1) + v9.2.2.1) x0 1 v46.2.1 ((((((((((nc + v2.2.2.1) + v6.2.2.1) + v9.2.2.1) + 1) + v18.2.2.1) + v23.2.2.1) + v28.2.2.1) + v33.2.2.1) + v41.2.2.1) + v46.2.2.1) ls H locs ((((((((((ce + v2.2.2.1) + v6.2.2.1) + v9.2.2.1) + 1) + v18.2.2.1) + v23.2.2.1) + v28.2.2.1) + v33.2.2.1) + v41.2.2.1) + v46.2.2.1) ((((((((((sl + v2.2.2.2) + v6.2.2.2) + v9.2.2.2) + 4) + v18.2.2.2) + v23.2.2.2) + v28.2.2.2) + v33.2.2.2) + v41.2.2.2) + v46.2.2.2) o47 hB (by omega) hT (lv_sub (l' := [(0, .ref x0), (1, .ref r11), (2, .int v14), (3, .ref (((nc + v2.2.2.1) + v6.2.2.1) + v9.2.2.1))]) hl [3, 2, 1, 0] rfl) hf
  have hT : TL out out 0 0 := TL_0
  rw [f_X4_houseLine] at hf
  refine lv_aload_n hx hb dX4_houseLine_0 rfl (lv_at hl 0 rfl) ?_
  refine lv_aload_n hx hb dX4_houseLine_1 rfl (lv_at hl 0 rfl) ?_
  obtain ⟨v1, hv1, hf⟩ := ob_s hf
  refine bg_X4_30 S hS hB (vR_s hv1) dX4_houseLine_2 ?_
  obtain ⟨g2, hf⟩ := gd_t hf
  obtain ⟨v3, hv3, hf⟩ := ob_s hf
  refine mc_X4_111 (fE := fE) (lE := lE) S hS hB g2 hv3 hl.1 ⟨(by show _ ≤ (fE + 8); omega), (by show _ ≤ (lE + 275); omega)⟩ (Nat.le_of_ble_eq_true rfl) ⟨(TL_m hT).1, (TL_m hT).2⟩ dX4_houseLine_5 (fun _ => ?_)
  refine lv_bipush hx hb dX4_houseLine_8 kc_b8 ?_
  refine lv_icmp_ge (tgt := 17) hx hb dX4_houseLine_10 (by decide) (fun c4 => ?_) (fun c4 => ?_)
  · replace hf := it_t c4 hf
    refine lv_iconst hx hb dX4_houseLine_17 kc_i0 ?_
    exact (w18) o o 0 h nx ls s.heap [] 0 0 out hB (by omega) hT hl hf
  · replace hf := it_f c4 hf
    refine lv_iconst hx hb dX4_houseLine_13 kc_i1 ?_
    refine lv_goto (tgt := 18) hx hb dX4_houseLine_14 (by decide) ?_
    exact (w18) o o 1 h nx ls s.heap [] 0 0 out hB (by omega) hT hl hf
set_option maxRecDepth 100000 in
theorem mc_X4_209 {o : Nat} {out : (Nat ⊕ Unit) × AH × Nat × Nat} (S : CallFix p m c cc nL s args lw_all RX4) (hS : SK G E.1 hSites A s) (hB : BI G A s.heap h nx H locs) (ho : isO h o 3 = true) (hf : f_X4_houseLine E h nx o = some out) (hsz : ls.size = nL) (hR : (fE + 8) + 1 ≤ R.frames ∧ 8 + (5 + 11) + (lE + 275) ≤ R.locals) (hW : (rest.map fun v => v.category).sum ≤ 8) (hcs : cells + out.2.2.1 ≤ R.cells ∧ slots + out.2.2.2 ≤ R.slots) (hdg : decode cc pc = .ok (.invokevirtual 209, 3))  (kx : ∀ (H1 : Heap) (locs1 : List Loc) (a : Nat), out.1 = .inl a → isO out.2.1 a 4 = true → BI G A s.heap out.2.1 (nx + out.2.2.1) H1 locs1 → wx_W p l e R s m args below meth c H1 locs1 (cells + out.2.2.1) (slots + out.2.2.2) Q (F0 m pc ls rest) a) (kk : ∀ (H1 : Heap) (locs1 : List Loc) (r : Unit), out.1 = .inr r → BI G A s.heap out.2.1 (nx + out.2.2.1) H1 locs1 → W p l e R s m args below meth c H1 locs1 (cells + out.2.2.1) (slots + out.2.2.2) Q (F0 m (pc + 3) ls (rest))) : W p l e R s m args below meth c H locs cells slots Q (F0 m pc ls (.ref o :: rest)) := by
  have hN := hS.2.1
  obtain ⟨fs, he⟩ := isO_s ho
  exact br_x (wx_runV (As := []) S (mm_X4_houseLine (l := l) (G := G) (fE := fE) (lE := lE) hf) (cwV 0 S.2.2.2.2 (lw_V q1127 q1129 qs30 q190 q1130) rfl rfl rfl hd_X4_houseLine hR) (bPreV hS hB (ci := 3) rfl he) rfl rfl hsz rfl (lv_room hW) hdg hcs) hB kx kk
theorem hd_X4_homeLine : yX4_homeLine.cls = RX4 ∧ yX4_homeLine.cls ≠ "java/lang/invoke/MethodHandle" ∧ yX4_homeLine.cls ≠ "java/lang/invoke/VarHandle" ∧ (parseMethodDescriptor yX4_homeLine.desc).map (fun d => d.parameters.length) = some 0 := by decide +kernel
set_option maxHeartbeats 4000000 in
set_option maxRecDepth 100000 in
theorem mm_X4_homeLine {o : Nat} {out : (Nat ⊕ Unit) × AH × Nat × Nat} (hf : f_X4_homeLine E h nx o = some out) : wx_Met l yX4_homeLine (ws_ yX4_homeLine cX4_homeLine 3 none) (rC (fE + 8) (lE + 275) out.2.2.1 out.2.2.2) (bPc G E.1 hSites h nx [.ref o]) (xQ G out.1 (fun _ => none) out.2.1 (nx + out.2.2.1) (AA h nx)) (xX G out.1 out.2.1 (nx + out.2.2.1) (AA h nx)) out.2.2.1 out.2.2.2 (AA h nx) := by
  refine bGoX (by decide +kernel) (Nat.le_of_ble_eq_true rfl) (fun p e s m below meth c ls S hr hlocks hin hnm hem hS hB hl => ?_)
  have S : CallFix p m c cX4_homeLine 3 s _ lw_all RX4 := S
  obtain ⟨hx, hb, hml, hown, hts⟩ := id S
  have hl : lv_has ls 3 [(0, .ref o)] := hl
  have w18 : ∀ (x0 : Nat) (y0 : Nat) (y1 : Int32) (hc : AH) (nc : Nat) (ls : Array Slot) (H : Heap) (locs : List Loc) (ce sl : Nat) (o1 : (Nat ⊕ Unit) × AH × Nat × Nat), BI G (AA h nx) s.heap hc nc H locs → nc = nx + ce → TL out o1 ce sl → lv_has ls 3 [(0, .ref x0)] → f_X4_homeLine_18 E x0 y0 y1 hc nc = some o1 → W p l e (rC (fE + 8) (lE + 275) out.2.2.1 out.2.2.2) s m ([.ref o] : List Value).toArray below meth c H locs ce sl (wx_MQ below (xQ G out.1 (fun _ => none) out.2.1 (nx + out.2.2.1) (AA h nx)) (xX G out.1 out.2.1 (nx + out.2.2.1) (AA h nx)) ([.ref o] : List Value).toArray s out.2.2.1 out.2.2.2 (AA h nx)) (F0 m 18 ls [.int y1, .ref y0]) := by
    intro x0 y0 y1 hc nc ls H locs ce sl o1 hB hn hT hl hf
    rw [f_X4_homeLine_18] at hf
    refine lv_iconst hx hb dX4_homeLine_18 kc_i5 ?_
    obtain ⟨g1, hf⟩ := gd_t hf
    obtain ⟨v2, hv2, hf⟩ := ob_s hf
    obtain ⟨o3, hf, hT⟩ := TL_c hT hf
    refine mc_X4_107 (fE := fE) (lE := lE) S hS hB g1 hv2 hl.1 ⟨(by show _ ≤ (fE + 8); omega), (by show _ ≤ (lE + 275); omega)⟩ (Nat.le_of_ble_eq_true rfl) ⟨(TL_m hT).1, (TL_m hT).2⟩ dX4_homeLine_19 (fun H locs ax hax hix hB => ?_) (fun H locs r4 hrx hB => ?_)
    · replace hf := sc_l hax hf
      have hE9 := TL_e hT hf
      subst hE9
      exact xt_out hS hem hlocks hB (by omega) hix
    · replace hf := sc_r hrx hf
      refine lv_aload_n hx hb dX4_homeLine_22 rfl (lv_at hl 0 rfl) ?_
      obtain ⟨g5, hf⟩ := gd_t hf
      obtain ⟨v6, hv6, hf⟩ := ob_s hf
      obtain ⟨o7, hf, hT⟩ := TL_c hT hf
      refine mc_X4_46 (fE := fE) (lE := lE) S hS hB g5 hv6 hl.1 ⟨(by show _ ≤ (fE + 8); omega), (by show _ ≤ (lE + 275); omega)⟩ (Nat.le_of_ble_eq_true rfl) ⟨(TL_m hT).1, (TL_m hT).2⟩ dX4_homeLine_23 (fun H locs _ hB => ?_)
      refine lv_aload_n hx hb dX4_homeLine_26 rfl (lv_at hl 0 rfl) ?_
      obtain ⟨g8, hf⟩ := gd_t hf
      obtain ⟨v9, hv9, hf⟩ := ob_s hf
      obtain ⟨o10, hf, hT⟩ := TL_c hT hf
      refine mc_X4_149 (fE := fE) (lE := lE) S hS hB g8 hv9 hl.1 ⟨(by show _ ≤ (fE + 8); omega), (by show _ ≤ (lE + 275); omega)⟩ (Nat.le_of_ble_eq_true rfl) ⟨(TL_m hT).1, (TL_m hT).2⟩ dX4_homeLine_27 (fun H locs ax hax hix hB => ?_) (fun H locs r11 hrx hB => ?_)
      · replace hf := sc_l hax hf
        have hE9 := TL_e hT hf
        subst hE9
        exact xt_out hS hem hlocks hB (by omega) hix
      · replace hf := sc_r hrx hf
        refine lv_astore_n (i := 1) (lv' := [(1, .ref r11), (0, .ref x0)]) hx hb dX4_homeLine_30 rfl hl (by decide) rfl (fun ls hl => ?_)
        refine lv_aload_n hx hb dX4_homeLine_31 rfl (lv_at hl 1 rfl) ?_
        refine lv_iconst hx hb dX4_homeLine_32 kc_i1 ?_
        refine lv_iconst hx hb dX4_homeLine_33 kc_i4 ?_
        obtain ⟨g12, hf⟩ := gd_t hf
        obtain ⟨v13, hv13, hf⟩ := ob_s hf
        obtain ⟨o14, hf, hT⟩ := TL_c hT hf
        refine mc_X4_152 (fE := fE) (lE := lE) S hS hB g12 hv13 hl.1 ⟨(by show _ ≤ (fE + 8); omega), (by show _ ≤ (lE + 275); omega)⟩ (Nat.le_of_ble_eq_true rfl) ⟨(TL_m hT).1, (TL_m hT).2⟩ dX4_homeLine_34 (fun H locs ax hax hix hB => ?_) (fun H locs r15 hrx hB => ?_)
        · replace hf := sc_l hax hf
          have hE9 := TL_e hT hf
          subst hE9
          exact xt_out hS hem hlocks hB (by omega) hix
        · replace hf := sc_r hrx hf
          refine lv_istore_n (i := 2) (lv' := [(2, .int r15), (1, .ref r11), (0, .ref x0)]) hx hb dX4_homeLine_37 rfl hl (by decide) rfl (fun ls hl => ?_)
          refine lv_aload_n hx hb dX4_homeLine_38 rfl (lv_at hl 2 rfl) ?_
          obtain ⟨v16, hv16, hf⟩ := ob_s hf
          refine bg_X4_26 S hS hB (vR_s hv16) dX4_homeLine_39 ?_
          obtain ⟨o17, hf, hT⟩ := TL_c hT hf
          refine bn_X4_118 S hS hB (TL_m hT).1 (TL_m hT).2 dX4_homeLine_42 (fun H hB => ?_)
          obtain ⟨h18, eh18⟩ : ∃ z, z = (hu v13.2.1 ((((nc + v2.2.2.1) + v6.2.2.1) + v9.2.2.1) + v13.2.2.1) (.inr (.inl (5, df_X6)))) := ⟨_, rfl⟩
          replace hf := bd_e eh18 hf
          rw [← eh18] at hB
          refine lv_dup hx hb dX4_homeLine_45 rfl ?_
          refine lv_aload_n hx hb dX4_homeLine_46 rfl (lv_at hl 1 rfl) ?_
          refine lv_iload_n hx hb dX4_homeLine_47 rfl (lv_at hl 0 rfl) ?_
          refine lv_aload_n hx hb dX4_homeLine_48 rfl (lv_at hl 2 rfl) ?_
          refine lv_iconst hx hb dX4_homeLine_49 kc_i0 ?_
          refine lv_bipush hx hb dX4_homeLine_50 kc_b7 ?_
          obtain ⟨g19, hf⟩ := gd_t hf
          obtain ⟨v20, hv20, hf⟩ := ob_s hf
          obtain ⟨o21, hf, hT⟩ := TL_c hT hf
          refine mc_X4_152 (fE := fE) (lE := lE) S hS hB g19 hv20 hl.1 ⟨(by show _ ≤ (fE + 8); omega), (by show _ ≤ (lE + 275); omega)⟩ (Nat.le_of_ble_eq_true rfl) ⟨(TL_m hT).1, (TL_m hT).2⟩ dX4_homeLine_52 (fun H locs ax hax hix hB => ?_) (fun H locs r22 hrx hB => ?_)
          · replace hf := sc_l hax hf
            have hE9 := TL_e hT hf
            subst hE9
            exact xt_out hS hem hlocks hB (by omega) hix
          · replace hf := sc_r hrx hf
            obtain ⟨v23, hv23, hf⟩ := ob_s hf
            obtain ⟨o24, hf, hT⟩ := TL_c hT hf
            refine mc_X4_156 (fE := fE) (lE := lE) S hS hB hv23 hl.1 ⟨(by show _ ≤ (fE + 8); omega), (by show _ ≤ (lE + 275); omega)⟩ (Nat.le_of_ble_eq_true rfl) ⟨(TL_m hT).1, (TL_m hT).2⟩ dX4_homeLine_55 (fun H locs _ hB => ?_)
            obtain ⟨g25, hf⟩ := gd_t hf
            obtain ⟨v26, hv26, hf⟩ := ob_s hf
            obtain ⟨o27, hf, hT⟩ := TL_c hT hf
            refine mc_X4_159 (fE := fE) (lE := lE) S hS hB g25 hv26 hl.1 ⟨(by show _ ≤ (fE + 8); omega), (by show _ ≤ (lE + 275); omega)⟩ (Nat.le_of_ble_eq_true rfl) ⟨(TL_m hT).1, (TL_m hT).2⟩ dX4_homeLine_58 (fun H locs hnv26 hB => ?_)
            refine lv_pop hx hb dX4_homeLine_61 rfl ?_
            have hE9 := TL_e hT hf
            subst hE9
            exact wx_ret (bt_v S hr hlocks hB (by omega) trivial dX4_homeLine_62)
  have hT : TL out out 0 0 := TL_0
  rw [f_X4_homeLine] at hf
  refine lv_aload_n hx hb dX4_homeLine_0 rfl (lv_at hl 0 rfl) ?_
  refine lv_aload_n hx hb dX4_homeLine_1 rfl (lv_at hl 0 rfl) ?_
  obtain ⟨v1, hv1, hf⟩ := ob_s hf
  refine bg_X4_26 S hS hB (vR_s hv1) dX4_homeLine_2 ?_
  obtain ⟨g2, hf⟩ := gd_t hf
  obtain ⟨v3, hv3, hf⟩ := ob_s hf
  refine mc_X4_111 (fE := fE) (lE := lE) S hS hB g2 hv3 hl.1 ⟨(by show _ ≤ (fE + 8); omega), (by show _ ≤ (lE + 275); omega)⟩ (Nat.le_of_ble_eq_true rfl) ⟨(TL_m hT).1, (TL_m hT).2⟩ dX4_homeLine_5 (fun _ => ?_)
  refine lv_bipush hx hb dX4_homeLine_8 kc_b10 ?_
  refine lv_icmp_ge (tgt := 17) hx hb dX4_homeLine_10 (by decide) (fun c4 => ?_) (fun c4 => ?_)
  · replace hf := it_t c4 hf
    refine lv_iconst hx hb dX4_homeLine_17 kc_i0 ?_
    exact (w18) o o 0 h nx ls s.heap [] 0 0 out hB (by omega) hT hl hf
  · replace hf := it_f c4 hf
    refine lv_iconst hx hb dX4_homeLine_13 kc_i1 ?_
    refine lv_goto (tgt := 18) hx hb dX4_homeLine_14 (by decide) ?_
    exact (w18) o o 1 h nx ls s.heap [] 0 0 out hB (by omega) hT hl hf
set_option maxRecDepth 100000 in
theorem mc_X4_204 {o : Nat} {out : (Nat ⊕ Unit) × AH × Nat × Nat} (S : CallFix p m c cc nL s args lw_all RX4) (hS : SK G E.1 hSites A s) (hB : BI G A s.heap h nx H locs) (ho : isO h o 3 = true) (hf : f_X4_homeLine E h nx o = some out) (hsz : ls.size = nL) (hR : (fE + 8) + 1 ≤ R.frames ∧ 8 + (3 + 11) + (lE + 275) ≤ R.locals) (hW : (rest.map fun v => v.category).sum ≤ 8) (hcs : cells + out.2.2.1 ≤ R.cells ∧ slots + out.2.2.2 ≤ R.slots) (hdg : decode cc pc = .ok (.invokevirtual 204, 3))  (kx : ∀ (H1 : Heap) (locs1 : List Loc) (a : Nat), out.1 = .inl a → isO out.2.1 a 4 = true → BI G A s.heap out.2.1 (nx + out.2.2.1) H1 locs1 → wx_W p l e R s m args below meth c H1 locs1 (cells + out.2.2.1) (slots + out.2.2.2) Q (F0 m pc ls rest) a) (kk : ∀ (H1 : Heap) (locs1 : List Loc) (r : Unit), out.1 = .inr r → BI G A s.heap out.2.1 (nx + out.2.2.1) H1 locs1 → W p l e R s m args below meth c H1 locs1 (cells + out.2.2.1) (slots + out.2.2.2) Q (F0 m (pc + 3) ls (rest))) : W p l e R s m args below meth c H locs cells slots Q (F0 m pc ls (.ref o :: rest)) := by
  have hN := hS.2.1
  obtain ⟨fs, he⟩ := isO_s ho
  exact br_x (wx_runV (As := []) S (mm_X4_homeLine (l := l) (G := G) (fE := fE) (lE := lE) hf) (cwV 0 S.2.2.2.2 (lw_V q880 q882 qs19 q190 q883) rfl rfl rfl hd_X4_homeLine hR) (bPreV hS hB (ci := 3) rfl he) rfl rfl hsz rfl (lv_room hW) hdg hcs) hB kx kk
theorem hd_X4_all : yX4_all.cls = RX4 ∧ yX4_all.cls ≠ "java/lang/invoke/MethodHandle" ∧ yX4_all.cls ≠ "java/lang/invoke/VarHandle" ∧ (parseMethodDescriptor yX4_all.desc).map (fun d => d.parameters.length) = some 0 := by decide +kernel
set_option maxHeartbeats 4000000 in
set_option maxRecDepth 100000 in
theorem mm_X4_all {o : Nat} {out : (Nat ⊕ Unit) × AH × Nat × Nat} (hf : f_X4_all E h nx o = some out) : wx_Met l yX4_all (ws_ yX4_all cX4_all 1 none) (rC (fE + 9) (lE + 299) out.2.2.1 out.2.2.2) (bPc G E.1 hSites h nx [.ref o]) (xQ G out.1 (fun _ => none) out.2.1 (nx + out.2.2.1) (AA h nx)) (xX G out.1 out.2.1 (nx + out.2.2.1) (AA h nx)) out.2.2.1 out.2.2.2 (AA h nx) := by
  refine bGoX (by decide +kernel) (Nat.le_of_ble_eq_true rfl) (fun p e s m below meth c ls S hr hlocks hin hnm hem hS hB hl => ?_)
  have S : CallFix p m c cX4_all 1 s _ lw_all RX4 := S
  obtain ⟨hx, hb, hml, hown, hts⟩ := id S
  have hl : lv_has ls 1 [(0, .ref o)] := hl
  have w57 : ∀ (k0 : Nat → AH → Nat → Option ((Nat ⊕ Unit) × AH × Nat × Nat)), (∀ (b0 : Nat) (b1 : AH) (b2 : Nat) (ls : Array Slot) (H : Heap) (locs : List Loc) (ce sl : Nat) (o1 : (Nat ⊕ Unit) × AH × Nat × Nat), BI G (AA h nx) s.heap b1 b2 H locs → b2 = nx + ce → TL out o1 ce sl → lv_has ls 1 [(0, .ref b0)] → k0 b0 b1 b2 = some o1 → W p l e (rC (fE + 9) (lE + 299) out.2.2.1 out.2.2.2) s m ([.ref o] : List Value).toArray below meth c H locs ce sl (wx_MQ below (xQ G out.1 (fun _ => none) out.2.1 (nx + out.2.2.1) (AA h nx)) (xX G out.1 out.2.1 (nx + out.2.2.1) (AA h nx)) ([.ref o] : List Value).toArray s out.2.2.1 out.2.2.2 (AA h nx)) (F0 m 0 ls [])) → ∀ (x0 : Nat) (y0 : Nat) (y1 : Int32) (hc : AH) (nc : Nat) (ls : Array Slot) (H : Heap) (locs : List Loc) (ce sl : Nat) (o1 : (Nat ⊕ Unit) × AH × Nat × Nat), BI G (AA h nx) s.heap hc nc H locs → nc = nx + ce → TL out o1 ce sl → lv_has ls 1 [(0, .ref x0)] → f_X4_all_57 k0 E x0 y0 y1 hc nc = some o1 → W p l e (rC (fE + 9) (lE + 299) out.2.2.1 out.2.2.2) s m ([.ref o] : List Value).toArray below meth c H locs ce sl (wx_MQ below (xQ G out.1 (fun _ => none) out.2.1 (nx + out.2.2.1) (AA h nx)) (xX G out.1 out.2.1 (nx + out.2.2.1) (AA h nx)) ([.ref o] : List Value).toArray s out.2.2.1 out.2.2.2 (AA h nx)) (F0 m 57 ls [.int y1, .ref y0]) := by
    intro k0 hk0 x0 y0 y1 hc nc ls H locs ce sl o1 hB hn hT hl hf
    rw [f_X4_all_57] at hf
    refine lv_iconst hx hb dX4_all_57 kc_i2 ?_
    obtain ⟨g1, hf⟩ := gd_t hf
    obtain ⟨v2, hv2, hf⟩ := ob_s hf
    obtain ⟨o3, hf, hT⟩ := TL_c hT hf
    refine mc_X4_107 (fE := fE) (lE := lE) S hS hB g1 hv2 hl.1 ⟨(by show _ ≤ (fE + 9); omega), (by show _ ≤ (lE + 299); omega)⟩ (Nat.le_of_ble_eq_true rfl) ⟨(TL_m hT).1, (TL_m hT).2⟩ dX4_all_58 (fun H locs ax hax hix hB => ?_) (fun H locs r4 hrx hB => ?_)
    · replace hf := sc_l hax hf
      have hE9 := TL_e hT hf
      subst hE9
      exact xt_out hS hem hlocks hB (by omega) hix
    · replace hf := sc_r hrx hf
      refine lv_aload_n hx hb dX4_all_61 rfl (lv_at hl 0 rfl) ?_
      obtain ⟨g5, hf⟩ := gd_t hf
      obtain ⟨v6, hv6, hf⟩ := ob_s hf
      obtain ⟨o7, hf, hT⟩ := TL_c hT hf
      refine mc_X4_46 (fE := fE) (lE := lE) S hS hB g5 hv6 hl.1 ⟨(by show _ ≤ (fE + 9); omega), (by show _ ≤ (lE + 299); omega)⟩ (Nat.le_of_ble_eq_true rfl) ⟨(TL_m hT).1, (TL_m hT).2⟩ dX4_all_62 (fun H locs _ hB => ?_)
      refine lv_goto (tgt := 0) hx hb dX4_all_65 (by decide) ?_
      exact hk0 x0 v6.2.1 ((nc + v2.2.2.1) + v6.2.2.1) ls H locs ((ce + v2.2.2.1) + v6.2.2.1) ((sl + v2.2.2.2) + v6.2.2.2) o7 hB (by omega) hT hl hf
  have w43 : ∀ (k0 : Nat → AH → Nat → Option ((Nat ⊕ Unit) × AH × Nat × Nat)), (∀ (b0 : Nat) (b1 : AH) (b2 : Nat) (ls : Array Slot) (H : Heap) (locs : List Loc) (ce sl : Nat) (o1 : (Nat ⊕ Unit) × AH × Nat × Nat), BI G (AA h nx) s.heap b1 b2 H locs → b2 = nx + ce → TL out o1 ce sl → lv_has ls 1 [(0, .ref b0)] → k0 b0 b1 b2 = some o1 → W p l e (rC (fE + 9) (lE + 299) out.2.2.1 out.2.2.2) s m ([.ref o] : List Value).toArray below meth c H locs ce sl (wx_MQ below (xQ G out.1 (fun _ => none) out.2.1 (nx + out.2.2.1) (AA h nx)) (xX G out.1 out.2.1 (nx + out.2.2.1) (AA h nx)) ([.ref o] : List Value).toArray s out.2.2.1 out.2.2.2 (AA h nx)) (F0 m 0 ls [])) → ∀ (x0 : Nat) (hc : AH) (nc : Nat) (ls : Array Slot) (H : Heap) (locs : List Loc) (ce sl : Nat) (o1 : (Nat ⊕ Unit) × AH × Nat × Nat), BI G (AA h nx) s.heap hc nc H locs → nc = nx + ce → TL out o1 ce sl → lv_has ls 1 [(0, .ref x0)] → f_X4_all_43 k0 E x0 hc nc = some o1 → W p l e (rC (fE + 9) (lE + 299) out.2.2.1 out.2.2.2) s m ([.ref o] : List Value).toArray below meth c H locs ce sl (wx_MQ below (xQ G out.1 (fun _ => none) out.2.1 (nx + out.2.2.1) (AA h nx)) (xX G out.1 out.2.1 (nx + out.2.2.1) (AA h nx)) ([.ref o] : List Value).toArray s out.2.2.1 out.2.2.2 (AA h nx)) (F0 m 43 ls []) := by
    intro k0 hk0 x0 hc nc ls H locs ce sl o1 hB hn hT hl hf
    rw [f_X4_all_43] at hf
    refine lv_aload_n hx hb dX4_all_43 rfl (lv_at hl 0 rfl) ?_
    refine lv_aload_n hx hb dX4_all_44 rfl (lv_at hl 0 rfl) ?_
    obtain ⟨v1, hv1, hf⟩ := ob_s hf
    refine bg_X4_67 S hS hB (vI_s hv1) dX4_all_45 ?_
    refine lv_iconst hx hb dX4_all_48 kc_i3 ?_
    refine lv_icmp_ne (tgt := 56) hx hb dX4_all_49 (by decide) (fun c2 => ?_) (fun c2 => ?_)
    · replace hf := it_f c2 hf
      refine lv_iconst hx hb dX4_all_56 kc_i0 ?_
      exact (w57 k0 hk0) x0 x0 0 hc nc ls H locs ce sl o1 hB (by omega) hT hl hf
    · replace hf := it_t c2 hf
      refine lv_iconst hx hb dX4_all_52 kc_i1 ?_
      refine lv_goto (tgt := 57) hx hb dX4_all_53 (by decide) ?_
      exact (w57 k0 hk0) x0 x0 1 hc nc ls H locs ce sl o1 hB (by omega) hT hl hf
  have w0 : ∀ (n : Nat) , ∀ (x0 : Nat) (hc : AH) (nc : Nat) (ls : Array Slot) (H : Heap) (locs : List Loc) (ce sl : Nat) (o1 : (Nat ⊕ Unit) × AH × Nat × Nat), BI G (AA h nx) s.heap hc nc H locs → nc = nx + ce → TL out o1 ce sl → lv_has ls 1 [(0, .ref x0)] → f_X4_all_0 n E x0 hc nc = some o1 → W p l e (rC (fE + 9) (lE + 299) out.2.2.1 out.2.2.2) s m ([.ref o] : List Value).toArray below meth c H locs ce sl (wx_MQ below (xQ G out.1 (fun _ => none) out.2.1 (nx + out.2.2.1) (AA h nx)) (xX G out.1 out.2.1 (nx + out.2.2.1) (AA h nx)) ([.ref o] : List Value).toArray s out.2.2.1 out.2.2.2 (AA h nx)) (F0 m 0 ls []) := by
    intro n
    induction n with
    | zero =>
      intro x0 hc nc ls H locs ce sl o1 hB hn hT hl hf
      exact absurd hf (by rw [f_X4_all_0]; exact nofun)
    | succ n ih =>
      intro x0 hc nc ls H locs ce sl o1 hB hn hT hl hf
      rw [f_X4_all_0] at hf
      refine lv_aload_n hx hb dX4_all_0 rfl (lv_at hl 0 rfl) ?_
      obtain ⟨v1, hv1, hf⟩ := ob_s hf
      refine bg_X4_67 S hS hB (vI_s hv1) dX4_all_1 ?_
      refine lv_if_eq (tgt := 68) hx hb dX4_all_4 (by decide) (fun c2 => ?_) (fun c2 => ?_)
      · replace hf := it_t c2 hf
        have hE9 := TL_e hT hf
        subst hE9
        exact wx_ret (bt_v S hr hlocks hB (by omega) trivial dX4_all_68)
      · replace hf := it_f c2 hf
        refine lv_aload_n hx hb dX4_all_7 rfl (lv_at hl 0 rfl) ?_
        refine b_ldcS S hS 19 rfl rfl rfl dX4_all_8 ?_
        obtain ⟨g3, hf⟩ := gd_t hf
        obtain ⟨v4, hv4, hf⟩ := ob_s hf
        refine mc_X4_168 (fE := fE) (lE := lE) S hS hB g3 hv4 hl.1 ⟨(by show _ ≤ (fE + 9); omega), (by show _ ≤ (lE + 299); omega)⟩ (Nat.le_of_ble_eq_true rfl) ⟨(TL_m hT).1, (TL_m hT).2⟩ dX4_all_10 (fun hnv4 => ?_)
        refine lv_if_eq (tgt := 23) hx hb dX4_all_13 (by decide) (fun c5 => ?_) (fun c5 => ?_)
        · replace hf := it_t c5 hf
          refine lv_aload_n hx hb dX4_all_23 rfl (lv_at hl 0 rfl) ?_
          refine b_ldcS S hS 20 rfl rfl rfl dX4_all_24 ?_
          obtain ⟨g6, hf⟩ := gd_t hf
          obtain ⟨v7, hv7, hf⟩ := ob_s hf
          refine mc_X4_168 (fE := fE) (lE := lE) S hS hB g6 hv7 hl.1 ⟨(by show _ ≤ (fE + 9); omega), (by show _ ≤ (lE + 299); omega)⟩ (Nat.le_of_ble_eq_true rfl) ⟨(TL_m hT).1, (TL_m hT).2⟩ dX4_all_26 (fun hnv7 => ?_)
          refine lv_if_eq (tgt := 39) hx hb dX4_all_29 (by decide) (fun c8 => ?_) (fun c8 => ?_)
          · replace hf := it_t c8 hf
            refine lv_aload_n hx hb dX4_all_39 rfl (lv_at hl 0 rfl) ?_
            obtain ⟨g9, hf⟩ := gd_t hf
            obtain ⟨v10, hv10, hf⟩ := ob_s hf
            obtain ⟨o11, hf, hT⟩ := TL_c hT hf
            refine mc_X4_212 (fE := fE) (lE := lE) S hS hB g9 hv10 hl.1 ⟨(by show _ ≤ (fE + 9); omega), (by show _ ≤ (lE + 299); omega)⟩ (Nat.le_of_ble_eq_true rfl) ⟨(TL_m hT).1, (TL_m hT).2⟩ dX4_all_40 (fun H locs ax hax hix hB => ?_) (fun H locs r12 hrx hB => ?_)
            · replace hf := sc_l hax hf
              have hE9 := TL_e hT hf
              subst hE9
              exact xt_out hS hem hlocks hB (by omega) hix
            · replace hf := sc_r hrx hf
              exact (w43 (f_X4_all_0 n E) (ih)) x0 v10.2.1 (nc + v10.2.2.1) ls H locs (ce + v10.2.2.1) (sl + v10.2.2.2) o11 hB (by omega) hT hl hf
          · replace hf := it_f c8 hf
            refine lv_aload_n hx hb dX4_all_32 rfl (lv_at hl 0 rfl) ?_
            obtain ⟨g13, hf⟩ := gd_t hf
            obtain ⟨v14, hv14, hf⟩ := ob_s hf
            obtain ⟨o15, hf, hT⟩ := TL_c hT hf
            refine mc_X4_209 (fE := fE) (lE := lE) S hS hB g13 hv14 hl.1 ⟨(by show _ ≤ (fE + 9); omega), (by show _ ≤ (lE + 299); omega)⟩ (Nat.le_of_ble_eq_true rfl) ⟨(TL_m hT).1, (TL_m hT).2⟩ dX4_all_33 (fun H locs ax hax hix hB => ?_) (fun H locs r16 hrx hB => ?_)
            · replace hf := sc_l hax hf
              have hE9 := TL_e hT hf
              subst hE9
              exact xt_out hS hem hlocks hB (by omega) hix
            · replace hf := sc_r hrx hf
              refine lv_goto (tgt := 43) hx hb dX4_all_36 (by decide) ?_
              exact (w43 (f_X4_all_0 n E) (ih)) x0 v14.2.1 (nc + v14.2.2.1) ls H locs (ce + v14.2.2.1) (sl + v14.2.2.2) o15 hB (by omega) hT hl hf
        · replace hf := it_f c5 hf
          refine lv_aload_n hx hb dX4_all_16 rfl (lv_at hl 0 rfl) ?_
          obtain ⟨g17, hf⟩ := gd_t hf
          obtain ⟨v18, hv18, hf⟩ := ob_s hf
          obtain ⟨o19, hf, hT⟩ := TL_c hT hf
          refine mc_X4_204 (fE := fE) (lE := lE) S hS hB g17 hv18 hl.1 ⟨(by show _ ≤ (fE + 9); omega), (by show _ ≤ (lE + 299); omega)⟩ (Nat.le_of_ble_eq_true rfl) ⟨(TL_m hT).1, (TL_m hT).2⟩ dX4_all_17 (fun H locs ax hax hix hB => ?_) (fun H locs r20 hrx hB => ?_)
          · replace hf := sc_l hax hf
            have hE9 := TL_e hT hf
            subst hE9
            exact xt_out hS hem hlocks hB (by omega) hix
          · replace hf := sc_r hrx hf
            refine lv_goto (tgt := 43) hx hb dX4_all_20 (by decide) ?_
            exact (w43 (f_X4_all_0 n E) (ih)) x0 v18.2.1 (nc + v18.2.2.1) ls H locs (ce + v18.2.2.1) (sl + v18.2.2.2) o19 hB (by omega) hT hl hf
  have hT : TL out out 0 0 := TL_0
  rw [f_X4_all] at hf
  exact (w0 FU) o h nx ls s.heap [] 0 0 out hB (by omega) hT hl hf
set_option maxRecDepth 100000 in
theorem mc_X1_163 {o : Nat} {out : (Nat ⊕ Unit) × AH × Nat × Nat} (S : CallFix p m c cc nL s args lw_all RX1) (hS : SK G E.1 hSites A s) (hB : BI G A s.heap h nx H locs) (ho : isO h o 3 = true) (hf : f_X4_all E h nx o = some out) (hsz : ls.size = nL) (hR : (fE + 9) + 1 ≤ R.frames ∧ 8 + (1 + 11) + (lE + 299) ≤ R.locals) (hW : (rest.map fun v => v.category).sum ≤ 8) (hcs : cells + out.2.2.1 ≤ R.cells ∧ slots + out.2.2.2 ≤ R.slots) (hdg : decode cc pc = .ok (.invokevirtual 163, 3))  (kx : ∀ (H1 : Heap) (locs1 : List Loc) (a : Nat), out.1 = .inl a → isO out.2.1 a 4 = true → BI G A s.heap out.2.1 (nx + out.2.2.1) H1 locs1 → wx_W p l e R s m args below meth c H1 locs1 (cells + out.2.2.1) (slots + out.2.2.2) Q (F0 m pc ls rest) a) (kk : ∀ (H1 : Heap) (locs1 : List Loc) (r : Unit), out.1 = .inr r → BI G A s.heap out.2.1 (nx + out.2.2.1) H1 locs1 → W p l e R s m args below meth c H1 locs1 (cells + out.2.2.1) (slots + out.2.2.2) Q (F0 m (pc + 3) ls (rest))) : W p l e R s m args below meth c H locs cells slots Q (F0 m pc ls (.ref o :: rest)) := by
  have hN := hS.2.1
  obtain ⟨fs, he⟩ := isO_s ho
  exact br_x (wx_runV (As := []) S (mm_X4_all (l := l) (G := G) (fE := fE) (lE := lE) hf) (cwV 0 S.2.2.2.2 (lw_V q863 q864 q865 q190 q866) rfl rfl rfl hd_X4_all hR) (bPreV hS hB (ci := 3) rfl he) rfl rfl hsz rfl (lv_room hW) hdg hcs) hB kx kk
theorem hd_X1_none : yX1_none.cls = RX1 ∧ yX1_none.cls ≠ "java/lang/invoke/MethodHandle" ∧ yX1_none.cls ≠ "java/lang/invoke/VarHandle" ∧ (parseMethodDescriptor yX1_none.desc).map (fun d => d.parameters.length) = some 1 := by decide +kernel
set_option maxHeartbeats 4000000 in
set_option maxRecDepth 100000 in
theorem mm_X1_none {o : Nat} {a0 : Int32} {out : Int32 × AH × Nat × Nat} (hf : f_X1_none E h nx o a0 = some out) : Met l yX1_none (ws_ yX1_none cX1_none 2 (some .int)) (rC (fE + 0) (lE + 0) out.2.2.1 out.2.2.2) (bPc G E.1 hSites h nx [.ref o, .int a0]) (bQ G (some (.int out.1)) True out.2.1 (nx + out.2.2.1) (AA h nx)) out.2.2.1 out.2.2.2 (AA h nx) := by
  refine bGo (by decide +kernel) (Nat.le_of_ble_eq_true rfl) (fun p e s m below meth c ls S hr hlocks hin hnm hS hB hl => ?_)
  have S : CallFix p m c cX1_none 2 s _ lw_all RX1 := S
  obtain ⟨hx, hb, hml, hown, hts⟩ := id S
  have hl : lv_has ls 2 [(0, .ref o), (1, .int a0)] := hl
  have hT : TL out out 0 0 := TL_0
  rw [f_X1_none] at hf
  refine lv_aload_n hx hb dX1_none_0 rfl (lv_at hl 0 rfl) ?_
  refine lv_iload_n hx hb dX1_none_1 rfl (lv_at hl 1 rfl) ?_
  obtain ⟨h1, hh1, hf⟩ := ob_s hf
  refine bp_X1_127 S hS hB hh1 dX1_none_2 (fun H locs hB => ?_)
  refine lv_iconst hx hb dX1_none_5 kc_im1 ?_
  have hE9 := TL_e hT hf
  subst hE9
  exact bt_i S hr hlocks hB (by omega) trivial dX1_none_6
set_option maxRecDepth 100000 in
theorem mc_X1_174 {o : Nat} {a0 : Int32} {out : Int32 × AH × Nat × Nat} (S : CallFix p m c cc nL s args lw_all RX1) (hS : SK G E.1 hSites A s) (hB : BI G A s.heap h nx H locs) (ho : isO h o 0 = true) (hf : f_X1_none E h nx o a0 = some out) (hsz : ls.size = nL) (hR : (fE + 0) + 1 ≤ R.frames ∧ 8 + (2 + 11) + (lE + 0) ≤ R.locals) (hW : (rest.map fun v => v.category).sum ≤ 8) (hcs : cells + out.2.2.1 ≤ R.cells ∧ slots + out.2.2.2 ≤ R.slots) (hdg : decode cc pc = .ok (.invokevirtual 174, 3))  (kk : ∀ (H1 : Heap) (locs1 : List Loc), True → BI G A s.heap out.2.1 (nx + out.2.2.1) H1 locs1 → W p l e R s m args below meth c H1 locs1 (cells + out.2.2.1) (slots + out.2.2.2) Q (F0 m (pc + 3) ls (.int out.1 :: rest))) : W p l e R s m args below meth c H locs cells slots Q (F0 m pc ls (.int a0 :: .ref o :: rest)) := by
  have hN := hS.2.1
  obtain ⟨fs, he⟩ := isO_s ho
  exact br_w (va_runV (As := [.int a0]) S (mm_X1_none (l := l) (G := G) (fE := fE) (lE := lE) hf) (cwV 1 S.2.2.2.2 (lw_V q1167 q1169 qs33 q174 q1170) rfl rfl rfl hd_X1_none hR) (bPreV hS hB (ci := 0) rfl he) rfl rfl hsz rfl (lv_room hW) hdg hcs) hB kk
theorem hd_X1_load : yX1_load.cls = RX1 ∧ yX1_load.cls ≠ "java/lang/invoke/MethodHandle" ∧ yX1_load.cls ≠ "java/lang/invoke/VarHandle" ∧ (parseMethodDescriptor yX1_load.desc).map (fun d => d.parameters.length) = some 1 := by decide +kernel
set_option maxHeartbeats 4000000 in
set_option maxRecDepth 100000 in
theorem mm_X1_load {o : Nat} {a0 : Int32} {out : Int32 × AH × Nat × Nat} (hf : f_X1_load E h nx o a0 = some out) : Met l yX1_load (wsW_ yX1_load cX1_load 4 (some .int) [(53, 57, 60, 166)]) (rC (fE + 10) (lE + 3164) out.2.2.1 out.2.2.2) (bPc G E.1 hSites h nx [.ref o, .int a0]) (bQ G (some (.int out.1)) True out.2.1 (nx + out.2.2.1) (AA h nx)) out.2.2.1 out.2.2.2 (AA h nx) := by
  refine bGoH (by decide +kernel) (Nat.le_of_ble_eq_true rfl) (fun p e s m below meth c ls S hr hlocks hin hnm hcw hS hB hl => ?_)
  have S : CallFix p m c cX1_load 4 s _ lw_all RX1 := S
  obtain ⟨hx, hb, hml, hown, hts⟩ := id S
  have hl : lv_has ls 4 [(0, .ref o), (1, .int a0)] := hl
  have w20 : ∀ (x0 : Nat) (x1 : Int32) (y0 : Nat) (y1 : Int32) (hc : AH) (nc : Nat) (ls : Array Slot) (H : Heap) (locs : List Loc) (ce sl : Nat) (o1 : Int32 × AH × Nat × Nat), BI G (AA h nx) s.heap hc nc H locs → nc = nx + ce → TL out o1 ce sl → lv_has ls 4 [(0, .ref x0), (1, .int x1)] → f_X1_load_20 E x0 x1 y0 y1 hc nc = some o1 → W p l e (rC (fE + 10) (lE + 3164) out.2.2.1 out.2.2.2) s m ([.ref o, .int a0] : List Value).toArray below meth c H locs ce sl (MQ below (bQ G (some (.int out.1)) True out.2.1 (nx + out.2.2.1) (AA h nx)) ([.ref o, .int a0] : List Value).toArray s out.2.2.1 out.2.2.2 (AA h nx)) (F0 m 20 ls [.int y1, .ref y0]) := by
    intro x0 x1 y0 y1 hc nc ls H locs ce sl o1 hB hn hT hl hf
    rw [f_X1_load_20] at hf
    obtain ⟨g1, hf⟩ := gd_t hf
    obtain ⟨v2, hv2, hf⟩ := ob_s hf
    obtain ⟨o3, hf, hT⟩ := TL_c hT hf
    refine mc_X1_155 (fE := fE) (lE := lE) S hS hB g1 hv2 hl.1 ⟨(by show _ ≤ (fE + 10); omega), (by show _ ≤ (lE + 3164); omega)⟩ (Nat.le_of_ble_eq_true rfl) ⟨(TL_m hT).1, (TL_m hT).2⟩ dX1_load_20 (fun H locs hnv2 hB => ?_)
    refine lv_if_ne (tgt := 28) hx hb dX1_load_23 (by decide) (fun c4 => ?_) (fun c4 => ?_)
    · replace hf := it_f c4 hf
      refine lv_aload_n hx hb dX1_load_28 rfl (lv_at hl 0 rfl) ?_
      refine lv_iconst hx hb dX1_load_29 kc_i0 ?_
      obtain ⟨h5, hh5, hf⟩ := ob_s hf
      refine bp_X1_148 S hS hB hh5 dX1_load_30 (fun H locs hB => ?_)
      refine lv_aload_n hx hb dX1_load_33 rfl (lv_at hl 0 rfl) ?_
      refine lv_iconst hx hb dX1_load_34 kc_i0 ?_
      obtain ⟨h6, hh6, hf⟩ := ob_s hf
      refine bp_X1_80 S hS hB hh6 dX1_load_35 (fun H locs hB => ?_)
      refine lv_aload_n hx hb dX1_load_38 rfl (lv_at hl 0 rfl) ?_
      refine lv_iconst hx hb dX1_load_39 kc_im1 ?_
      obtain ⟨h7, hh7, hf⟩ := ob_s hf
      refine bp_X1_84 S hS hB hh7 dX1_load_40 (fun H locs hB => ?_)
      obtain ⟨o8, hf, hT⟩ := TL_c hT hf
      refine bn_X1_158 S hS hB (TL_m hT).1 (TL_m hT).2 dX1_load_43 (fun H hB => ?_)
      refine lv_dup hx hb dX1_load_46 rfl ?_
      refine lv_aload_n hx hb dX1_load_47 rfl (lv_at hl 0 rfl) ?_
      refine lv_iload_n hx hb dX1_load_48 rfl (lv_at hl 1 rfl) ?_
      obtain ⟨v9, hv9, hf⟩ := ob_s hf
      obtain ⟨o10, hf, hT⟩ := TL_c hT hf
      refine mc_X1_160 (fE := fE) (lE := lE) S hS hB hv9 hl.1 ⟨(by show _ ≤ (fE + 10); omega), (by show _ ≤ (lE + 3164); omega)⟩ (Nat.le_of_ble_eq_true rfl) ⟨(TL_m hT).1, (TL_m hT).2⟩ dX1_load_49 (fun H locs _ hB => ?_)
      refine lv_astore_n (i := 2) (lv' := [(2, .ref (nc + v2.2.2.1)), (0, .ref x0), (1, .int x1)]) hx hb dX1_load_52 rfl hl (by decide) rfl (fun ls hl => ?_)
      refine lv_aload_n hx hb dX1_load_53 rfl (lv_at hl 0 rfl) ?_
      obtain ⟨g11, hf⟩ := gd_t hf
      obtain ⟨v12, hv12, hf⟩ := ob_s hf
      obtain ⟨o13, hf, hT⟩ := TL_c hT hf
      refine mc_X1_163 (fE := fE) (lE := lE) S hS hB g11 hv12 hl.1 ⟨(by show _ ≤ (fE + 10); omega), (by show _ ≤ (lE + 3164); omega)⟩ (Nat.le_of_ble_eq_true rfl) ⟨(TL_m hT).1, (TL_m hT).2⟩ dX1_load_54 (fun H locs ax hax hix hB => ?_) (fun H locs r14 hrx hB => ?_)
      · replace hf := sc_l hax hf
        refine xt_catch S hS hcw hB hix rfl ?_
        refine lv_astore_n (i := 3) (lv' := [(3, .ref ax), (2, .ref (nc + v2.2.2.1)), (0, .ref x0), (1, .int x1)]) hx hb dX1_load_60 rfl hl (by decide) rfl (fun ls hl => ?_)
        refine lv_aload_n hx hb dX1_load_61 rfl (lv_at hl 2 rfl) ?_
        refine lv_aload_n hx hb dX1_load_62 rfl (lv_at hl 0 rfl) ?_
        obtain ⟨v15, hv15, hf⟩ := ob_s hf
        refine bg_X1_168 S hS hB (vI_s hv15) dX1_load_63 ?_
        obtain ⟨h16, hh16, hf⟩ := ob_s hf
        refine bp_X1_80 S hS hB hh16 dX1_load_66 (fun H locs hB => ?_)
        refine lv_aload_n hx hb dX1_load_69 rfl (lv_at hl 2 rfl) ?_
        refine lv_aload_n hx hb dX1_load_70 rfl (lv_at hl 0 rfl) ?_
        obtain ⟨v17, hv17, hf⟩ := ob_s hf
        refine bg_X1_171 S hS hB (vI_s hv17) dX1_load_71 ?_
        obtain ⟨h18, hh18, hf⟩ := ob_s hf
        refine bp_X1_84 S hS hB hh18 dX1_load_74 (fun H locs hB => ?_)
        refine lv_aload_n hx hb dX1_load_77 rfl (lv_at hl 2 rfl) ?_
        refine lv_bipush hx hb dX1_load_78 kc_b9 ?_
        obtain ⟨g19, hf⟩ := gd_t hf
        obtain ⟨v20, hv20, hf⟩ := ob_s hf
        obtain ⟨o21, hf, hT⟩ := TL_c hT hf
        refine mc_X1_174 (fE := fE) (lE := lE) S hS hB g19 hv20 hl.1 ⟨(by show _ ≤ (fE + 10); omega), (by show _ ≤ (lE + 3164); omega)⟩ (Nat.le_of_ble_eq_true rfl) ⟨(TL_m hT).1, (TL_m hT).2⟩ dX1_load_80 (fun H locs _ hB => ?_)
        have hE9 := TL_e hT hf
        subst hE9
        exact bt_i S hr hlocks hB (by omega) trivial dX1_load_83
      · replace hf := sc_r hrx hf
        refine lv_goto (tgt := 84) hx hb dX1_load_57 (by decide) ?_
        refine lv_aload_n hx hb dX1_load_84 rfl (lv_at hl 1 rfl) ?_
        refine lv_aload_n hx hb dX1_load_85 rfl (lv_at hl 0 rfl) ?_
        obtain ⟨v22, hv22, hf⟩ := ob_s hf
        refine bg_X1_177 S hS hB (vR_s hv22) dX1_load_86 ?_
        obtain ⟨h23, hh23, hf⟩ := ob_s hf
        refine bp_X1_39 S hS hB hh23 dX1_load_89 (fun H locs hB => ?_)
        refine lv_aload_n hx hb dX1_load_92 rfl (lv_at hl 1 rfl) ?_
        refine lv_aload_n hx hb dX1_load_93 rfl (lv_at hl 0 rfl) ?_
        obtain ⟨v24, hv24, hf⟩ := ob_s hf
        refine bg_X1_180 S hS hB (vR_s hv24) dX1_load_94 ?_
        obtain ⟨h25, hh25, hf⟩ := ob_s hf
        refine bp_X1_51 S hS hB hh25 dX1_load_97 (fun H locs hB => ?_)
        refine lv_aload_n hx hb dX1_load_100 rfl (lv_at hl 1 rfl) ?_
        refine lv_aload_n hx hb dX1_load_101 rfl (lv_at hl 0 rfl) ?_
        obtain ⟨v26, hv26, hf⟩ := ob_s hf
        refine bg_X1_183 S hS hB (vR_s hv26) dX1_load_102 ?_
        obtain ⟨h27, hh27, hf⟩ := ob_s hf
        refine bp_X1_70 S hS hB hh27 dX1_load_105 (fun H locs hB => ?_)
        refine lv_aload_n hx hb dX1_load_108 rfl (lv_at hl 1 rfl) ?_
        obtain ⟨v28, hv28, hf⟩ := ob_s hf
        refine bg_X1_77 S hS hB (vR_s hv28) dX1_load_109 ?_
        obtain ⟨g29, hf⟩ := gd_t hf
        obtain ⟨v30, hv30, hf⟩ := ob_s hf
        obtain ⟨o31, hf, hT⟩ := TL_c hT hf
        refine mc_X1_186 (fE := fE) (lE := lE) S hS hB g29 hv30 hl.1 ⟨(by show _ ≤ (fE + 10); omega), (by show _ ≤ (lE + 3164); omega)⟩ (Nat.le_of_ble_eq_true rfl) ⟨(TL_m hT).1, (TL_m hT).2⟩ dX1_load_112 (fun H locs _ hB => ?_)
        refine lv_aload_n hx hb dX1_load_115 rfl (lv_at hl 1 rfl) ?_
        obtain ⟨v32, hv32, hf⟩ := ob_s hf
        refine bg_X1_51 S hS hB (vR_s hv32) dX1_load_116 ?_
        obtain ⟨g33, hf⟩ := gd_t hf
        obtain ⟨v34, hv34, hf⟩ := ob_s hf
        refine mc_X1_130 (fE := fE) (lE := lE) S hS hB g33 hv34 hl.1 ⟨(by show _ ≤ (fE + 10); omega), (by show _ ≤ (lE + 3164); omega)⟩ (Nat.le_of_ble_eq_true rfl) ⟨(TL_m hT).1, (TL_m hT).2⟩ dX1_load_119 (fun _ => ?_)
        have hE9 := TL_e hT hf
        subst hE9
        exact bt_i S hr hlocks hB (by omega) trivial dX1_load_122
    · replace hf := it_t c4 hf
      refine lv_iconst hx hb dX1_load_26 kc_im1 ?_
      have hE9 := TL_e hT hf
      subst hE9
      exact bt_i S hr hlocks hB (by omega) trivial dX1_load_27
  have hT : TL out out 0 0 := TL_0
  rw [f_X1_load] at hf
  refine lv_aload_n hx hb dX1_load_0 rfl (lv_at hl 0 rfl) ?_
  refine lv_iload_n hx hb dX1_load_1 rfl (lv_at hl 1 rfl) ?_
  refine lv_i2l hx hb dX1_load_2 rfl ?_
  refine lv_lconst (v := 0) hx hb dX1_load_3 (by decide) ?_
  refine lv_aload_n hx hb dX1_load_4 rfl (lv_at hl 0 rfl) ?_
  obtain ⟨v1, hv1, hf⟩ := ob_s hf
  refine bg_X1_148 S hS hB (vI_s hv1) dX1_load_5 ?_
  refine lv_i2l hx hb dX1_load_8 rfl ?_
  obtain ⟨v2, hv2, hf⟩ := ob_s hf
  refine mc_X1_134 S hS.1 hv2 hl.1 ⟨(by show _ ≤ (fE + 10); omega), (by show _ ≤ (lE + 3164); omega)⟩ (Nat.le_of_ble_eq_true rfl) ⟨(TL_m hT).1, (TL_m hT).2⟩ dX1_load_9 (fun hnv2 => ?_)
  refine lv_if_eq (tgt := 19) hx hb dX1_load_12 (by decide) (fun c3 => ?_) (fun c3 => ?_)
  · replace hf := it_t c3 hf
    refine lv_iconst hx hb dX1_load_19 kc_i1 ?_
    exact (w20) o a0 o 1 h nx ls s.heap [] 0 0 out hB (by omega) hT hl hf
  · replace hf := it_f c3 hf
    refine lv_iconst hx hb dX1_load_15 kc_i0 ?_
    refine lv_goto (tgt := 20) hx hb dX1_load_16 (by decide) ?_
    exact (w20) o a0 o 0 h nx ls s.heap [] 0 0 out hB (by omega) hT hl hf
theorem hd_X1_fault : yX1_fault.cls = RX1 ∧ yX1_fault.cls ≠ "java/lang/invoke/MethodHandle" ∧ yX1_fault.cls ≠ "java/lang/invoke/VarHandle" ∧ (parseMethodDescriptor yX1_fault.desc).map (fun d => d.parameters.length) = some 1 := by decide +kernel
set_option maxHeartbeats 4000000 in
set_option maxRecDepth 100000 in
theorem mm_X1_fault {o : Nat} {a0 : Int32} {out : Int32} (hf : f_X1_fault E h o a0 = some out) : Met l yX1_fault (ws_ yX1_fault cX1_fault 2 (some .int)) (rM (fE + 0) (lE + 0)) (bPc G E.1 hSites h nx [.ref o, .int a0]) (gR (some (.int out)) True) 0 0 (fun _ => False) := by
  refine bGo (by decide +kernel) (Nat.le_of_ble_eq_true rfl) (fun p e s m below meth c ls S hr hlocks hin hnm hS hB hl => ?_)
  have S : CallFix p m c cX1_fault 2 s _ lw_all RX1 := S
  obtain ⟨hx, hb, hml, hown, hts⟩ := id S
  have hl : lv_has ls 2 [(0, .ref o), (1, .int a0)] := hl
  rw [f_X1_fault] at hf
  refine lv_iload_n hx hb dX1_fault_0 rfl (lv_at hl 1 rfl) ?_
  refine lv_if_ne (tgt := 11) hx hb dX1_fault_1 (by decide) (fun c1 => ?_) (fun c1 => ?_)
  · replace hf := it_f c1 hf
    refine lv_iload_n hx hb dX1_fault_11 rfl (lv_at hl 1 rfl) ?_
    refine lv_iconst hx hb dX1_fault_12 kc_i1 ?_
    refine lv_icmp_ne (tgt := 23) hx hb dX1_fault_13 (by decide) (fun c2 => ?_) (fun c2 => ?_)
    · replace hf := it_f c2 hf
      refine lv_iconst hx hb dX1_fault_23 kc_im1 ?_
      have hE9 := Option.some.inj hf
      subst hE9
      exact gt_ri S hr hlocks trivial dX1_fault_24
    · replace hf := it_t c2 hf
      refine lv_aload_n hx hb dX1_fault_16 rfl (lv_at hl 0 rfl) ?_
      obtain ⟨v3, hv3, hf⟩ := ob_s hf
      refine bg_X1_84 S hS hB (vI_s hv3) dX1_fault_17 ?_
      refine lv_goto (tgt := 24) hx hb dX1_fault_20 (by decide) ?_
      have hE9 := Option.some.inj hf
      subst hE9
      exact gt_ri S hr hlocks trivial dX1_fault_24
  · replace hf := it_t c1 hf
    refine lv_aload_n hx hb dX1_fault_4 rfl (lv_at hl 0 rfl) ?_
    obtain ⟨v4, hv4, hf⟩ := ob_s hf
    refine bg_X1_80 S hS hB (vI_s hv4) dX1_fault_5 ?_
    refine lv_goto (tgt := 24) hx hb dX1_fault_8 (by decide) ?_
    have hE9 := Option.some.inj hf
    subst hE9
    exact gt_ri S hr hlocks trivial dX1_fault_24
theorem hd_X1_sum : yX1_sum.cls ≠ "java/lang/invoke/MethodHandle" ∧ yX1_sum.cls ≠ "java/lang/invoke/VarHandle" ∧ (parseMethodDescriptor yX1_sum.desc).map (fun d => d.parameters.length) = some 2 := by decide +kernel
set_option maxHeartbeats 4000000 in
set_option maxRecDepth 100000 in
theorem mm_X1_sum {a0 : Int32} {a1 : Nat} {out : Int32 × AH × Nat × Nat} (hE : IfOK l G E fE lE) (hf : f_X1_sum E h nx a0 a1 = some out) : Met l yX1_sum (ws_ yX1_sum cX1_sum 4 (some .int)) (rC (fE + 1) (lE + 40) out.2.2.1 out.2.2.2) (bPc G E.1 hSites h nx [.int a0, .ref a1]) (bQ G (some (.int out.1)) True out.2.1 (nx + out.2.2.1) (AA h nx)) out.2.2.1 out.2.2.2 (AA h nx) := by
  refine bGo (by decide +kernel) (Nat.le_of_ble_eq_true rfl) (fun p e s m below meth c ls S hr hlocks hin hnm hS hB hl => ?_)
  have S : CallFix p m c cX1_sum 4 s _ lw_all RX1 := S
  obtain ⟨hx, hb, hml, hown, hts⟩ := id S
  have hl : lv_has ls 4 [(0, .int a0), (1, .ref a1)] := hl
  have w4 : ∀ (n : Nat) , ∀ (x0 : Int32) (x1 : Nat) (x2 : Int32) (x3 : Int32) (hc : AH) (nc : Nat) (ls : Array Slot) (H : Heap) (locs : List Loc) (ce sl : Nat) (o1 : Int32 × AH × Nat × Nat), BI G (AA h nx) s.heap hc nc H locs → nc = nx + ce → TL out o1 ce sl → lv_has ls 4 [(0, .int x0), (1, .ref x1), (2, .int x2), (3, .int x3)] → f_X1_sum_4 n E x0 x1 x2 x3 hc nc = some o1 → W p l e (rC (fE + 1) (lE + 40) out.2.2.1 out.2.2.2) s m ([.int a0, .ref a1] : List Value).toArray below meth c H locs ce sl (MQ below (bQ G (some (.int out.1)) True out.2.1 (nx + out.2.2.1) (AA h nx)) ([.int a0, .ref a1] : List Value).toArray s out.2.2.1 out.2.2.2 (AA h nx)) (F0 m 4 ls []) := by
    intro n
    induction n with
    | zero =>
      intro x0 x1 x2 x3 hc nc ls H locs ce sl o1 hB hn hT hl hf
      exact absurd hf (by rw [f_X1_sum_4]; exact nofun)
    | succ n ih =>
      intro x0 x1 x2 x3 hc nc ls H locs ce sl o1 hB hn hT hl hf
      rw [f_X1_sum_4] at hf
      refine lv_iload_n hx hb dX1_sum_4 rfl (lv_at hl 3 rfl) ?_
      refine lv_iload_n hx hb dX1_sum_5 rfl (lv_at hl 0 rfl) ?_
      refine lv_icmp_ge (tgt := 25) hx hb dX1_sum_6 (by decide) (fun c1 => ?_) (fun c1 => ?_)
      · replace hf := it_t c1 hf
        refine lv_iload_n hx hb dX1_sum_25 rfl (lv_at hl 2 rfl) ?_
        have hE9 := TL_e hT hf
        subst hE9
        exact bt_i S hr hlocks hB (by omega) trivial dX1_sum_26
      · replace hf := it_f c1 hf
        refine lv_iload_n hx hb dX1_sum_9 rfl (lv_at hl 2 rfl) ?_
        refine lv_aload_n hx hb dX1_sum_10 rfl (lv_at hl 1 rfl) ?_
        refine lv_iload_n hx hb dX1_sum_11 rfl (lv_at hl 3 rfl) ?_
        obtain ⟨v2, hv2, hf⟩ := ob_s hf
        obtain ⟨o3, hf, hT⟩ := TL_c hT hf
        refine hE.2.2 _ _ _ _ _ _ _ _ _ _ _ _ _ _ _ _ _ _ _ _ _ _ _ _ _ _ _ _ S hS hB (hts _ q365) hv2 hl.1 ⟨(by show _ ≤ (fE + 1); omega), (by show _ ≤ (lE + 40); omega)⟩ (Nat.le_of_ble_eq_true rfl) ⟨(TL_m hT).1, (TL_m hT).2⟩ dX1_sum_12 (fun H locs _ hB => ?_)
        refine lv_iadd hx hb dX1_sum_17 ?_
        refine lv_istore_n (i := 2) (lv' := [(2, .int (x2 + v2.1)), (0, .int x0), (1, .ref x1), (3, .int x3)]) hx hb dX1_sum_18 rfl hl (by decide) rfl (fun ls hl => ?_)
        refine lv_iinc (v := (x3 + 1)) (lv' := [(3, .int (x3 + 1)), (2, .int (x2 + v2.1)), (0, .int x0), (1, .ref x1)]) hx hb dX1_sum_19 hl (k := 3) rfl rfl (by decide) rfl (fun ls hl => ?_)
        refine lv_goto (tgt := 4) hx hb dX1_sum_22 (by decide) ?_
        exact (ih) x0 x1 (x2 + v2.1) (x3 + 1) v2.2.1 (nc + v2.2.2.1) ls H locs (ce + v2.2.2.1) (sl + v2.2.2.2) o3 hB (by omega) hT (lv_sub (l' := [(0, .int x0), (1, .ref x1), (2, .int (x2 + v2.1)), (3, .int (x3 + 1))]) hl [2, 3, 1, 0] rfl) hf
  have hT : TL out out 0 0 := TL_0
  rw [f_X1_sum] at hf
  refine lv_iconst hx hb dX1_sum_0 kc_i0 ?_
  refine lv_istore_n (i := 2) (lv' := [(2, .int 0), (0, .int a0), (1, .ref a1)]) hx hb dX1_sum_1 rfl hl (by decide) rfl (fun ls hl => ?_)
  refine lv_iconst hx hb dX1_sum_2 kc_i0 ?_
  refine lv_istore_n (i := 3) (lv' := [(3, .int 0), (2, .int 0), (0, .int a0), (1, .ref a1)]) hx hb dX1_sum_3 rfl hl (by decide) rfl (fun ls hl => ?_)
  exact (w4 FU) a0 a1 0 0 h nx ls s.heap [] 0 0 out hB (by omega) hT (lv_sub (l' := [(0, .int a0), (1, .ref a1), (2, .int 0), (3, .int 0)]) hl [2, 3, 1, 0] rfl) hf
set_option maxRecDepth 100000 in
theorem mc_X1_200 {a0 : Int32} {a1 : Nat} {out : Int32 × AH × Nat × Nat} (S : CallFix p m c cc nL s args lw_all RX1) (hE : IfOK l G E fE lE) (hS : SK G E.1 hSites A s) (hB : BI G A s.heap h nx H locs) (hf : f_X1_sum E h nx a0 a1 = some out) (hsz : ls.size = nL) (hR : (fE + 1) + 1 ≤ R.frames ∧ 8 + (4 + 11) + (lE + 40) ≤ R.locals) (hW : (rest.map fun v => v.category).sum ≤ 8) (hcs : cells + out.2.2.1 ≤ R.cells ∧ slots + out.2.2.2 ≤ R.slots) (hdg : decode cc pc = .ok (.invokestatic 200, 3))  (kk : ∀ (H1 : Heap) (locs1 : List Loc), True → BI G A s.heap out.2.1 (nx + out.2.2.1) H1 locs1 → W p l e R s m args below meth c H1 locs1 (cells + out.2.2.1) (slots + out.2.2.2) Q (F0 m (pc + 3) ls (.int out.1 :: rest))) : W p l e R s m args below meth c H locs cells slots Q (F0 m pc ls (.ref a1 :: .int a0 :: rest)) := by
  have hN := hS.2.1
  exact br_w (va_runS (As := [.int a0, .ref a1]) S (mm_X1_sum hE hf) (va_cwS 2 S.2.2.2.2 (lw_S q1189 q1190 q174 q1191) rfl rfl rfl hd_X1_sum hR) (bPreS hS hB) rfl rfl hsz rfl (lv_room hW) hdg hcs) hB kk
theorem hd_X1_count : yX1_count.cls ≠ "java/lang/invoke/MethodHandle" ∧ yX1_count.cls ≠ "java/lang/invoke/VarHandle" ∧ (parseMethodDescriptor yX1_count.desc).map (fun d => d.parameters.length) = some 2 := by decide +kernel
set_option maxHeartbeats 4000000 in
set_option maxRecDepth 100000 in
theorem mm_X1_count {a0 : Int32} {a1 : Nat} {out : Int32 × AH × Nat × Nat} (hE : IfOK l G E fE lE) (hf : f_X1_count E h nx a0 a1 = some out) : Met l yX1_count (ws_ yX1_count cX1_count 4 (some .int)) (rC (fE + 1) (lE + 40) out.2.2.1 out.2.2.2) (bPc G E.1 hSites h nx [.int a0, .ref a1]) (bQ G (some (.int out.1)) True out.2.1 (nx + out.2.2.1) (AA h nx)) out.2.2.1 out.2.2.2 (AA h nx) := by
  refine bGo (by decide +kernel) (Nat.le_of_ble_eq_true rfl) (fun p e s m below meth c ls S hr hlocks hin hnm hS hB hl => ?_)
  have S : CallFix p m c cX1_count 4 s _ lw_all RX1 := S
  obtain ⟨hx, hb, hml, hown, hts⟩ := id S
  have hl : lv_has ls 4 [(0, .int a0), (1, .ref a1)] := hl
  have w4 : ∀ (n : Nat) , ∀ (x0 : Int32) (x1 : Nat) (x2 : Int32) (x3 : Int32) (hc : AH) (nc : Nat) (ls : Array Slot) (H : Heap) (locs : List Loc) (ce sl : Nat) (o1 : Int32 × AH × Nat × Nat), BI G (AA h nx) s.heap hc nc H locs → nc = nx + ce → TL out o1 ce sl → lv_has ls 4 [(0, .int x0), (1, .ref x1), (2, .int x2), (3, .int x3)] → f_X1_count_4 n E x0 x1 x2 x3 hc nc = some o1 → W p l e (rC (fE + 1) (lE + 40) out.2.2.1 out.2.2.2) s m ([.int a0, .ref a1] : List Value).toArray below meth c H locs ce sl (MQ below (bQ G (some (.int out.1)) True out.2.1 (nx + out.2.2.1) (AA h nx)) ([.int a0, .ref a1] : List Value).toArray s out.2.2.1 out.2.2.2 (AA h nx)) (F0 m 4 ls []) := by
    intro n
    induction n with
    | zero =>
      intro x0 x1 x2 x3 hc nc ls H locs ce sl o1 hB hn hT hl hf
      exact absurd hf (by rw [f_X1_count_4]; exact nofun)
    | succ n ih =>
      intro x0 x1 x2 x3 hc nc ls H locs ce sl o1 hB hn hT hl hf
      rw [f_X1_count_4] at hf
      refine lv_iload_n hx hb dX1_count_4 rfl (lv_at hl 3 rfl) ?_
      refine lv_iload_n hx hb dX1_count_5 rfl (lv_at hl 0 rfl) ?_
      refine lv_icmp_ge (tgt := 28) hx hb dX1_count_6 (by decide) (fun c1 => ?_) (fun c1 => ?_)
      · replace hf := it_t c1 hf
        refine lv_iload_n hx hb dX1_count_28 rfl (lv_at hl 2 rfl) ?_
        have hE9 := TL_e hT hf
        subst hE9
        exact bt_i S hr hlocks hB (by omega) trivial dX1_count_29
      · replace hf := it_f c1 hf
        refine lv_iload_n hx hb dX1_count_9 rfl (lv_at hl 2 rfl) ?_
        refine lv_aload_n hx hb dX1_count_10 rfl (lv_at hl 1 rfl) ?_
        refine lv_iload_n hx hb dX1_count_11 rfl (lv_at hl 3 rfl) ?_
        obtain ⟨v2, hv2, hf⟩ := ob_s hf
        obtain ⟨o3, hf, hT⟩ := TL_c hT hf
        refine hE.1 _ _ _ _ _ _ _ _ _ _ _ _ _ _ _ _ _ _ _ _ _ _ _ _ _ _ _ _ S hS hB (hts _ q413) hv2 hl.1 ⟨(by show _ ≤ (fE + 1); omega), (by show _ ≤ (lE + 40); omega)⟩ (Nat.le_of_ble_eq_true rfl) ⟨(TL_m hT).1, (TL_m hT).2⟩ dX1_count_12 (fun H locs hnv2 hB => ?_)
        obtain ⟨v4, hv4, hf⟩ := ob_s hf
        refine mc_X1_7 S hS.1 hv4 hl.1 ⟨(by show _ ≤ (fE + 1); omega), (by show _ ≤ (lE + 40); omega)⟩ (Nat.le_of_ble_eq_true rfl) ⟨(TL_m hT).1, (TL_m hT).2⟩ dX1_count_17 (fun _ => ?_)
        refine lv_iadd hx hb dX1_count_20 ?_
        refine lv_istore_n (i := 2) (lv' := [(2, .int (x2 + v4)), (0, .int x0), (1, .ref x1), (3, .int x3)]) hx hb dX1_count_21 rfl hl (by decide) rfl (fun ls hl => ?_)
        refine lv_iinc (v := (x3 + 1)) (lv' := [(3, .int (x3 + 1)), (2, .int (x2 + v4)), (0, .int x0), (1, .ref x1)]) hx hb dX1_count_22 hl (k := 3) rfl rfl (by decide) rfl (fun ls hl => ?_)
        refine lv_goto (tgt := 4) hx hb dX1_count_25 (by decide) ?_
        exact (ih) x0 x1 (x2 + v4) (x3 + 1) v2.2.1 (nc + v2.2.2.1) ls H locs (ce + v2.2.2.1) (sl + v2.2.2.2) o3 hB (by omega) hT (lv_sub (l' := [(0, .int x0), (1, .ref x1), (2, .int (x2 + v4)), (3, .int (x3 + 1))]) hl [2, 3, 1, 0] rfl) hf
  have hT : TL out out 0 0 := TL_0
  rw [f_X1_count] at hf
  refine lv_iconst hx hb dX1_count_0 kc_i0 ?_
  refine lv_istore_n (i := 2) (lv' := [(2, .int 0), (0, .int a0), (1, .ref a1)]) hx hb dX1_count_1 rfl hl (by decide) rfl (fun ls hl => ?_)
  refine lv_iconst hx hb dX1_count_2 kc_i0 ?_
  refine lv_istore_n (i := 3) (lv' := [(3, .int 0), (2, .int 0), (0, .int a0), (1, .ref a1)]) hx hb dX1_count_3 rfl hl (by decide) rfl (fun ls hl => ?_)
  exact (w4 FU) a0 a1 0 0 h nx ls s.heap [] 0 0 out hB (by omega) hT (lv_sub (l' := [(0, .int a0), (1, .ref a1), (2, .int 0), (3, .int 0)]) hl [2, 3, 1, 0] rfl) hf
set_option maxRecDepth 100000 in
theorem mc_X1_192 {a0 : Int32} {a1 : Nat} {out : Int32 × AH × Nat × Nat} (S : CallFix p m c cc nL s args lw_all RX1) (hE : IfOK l G E fE lE) (hS : SK G E.1 hSites A s) (hB : BI G A s.heap h nx H locs) (hf : f_X1_count E h nx a0 a1 = some out) (hsz : ls.size = nL) (hR : (fE + 1) + 1 ≤ R.frames ∧ 8 + (4 + 11) + (lE + 40) ≤ R.locals) (hW : (rest.map fun v => v.category).sum ≤ 8) (hcs : cells + out.2.2.1 ≤ R.cells ∧ slots + out.2.2.2 ≤ R.slots) (hdg : decode cc pc = .ok (.invokestatic 192, 3))  (kk : ∀ (H1 : Heap) (locs1 : List Loc), True → BI G A s.heap out.2.1 (nx + out.2.2.1) H1 locs1 → W p l e R s m args below meth c H1 locs1 (cells + out.2.2.1) (slots + out.2.2.2) Q (F0 m (pc + 3) ls (.int out.1 :: rest))) : W p l e R s m args below meth c H locs cells slots Q (F0 m pc ls (.ref a1 :: .int a0 :: rest)) := by
  have hN := hS.2.1
  exact br_w (va_runS (As := [.int a0, .ref a1]) S (mm_X1_count hE hf) (va_cwS 2 S.2.2.2.2 (lw_S q1199 q1200 q174 q1201) rfl rfl rfl hd_X1_count hR) (bPreS hS hB) rfl rfl hsz rfl (lv_room hW) hdg hcs) hB kk
theorem hd_X1_freeHomes : yX1_freeHomes.cls = RX1 ∧ yX1_freeHomes.cls ≠ "java/lang/invoke/MethodHandle" ∧ yX1_freeHomes.cls ≠ "java/lang/invoke/VarHandle" ∧ (parseMethodDescriptor yX1_freeHomes.desc).map (fun d => d.parameters.length) = some 1 := by decide +kernel
set_option maxHeartbeats 4000000 in
set_option maxRecDepth 100000 in
theorem mm_X1_freeHomes {o : Nat} {a0 : Nat} {out : Int32 × AH × Nat × Nat} (hE : IfOK l G E fE lE) (hf : f_X1_freeHomes E h nx o a0 = some out) : Met l yX1_freeHomes (ws_ yX1_freeHomes cX1_freeHomes 2 (some .int)) (rC (fE + 2) (lE + 3100) out.2.2.1 out.2.2.2) (bPc G E.1 hSites h nx [.ref o, .ref a0]) (bQ G (some (.int out.1)) True out.2.1 (nx + out.2.2.1) (AA h nx)) out.2.2.1 out.2.2.2 (AA h nx) := by
  refine bGo (by decide +kernel) (Nat.le_of_ble_eq_true rfl) (fun p e s m below meth c ls S hr hlocks hin hnm hS hB hl => ?_)
  have S : CallFix p m c cX1_freeHomes 2 s _ lw_all RX1 := S
  obtain ⟨hx, hb, hml, hown, hts⟩ := id S
  have hl : lv_has ls 2 [(0, .ref o), (1, .ref a0)] := hl
  have hT : TL out out 0 0 := TL_0
  rw [f_X1_freeHomes] at hf
  refine lv_aload_n hx hb dX1_freeHomes_0 rfl (lv_at hl 0 rfl) ?_
  obtain ⟨v1, hv1, hf⟩ := ob_s hf
  refine bg_X1_39 S hS hB (vR_s hv1) dX1_freeHomes_1 ?_
  obtain ⟨g2, hf⟩ := gd_t hf
  obtain ⟨v3, hv3, hf⟩ := ob_s hf
  refine mc_X1_130 (fE := fE) (lE := lE) S hS hB g2 hv3 hl.1 ⟨(by show _ ≤ (fE + 2); omega), (by show _ ≤ (lE + 3100); omega)⟩ (Nat.le_of_ble_eq_true rfl) ⟨(TL_m hT).1, (TL_m hT).2⟩ dX1_freeHomes_4 (fun _ => ?_)
  refine lv_aload_n hx hb dX1_freeHomes_7 rfl (lv_at hl 1 rfl) ?_
  obtain ⟨o4, hf, hT⟩ := TL_c hT hf
  refine b_lam S hS hB (k := 15) (vs := [.ref a0]) hnm rfl lamL_15 (lamV_c rfl rfl lamV_n) rfl hl.1 (by show _ ≤ (lE + 3100); simp only [List.map, List.sum_cons, List.sum_nil, Value.category]; omega) (TL_m hT).1 (TL_m hT).2 dX1_freeHomes_8 (fun H hB => ?_)
  obtain ⟨v5, hv5, hf⟩ := ob_s hf
  obtain ⟨o6, hf, hT⟩ := TL_c hT hf
  refine mc_X1_192 (fE := fE) (lE := lE) S hE hS hB hv5 hl.1 ⟨(by show _ ≤ (fE + 2); omega), (by show _ ≤ (lE + 3100); omega)⟩ (Nat.le_of_ble_eq_true rfl) ⟨(TL_m hT).1, (TL_m hT).2⟩ dX1_freeHomes_13 (fun H locs _ hB => ?_)
  have hE9 := TL_e hT hf
  subst hE9
  exact bt_i S hr hlocks hB (by omega) trivial dX1_freeHomes_16
set_option maxRecDepth 100000 in
theorem mc_X1_219 {o : Nat} {a0 : Nat} {out : Int32 × AH × Nat × Nat} (S : CallFix p m c cc nL s args lw_all RX1) (hE : IfOK l G E fE lE) (hS : SK G E.1 hSites A s) (hB : BI G A s.heap h nx H locs) (ho : isO h o 0 = true) (hf : f_X1_freeHomes E h nx o a0 = some out) (hsz : ls.size = nL) (hR : (fE + 2) + 1 ≤ R.frames ∧ 8 + (2 + 11) + (lE + 3100) ≤ R.locals) (hW : (rest.map fun v => v.category).sum ≤ 8) (hcs : cells + out.2.2.1 ≤ R.cells ∧ slots + out.2.2.2 ≤ R.slots) (hdg : decode cc pc = .ok (.invokevirtual 219, 3))  (kk : ∀ (H1 : Heap) (locs1 : List Loc), True → BI G A s.heap out.2.1 (nx + out.2.2.1) H1 locs1 → W p l e R s m args below meth c H1 locs1 (cells + out.2.2.1) (slots + out.2.2.2) Q (F0 m (pc + 3) ls (.int out.1 :: rest))) : W p l e R s m args below meth c H locs cells slots Q (F0 m pc ls (.ref a0 :: .ref o :: rest)) := by
  have hN := hS.2.1
  obtain ⟨fs, he⟩ := isO_s ho
  exact br_w (va_runV (As := [.ref a0]) S (mm_X1_freeHomes hE hf) (cwV 1 S.2.2.2.2 (lw_V q1192 q1194 qs35 q174 q1195) rfl rfl rfl hd_X1_freeHomes hR) (bPreV hS hB (ci := 0) rfl he) rfl rfl hsz rfl (lv_room hW) hdg hcs) hB kk
theorem hd_X1_inQueue : yX1_inQueue.cls = RX1 ∧ yX1_inQueue.cls ≠ "java/lang/invoke/MethodHandle" ∧ yX1_inQueue.cls ≠ "java/lang/invoke/VarHandle" ∧ (parseMethodDescriptor yX1_inQueue.desc).map (fun d => d.parameters.length) = some 1 := by decide +kernel
set_option maxHeartbeats 4000000 in
set_option maxRecDepth 100000 in
theorem mm_X1_inQueue {o : Nat} {a0 : Nat} {out : Int32 × AH × Nat × Nat} (hE : IfOK l G E fE lE) (hf : f_X1_inQueue E h nx o a0 = some out) : Met l yX1_inQueue (ws_ yX1_inQueue cX1_inQueue 2 (some .int)) (rC (fE + 2) (lE + 3100) out.2.2.1 out.2.2.2) (bPc G E.1 hSites h nx [.ref o, .ref a0]) (bQ G (some (.int out.1)) True out.2.1 (nx + out.2.2.1) (AA h nx)) out.2.2.1 out.2.2.2 (AA h nx) := by
  refine bGo (by decide +kernel) (Nat.le_of_ble_eq_true rfl) (fun p e s m below meth c ls S hr hlocks hin hnm hS hB hl => ?_)
  have S : CallFix p m c cX1_inQueue 2 s _ lw_all RX1 := S
  obtain ⟨hx, hb, hml, hown, hts⟩ := id S
  have hl : lv_has ls 2 [(0, .ref o), (1, .ref a0)] := hl
  have hT : TL out out 0 0 := TL_0
  rw [f_X1_inQueue] at hf
  refine lv_aload_n hx hb dX1_inQueue_0 rfl (lv_at hl 0 rfl) ?_
  obtain ⟨v1, hv1, hf⟩ := ob_s hf
  refine bg_X1_51 S hS hB (vR_s hv1) dX1_inQueue_1 ?_
  obtain ⟨g2, hf⟩ := gd_t hf
  obtain ⟨v3, hv3, hf⟩ := ob_s hf
  refine mc_X1_130 (fE := fE) (lE := lE) S hS hB g2 hv3 hl.1 ⟨(by show _ ≤ (fE + 2); omega), (by show _ ≤ (lE + 3100); omega)⟩ (Nat.le_of_ble_eq_true rfl) ⟨(TL_m hT).1, (TL_m hT).2⟩ dX1_inQueue_4 (fun _ => ?_)
  refine lv_aload_n hx hb dX1_inQueue_7 rfl (lv_at hl 1 rfl) ?_
  obtain ⟨o4, hf, hT⟩ := TL_c hT hf
  refine b_lam S hS hB (k := 16) (vs := [.ref a0]) hnm rfl lamL_16 (lamV_c rfl rfl lamV_n) rfl hl.1 (by show _ ≤ (lE + 3100); simp only [List.map, List.sum_cons, List.sum_nil, Value.category]; omega) (TL_m hT).1 (TL_m hT).2 dX1_inQueue_8 (fun H hB => ?_)
  obtain ⟨v5, hv5, hf⟩ := ob_s hf
  obtain ⟨o6, hf, hT⟩ := TL_c hT hf
  refine mc_X1_192 (fE := fE) (lE := lE) S hE hS hB hv5 hl.1 ⟨(by show _ ≤ (fE + 2); omega), (by show _ ≤ (lE + 3100); omega)⟩ (Nat.le_of_ble_eq_true rfl) ⟨(TL_m hT).1, (TL_m hT).2⟩ dX1_inQueue_13 (fun H locs _ hB => ?_)
  have hE9 := TL_e hT hf
  subst hE9
  exact bt_i S hr hlocks hB (by omega) trivial dX1_inQueue_16
set_option maxRecDepth 100000 in
theorem mc_X1_223 {o : Nat} {a0 : Nat} {out : Int32 × AH × Nat × Nat} (S : CallFix p m c cc nL s args lw_all RX1) (hE : IfOK l G E fE lE) (hS : SK G E.1 hSites A s) (hB : BI G A s.heap h nx H locs) (ho : isO h o 0 = true) (hf : f_X1_inQueue E h nx o a0 = some out) (hsz : ls.size = nL) (hR : (fE + 2) + 1 ≤ R.frames ∧ 8 + (2 + 11) + (lE + 3100) ≤ R.locals) (hW : (rest.map fun v => v.category).sum ≤ 8) (hcs : cells + out.2.2.1 ≤ R.cells ∧ slots + out.2.2.2 ≤ R.slots) (hdg : decode cc pc = .ok (.invokevirtual 223, 3))  (kk : ∀ (H1 : Heap) (locs1 : List Loc), True → BI G A s.heap out.2.1 (nx + out.2.2.1) H1 locs1 → W p l e R s m args below meth c H1 locs1 (cells + out.2.2.1) (slots + out.2.2.2) Q (F0 m (pc + 3) ls (.int out.1 :: rest))) : W p l e R s m args below meth c H locs cells slots Q (F0 m pc ls (.ref a0 :: .ref o :: rest)) := by
  have hN := hS.2.1
  obtain ⟨fs, he⟩ := isO_s ho
  exact br_w (va_runV (As := [.ref a0]) S (mm_X1_inQueue hE hf) (cwV 1 S.2.2.2.2 (lw_V q1202 q1204 qs36 q174 q1205) rfl rfl rfl hd_X1_inQueue hR) (bPreV hS hB (ci := 0) rfl he) rfl rfl hsz rfl (lv_room hW) hdg hcs) hB kk
theorem hd_X1_many : yX1_many.cls = RX1 ∧ yX1_many.cls ≠ "java/lang/invoke/MethodHandle" ∧ yX1_many.cls ≠ "java/lang/invoke/VarHandle" ∧ (parseMethodDescriptor yX1_many.desc).map (fun d => d.parameters.length) = some 1 := by decide +kernel
set_option maxHeartbeats 4000000 in
set_option maxRecDepth 100000 in
theorem mm_X1_many {o : Nat} {a0 : Int32} {out : Int32 × AH × Nat × Nat} (hE : IfOK l G E fE lE) (hf : f_X1_many E h nx o a0 = some out) : Met l yX1_many (ws_ yX1_many cX1_many 2 (some .int)) (rC (fE + 3) (lE + 3121) out.2.2.1 out.2.2.2) (bPc G E.1 hSites h nx [.ref o, .int a0]) (bQ G (some (.int out.1)) True out.2.1 (nx + out.2.2.1) (AA h nx)) out.2.2.1 out.2.2.2 (AA h nx) := by
  refine bGo (by decide +kernel) (Nat.le_of_ble_eq_true rfl) (fun p e s m below meth c ls S hr hlocks hin hnm hS hB hl => ?_)
  have S : CallFix p m c cX1_many 2 s _ lw_all RX1 := S
  obtain ⟨hx, hb, hml, hown, hts⟩ := id S
  have hl : lv_has ls 2 [(0, .ref o), (1, .int a0)] := hl
  have w18 : ∀ (x0 : Nat) (x1 : Int32) (y0 : Nat) (y1 : Int32) (hc : AH) (nc : Nat) (ls : Array Slot) (H : Heap) (locs : List Loc) (ce sl : Nat) (o1 : Int32 × AH × Nat × Nat), BI G (AA h nx) s.heap hc nc H locs → nc = nx + ce → TL out o1 ce sl → lv_has ls 2 [(0, .ref x0), (1, .int x1)] → f_X1_many_18 E x0 x1 y0 y1 hc nc = some o1 → W p l e (rC (fE + 3) (lE + 3121) out.2.2.1 out.2.2.2) s m ([.ref o, .int a0] : List Value).toArray below meth c H locs ce sl (MQ below (bQ G (some (.int out.1)) True out.2.1 (nx + out.2.2.1) (AA h nx)) ([.ref o, .int a0] : List Value).toArray s out.2.2.1 out.2.2.2 (AA h nx)) (F0 m 18 ls [.int y1, .ref y0]) := by
    intro x0 x1 y0 y1 hc nc ls H locs ce sl o1 hB hn hT hl hf
    rw [f_X1_many_18] at hf
    obtain ⟨g1, hf⟩ := gd_t hf
    obtain ⟨v2, hv2, hf⟩ := ob_s hf
    obtain ⟨o3, hf, hT⟩ := TL_c hT hf
    refine mc_X1_155 (fE := fE) (lE := lE) S hS hB g1 hv2 hl.1 ⟨(by show _ ≤ (fE + 3); omega), (by show _ ≤ (lE + 3121); omega)⟩ (Nat.le_of_ble_eq_true rfl) ⟨(TL_m hT).1, (TL_m hT).2⟩ dX1_many_18 (fun H locs hnv2 hB => ?_)
    refine lv_if_ne (tgt := 26) hx hb dX1_many_21 (by decide) (fun c4 => ?_) (fun c4 => ?_)
    · replace hf := it_f c4 hf
      refine lv_iload_n hx hb dX1_many_26 rfl (lv_at hl 1 rfl) ?_
      by_cases c5 : x1 = 0
      · replace hf := it_t c5 hf
        refine lv_tableIn (tgt := 76) (off := 49) hx hb dX1_many_27 (by rw [c5]; decide) (by rw [c5]; decide) (by rw [c5]; decide) (by decide) ?_
        refine lv_aload_n hx hb dX1_many_76 rfl (lv_at hl 0 rfl) ?_
        obtain ⟨v6, hv6, hf⟩ := ob_s hf
        refine bg_X1_39 S hS hB (vR_s hv6) dX1_many_77 ?_
        obtain ⟨g7, hf⟩ := gd_t hf
        obtain ⟨v8, hv8, hf⟩ := ob_s hf
        refine mc_X1_130 (fE := fE) (lE := lE) S hS hB g7 hv8 hl.1 ⟨(by show _ ≤ (fE + 3); omega), (by show _ ≤ (lE + 3121); omega)⟩ (Nat.le_of_ble_eq_true rfl) ⟨(TL_m hT).1, (TL_m hT).2⟩ dX1_many_80 (fun _ => ?_)
        have hE9 := TL_e hT hf
        subst hE9
        exact bt_i S hr hlocks hB (by omega) trivial dX1_many_83
      · replace hf := it_f c5 hf
        by_cases c9 : x1 = 1
        · replace hf := it_t c9 hf
          refine lv_tableIn (tgt := 84) (off := 57) hx hb dX1_many_27 (by rw [c9]; decide) (by rw [c9]; decide) (by rw [c9]; decide) (by decide) ?_
          refine lv_aload_n hx hb dX1_many_84 rfl (lv_at hl 0 rfl) ?_
          obtain ⟨v10, hv10, hf⟩ := ob_s hf
          refine bg_X1_51 S hS hB (vR_s hv10) dX1_many_85 ?_
          obtain ⟨g11, hf⟩ := gd_t hf
          obtain ⟨v12, hv12, hf⟩ := ob_s hf
          refine mc_X1_130 (fE := fE) (lE := lE) S hS hB g11 hv12 hl.1 ⟨(by show _ ≤ (fE + 3); omega), (by show _ ≤ (lE + 3121); omega)⟩ (Nat.le_of_ble_eq_true rfl) ⟨(TL_m hT).1, (TL_m hT).2⟩ dX1_many_88 (fun _ => ?_)
          have hE9 := TL_e hT hf
          subst hE9
          exact bt_i S hr hlocks hB (by omega) trivial dX1_many_91
        · replace hf := it_f c9 hf
          by_cases c13 : x1 = (nI 2)
          · replace hf := it_t c13 hf
            refine lv_tableIn (tgt := 92) (off := 65) hx hb dX1_many_27 (by rw [c13]; decide) (by rw [c13]; decide) (by rw [c13]; decide) (by decide) ?_
            refine lv_aload_n hx hb dX1_many_92 rfl (lv_at hl 0 rfl) ?_
            obtain ⟨v14, hv14, hf⟩ := ob_s hf
            refine bg_X1_70 S hS hB (vR_s hv14) dX1_many_93 ?_
            obtain ⟨v15, hv15, hf⟩ := ob_s hf
            refine bg_X1_213 S hS hB (vI_s hv15) dX1_many_96 ?_
            have hE9 := TL_e hT hf
            subst hE9
            exact bt_i S hr hlocks hB (by omega) trivial dX1_many_99
          · replace hf := it_f c13 hf
            by_cases c16 : x1 = (nI 3)
            · replace hf := it_t c16 hf
              refine lv_tableIn (tgt := 100) (off := 73) hx hb dX1_many_27 (by rw [c16]; decide) (by rw [c16]; decide) (by rw [c16]; decide) (by decide) ?_
              refine lv_aload_n hx hb dX1_many_100 rfl (lv_at hl 0 rfl) ?_
              obtain ⟨v17, hv17, hf⟩ := ob_s hf
              refine bg_X1_70 S hS hB (vR_s hv17) dX1_many_101 ?_
              obtain ⟨v18, hv18, hf⟩ := ob_s hf
              refine bg_X1_204 S hS hB (vR_s hv18) dX1_many_104 ?_
              obtain ⟨g19, hf⟩ := gd_t hf
              obtain ⟨v20, hv20, hf⟩ := ob_s hf
              refine mc_X1_130 (fE := fE) (lE := lE) S hS hB g19 hv20 hl.1 ⟨(by show _ ≤ (fE + 3); omega), (by show _ ≤ (lE + 3121); omega)⟩ (Nat.le_of_ble_eq_true rfl) ⟨(TL_m hT).1, (TL_m hT).2⟩ dX1_many_107 (fun _ => ?_)
              have hE9 := TL_e hT hf
              subst hE9
              exact bt_i S hr hlocks hB (by omega) trivial dX1_many_110
            · replace hf := it_f c16 hf
              by_cases c21 : x1 = (nI 4)
              · replace hf := it_t c21 hf
                refine lv_tableIn (tgt := 111) (off := 84) hx hb dX1_many_27 (by rw [c21]; decide) (by rw [c21]; decide) (by rw [c21]; decide) (by decide) ?_
                refine lv_aload_n hx hb dX1_many_111 rfl (lv_at hl 0 rfl) ?_
                obtain ⟨v22, hv22, hf⟩ := ob_s hf
                refine bg_X1_51 S hS hB (vR_s hv22) dX1_many_112 ?_
                obtain ⟨g23, hf⟩ := gd_t hf
                obtain ⟨v24, hv24, hf⟩ := ob_s hf
                refine mc_X1_130 (fE := fE) (lE := lE) S hS hB g23 hv24 hl.1 ⟨(by show _ ≤ (fE + 3); omega), (by show _ ≤ (lE + 3121); omega)⟩ (Nat.le_of_ble_eq_true rfl) ⟨(TL_m hT).1, (TL_m hT).2⟩ dX1_many_115 (fun _ => ?_)
                refine lv_aload_n hx hb dX1_many_118 rfl (lv_at hl 0 rfl) ?_
                obtain ⟨o25, hf, hT⟩ := TL_c hT hf
                refine b_lam S hS hB (k := 14) (vs := [.ref x0]) hnm rfl lamL_14 (lamV_c rfl rfl lamV_n) rfl hl.1 (by show _ ≤ (lE + 3121); simp only [List.map, List.sum_cons, List.sum_nil, Value.category]; omega) (TL_m hT).1 (TL_m hT).2 dX1_many_119 (fun H hB => ?_)
                obtain ⟨v26, hv26, hf⟩ := ob_s hf
                obtain ⟨o27, hf, hT⟩ := TL_c hT hf
                refine mc_X1_200 (fE := fE) (lE := lE) S hE hS hB hv26 hl.1 ⟨(by show _ ≤ (fE + 3); omega), (by show _ ≤ (lE + 3121); omega)⟩ (Nat.le_of_ble_eq_true rfl) ⟨(TL_m hT).1, (TL_m hT).2⟩ dX1_many_124 (fun H locs _ hB => ?_)
                have hE9 := TL_e hT hf
                subst hE9
                exact bt_i S hr hlocks hB (by omega) trivial dX1_many_127
              · replace hf := it_f c21 hf
                by_cases c28 : x1 = (nI 5)
                · replace hf := it_t c28 hf
                  refine lv_tableIn (tgt := 128) (off := 101) hx hb dX1_many_27 (by rw [c28]; decide) (by rw [c28]; decide) (by rw [c28]; decide) (by decide) ?_
                  refine lv_aload_n hx hb dX1_many_128 rfl (lv_at hl 0 rfl) ?_
                  refine lv_aload_n hx hb dX1_many_129 rfl (lv_at hl 0 rfl) ?_
                  obtain ⟨v29, hv29, hf⟩ := ob_s hf
                  refine bg_X1_70 S hS hB (vR_s hv29) dX1_many_130 ?_
                  obtain ⟨g30, hf⟩ := gd_t hf
                  obtain ⟨v31, hv31, hf⟩ := ob_s hf
                  obtain ⟨o32, hf, hT⟩ := TL_c hT hf
                  refine mc_X1_219 (fE := fE) (lE := lE) S hE hS hB g30 hv31 hl.1 ⟨(by show _ ≤ (fE + 3); omega), (by show _ ≤ (lE + 3121); omega)⟩ (Nat.le_of_ble_eq_true rfl) ⟨(TL_m hT).1, (TL_m hT).2⟩ dX1_many_133 (fun H locs _ hB => ?_)
                  have hE9 := TL_e hT hf
                  subst hE9
                  exact bt_i S hr hlocks hB (by omega) trivial dX1_many_136
                · replace hf := it_f c28 hf
                  by_cases c33 : x1 = (nI 6)
                  · replace hf := it_t c33 hf
                    refine lv_tableIn (tgt := 137) (off := 110) hx hb dX1_many_27 (by rw [c33]; decide) (by rw [c33]; decide) (by rw [c33]; decide) (by decide) ?_
                    refine lv_aload_n hx hb dX1_many_137 rfl (lv_at hl 0 rfl) ?_
                    refine lv_aload_n hx hb dX1_many_138 rfl (lv_at hl 0 rfl) ?_
                    obtain ⟨v34, hv34, hf⟩ := ob_s hf
                    refine bg_X1_70 S hS hB (vR_s hv34) dX1_many_139 ?_
                    obtain ⟨g35, hf⟩ := gd_t hf
                    obtain ⟨v36, hv36, hf⟩ := ob_s hf
                    obtain ⟨o37, hf, hT⟩ := TL_c hT hf
                    refine mc_X1_223 (fE := fE) (lE := lE) S hE hS hB g35 hv36 hl.1 ⟨(by show _ ≤ (fE + 3); omega), (by show _ ≤ (lE + 3121); omega)⟩ (Nat.le_of_ble_eq_true rfl) ⟨(TL_m hT).1, (TL_m hT).2⟩ dX1_many_142 (fun H locs _ hB => ?_)
                    have hE9 := TL_e hT hf
                    subst hE9
                    exact bt_i S hr hlocks hB (by omega) trivial dX1_many_145
                  · replace hf := it_f c33 hf
                    by_cases c38 : x1 = (nI 7)
                    · replace hf := it_t c38 hf
                      refine lv_tableIn (tgt := 146) (off := 119) hx hb dX1_many_27 (by rw [c38]; decide) (by rw [c38]; decide) (by rw [c38]; decide) (by decide) ?_
                      refine lv_aload_n hx hb dX1_many_146 rfl (lv_at hl 0 rfl) ?_
                      obtain ⟨v39, hv39, hf⟩ := ob_s hf
                      refine bg_X1_77 S hS hB (vR_s hv39) dX1_many_147 ?_
                      obtain ⟨g40, hf⟩ := gd_t hf
                      obtain ⟨v41, hv41, hf⟩ := ob_s hf
                      refine mc_X1_130 (fE := fE) (lE := lE) S hS hB g40 hv41 hl.1 ⟨(by show _ ≤ (fE + 3); omega), (by show _ ≤ (lE + 3121); omega)⟩ (Nat.le_of_ble_eq_true rfl) ⟨(TL_m hT).1, (TL_m hT).2⟩ dX1_many_150 (fun _ => ?_)
                      have hE9 := TL_e hT hf
                      subst hE9
                      exact bt_i S hr hlocks hB (by omega) trivial dX1_many_153
                    · replace hf := it_f c38 hf
                      by_cases c42 : x1 = (nI 8)
                      · replace hf := it_t c42 hf
                        refine lv_tableIn (tgt := 154) (off := 127) hx hb dX1_many_27 (by rw [c42]; decide) (by rw [c42]; decide) (by rw [c42]; decide) (by decide) ?_
                        refine lv_aload_n hx hb dX1_many_154 rfl (lv_at hl 0 rfl) ?_
                        obtain ⟨v43, hv43, hf⟩ := ob_s hf
                        refine bg_X1_70 S hS hB (vR_s hv43) dX1_many_155 ?_
                        obtain ⟨v44, hv44, hf⟩ := ob_s hf
                        refine bg_X1_226 S hS hB (vI_s hv44) dX1_many_158 ?_
                        have hE9 := TL_e hT hf
                        subst hE9
                        exact bt_i S hr hlocks hB (by omega) trivial dX1_many_161
                      · replace hf := it_f c42 hf
                        refine lv_tableOut (tgt := 162) hx hb dX1_many_27 (by have n0 := lv_neT (a := 0) c5 (by decide); have n1 := lv_neT (a := 1) c9 (by decide); have n2 := lv_neT (a := 2) c13 (by decide); have n3 := lv_neT (a := 3) c16 (by decide); have n4 := lv_neT (a := 4) c21 (by decide); have n5 := lv_neT (a := 5) c28 (by decide); have n6 := lv_neT (a := 6) c33 (by decide); have n7 := lv_neT (a := 7) c38 (by decide); have n8 := lv_neT (a := 8) c42 (by decide); omega) (by decide) ?_
                        refine lv_aload_n hx hb dX1_many_162 rfl (lv_at hl 0 rfl) ?_
                        obtain ⟨v45, hv45, hf⟩ := ob_s hf
                        refine bg_X1_70 S hS hB (vR_s hv45) dX1_many_163 ?_
                        obtain ⟨v46, hv46, hf⟩ := ob_s hf
                        refine bg_X1_229 S hS hB (vR_s hv46) dX1_many_166 ?_
                        obtain ⟨g47, hf⟩ := gd_t hf
                        obtain ⟨v48, hv48, hf⟩ := ob_s hf
                        refine mc_X1_130 (fE := fE) (lE := lE) S hS hB g47 hv48 hl.1 ⟨(by show _ ≤ (fE + 3); omega), (by show _ ≤ (lE + 3121); omega)⟩ (Nat.le_of_ble_eq_true rfl) ⟨(TL_m hT).1, (TL_m hT).2⟩ dX1_many_169 (fun _ => ?_)
                        have hE9 := TL_e hT hf
                        subst hE9
                        exact bt_i S hr hlocks hB (by omega) trivial dX1_many_172
    · replace hf := it_t c4 hf
      refine lv_iconst hx hb dX1_many_24 kc_im1 ?_
      have hE9 := TL_e hT hf
      subst hE9
      exact bt_i S hr hlocks hB (by omega) trivial dX1_many_25
  have hT : TL out out 0 0 := TL_0
  rw [f_X1_many] at hf
  refine lv_aload_n hx hb dX1_many_0 rfl (lv_at hl 0 rfl) ?_
  refine lv_iload_n hx hb dX1_many_1 rfl (lv_at hl 1 rfl) ?_
  refine lv_i2l hx hb dX1_many_2 rfl ?_
  refine lv_lconst (v := 0) hx hb dX1_many_3 (by decide) ?_
  refine lv_ldc2 hx hb hown (hts _ q1184) dX1_many_4 ?_
  obtain ⟨v1, hv1, hf⟩ := ob_s hf
  refine mc_X1_134 S hS.1 hv1 hl.1 ⟨(by show _ ≤ (fE + 3); omega), (by show _ ≤ (lE + 3121); omega)⟩ (Nat.le_of_ble_eq_true rfl) ⟨(TL_m hT).1, (TL_m hT).2⟩ dX1_many_7 (fun hnv1 => ?_)
  refine lv_if_eq (tgt := 17) hx hb dX1_many_10 (by decide) (fun c2 => ?_) (fun c2 => ?_)
  · replace hf := it_t c2 hf
    refine lv_iconst hx hb dX1_many_17 kc_i1 ?_
    exact (w18) o a0 o 1 h nx ls s.heap [] 0 0 out hB (by omega) hT hl hf
  · replace hf := it_f c2 hf
    refine lv_iconst hx hb dX1_many_13 kc_i0 ?_
    refine lv_goto (tgt := 18) hx hb dX1_many_14 (by decide) ?_
    exact (w18) o a0 o 0 h nx ls s.heap [] 0 0 out hB (by omega) hT hl hf
theorem hd_X1_lambda_many_7 : yX1_lambda_many_7.cls = RX1 ∧ yX1_lambda_many_7.cls ≠ "java/lang/invoke/MethodHandle" ∧ yX1_lambda_many_7.cls ≠ "java/lang/invoke/VarHandle" ∧ (parseMethodDescriptor yX1_lambda_many_7.desc).map (fun d => d.parameters.length) = some 1 := by decide +kernel
set_option maxHeartbeats 4000000 in
set_option maxRecDepth 100000 in
theorem mm_X1_lambda_many_7 {o : Nat} {a0 : Int32} {out : Int32} (hf : f_X1_lambda_many_7 E h o a0 = some out) : Met l yX1_lambda_many_7 (ws_ yX1_lambda_many_7 cX1_lambda_many_7 2 (some .int)) (rM (fE + 2) (lE + 41)) (bPc G E.1 hSites h nx [.ref o, .int a0]) (gR (some (.int out)) True) 0 0 (fun _ => False) := by
  refine bGo (by decide +kernel) (Nat.le_of_ble_eq_true rfl) (fun p e s m below meth c ls S hr hlocks hin hnm hS hB hl => ?_)
  have S : CallFix p m c cX1_lambda_many_7 2 s _ lw_all RX1 := S
  obtain ⟨hx, hb, hml, hown, hts⟩ := id S
  have hl : lv_has ls 2 [(0, .ref o), (1, .int a0)] := hl
  rw [f_X1_lambda_many_7] at hf
  refine lv_aload_n hx hb dX1_lambda_many_7_0 rfl (lv_at hl 0 rfl) ?_
  obtain ⟨v1, hv1, hf⟩ := ob_s hf
  refine bg_X1_70 S hS hB (vR_s hv1) dX1_lambda_many_7_1 ?_
  refine lv_iload_n hx hb dX1_lambda_many_7_4 rfl (lv_at hl 1 rfl) ?_
  obtain ⟨g2, hf⟩ := gd_t hf
  obtain ⟨v3, hv3, hf⟩ := ob_s hf
  refine mc_X1_308 (fE := fE) (lE := lE) S hS hB g2 hv3 hl.1 ⟨(by show _ ≤ (fE + 2); omega), (by show _ ≤ (lE + 41); omega)⟩ (Nat.le_of_ble_eq_true rfl) ⟨Nat.zero_le _, Nat.zero_le _⟩ dX1_lambda_many_7_5 (fun _ => ?_)
  have hE9 := Option.some.inj hf
  subst hE9
  exact gt_ri S hr hlocks trivial dX1_lambda_many_7_8
end
