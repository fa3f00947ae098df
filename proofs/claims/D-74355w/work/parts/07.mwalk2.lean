section
variable {l : Launch} {D : va_G} {cl : List vw_C} {tys : List (ClassId × FieldType)} {mi : Nat} {cI cJ cB : ClassId} {o : Nat} {ad : Nat → Nat} {th : Int32} {tp : Int32} {st : Int32} {fk : Int32} {fp : Int32} {ac : Int32} {si : Int32} {fr : Int32} {tt : Int32} {kd : Int32} {nu : Int32} {fa : Int32} {pl : Int32} {fo : Int32} {wd : Int64} {ci : Int32} {gr : Int32} {lm : Int32} {om : Int32} {nw : (Nat → Int32)} {rd : (Nat → Int32)} {aa : (Nat → Int32)} {kp : (Nat → Int32)} {ta : (Nat → Int32)} {nm : (Nat → Int64)} {rn : (Nat → Int64)} {gv : (Nat → Int32)} {gt : (Nat → Int32)} {rw : (Nat → Int32)} {rh : (Nat → Int32)} {lg : (Nat → Int32)} {lh : (Nat → Int32)} {ou : (Nat → Int32)}
variable {p : Program} {e : Env} {R : Room} {s : State} {m : MethodId} {args : Array Value} {below : List Frame} {meth : Method} {c : Code} {H H0 : Heap} {locs : List Loc} {cells slots : Nat} {Q : State → Prop} {cc : ByteArray} {nL pc : Nat} {ls : Array Slot} {rest : List Value}
theorem hd_X3_readHome : yX3_readHome.cls = RX3 ∧ yX3_readHome.cls ≠ "java/lang/invoke/MethodHandle" ∧ yX3_readHome.cls ≠ "java/lang/invoke/VarHandle" ∧ (parseMethodDescriptor yX3_readHome.desc).map (fun d => d.parameters.length) = some 0 := by decide +kernel
set_option maxHeartbeats 4000000 in
set_option maxRecDepth 100000 in
theorem mm_X3_readHome  {out : Int32 × Int32 × Int32 × Int32 × Int32 × Int32 × Int32 × Int64 × (Nat → Int32) × (Nat → Int64)} (hC : mC cl tys mi cI cJ cB) (hD : mD o ad) (hf : f_X3_readHome si ta fr tt kd nu fa pl wd rd rn = some out) : Met l yX3_readHome (ws_ yX3_readHome cX3_readHome 3 (some .boolean)) (rM 6 130) (gPc D cl tys [.ref o] (mW mi cI cJ cB o ad th tp st fk fp ac si fr tt kd nu fa pl fo wd ci gr lm om nw rd aa kp ta nm rn gv gt rw rh lg lh ou)) (gQ D cl (some (.int out.1)) (narrow .boolean (.int out.1) = .int out.1) (mW mi cI cJ cB o ad th tp st fk fp ac si out.2.1 out.2.2.1 out.2.2.2.1 out.2.2.2.2.1 out.2.2.2.2.2.1 out.2.2.2.2.2.2.1 fo out.2.2.2.2.2.2.2.1 ci gr lm om nw out.2.2.2.2.2.2.2.2.1 aa kp ta nm out.2.2.2.2.2.2.2.2.2 gv gt rw rh lg lh ou) (mA o ad)) 0 0 (mA o ad) := by
  refine gGo (by decide +kernel) (Nat.le_of_ble_eq_true rfl) (fun p e s m below meth c ls S hr hlocks hK hP hl => ?_)
  have S : CallFix p m c cX3_readHome 3 s _ lw_all RX3 := S
  obtain ⟨hx, hb, hml, hown, hts⟩ := id S
  have hl : lv_has ls 3 [(0, .ref o)] := hl
  suffices hg : ∀ (H : Heap) (locs : List Loc), va_P D cl (mW mi cI cJ cB o ad th tp st fk fp ac si fr tt kd nu fa pl fo wd ci gr lm om nw rd aa kp ta nm rn gv gt rw rh lg lh ou) H → va_S (mA o ad) s.heap H locs → W p l e (rM 6 130) s m ([.ref o] : List Value).toArray below meth c H locs 0 0 (MQ below (gQ D cl (some (.int out.1)) (narrow .boolean (.int out.1) = .int out.1) (mW mi cI cJ cB o ad th tp st fk fp ac si out.2.1 out.2.2.1 out.2.2.2.1 out.2.2.2.2.1 out.2.2.2.2.2.1 out.2.2.2.2.2.2.1 fo out.2.2.2.2.2.2.2.1 ci gr lm om nw out.2.2.2.2.2.2.2.2.1 aa kp ta nm out.2.2.2.2.2.2.2.2.2 gv gt rw rh lg lh ou) (mA o ad)) ([.ref o] : List Value).toArray s 0 0 (mA o ad)) (F0 m 0 ls []) from hg s.heap [] hP va_S.rf
  clear hP
  intro H locs hP hS
  rw [f_X3_readHome] at hf
  refine lv_aload_n hx hb dX3_readHome_0 rfl (lv_at hl 0 rfl) ?_
  refine mg_2 S hC hK hP dX3_readHome_1 ?_
  refine lv_sipush hx hb dX3_readHome_4 kc_s230 ?_
  refine ma_2 S hC hK hP kv_230_390 kn_230 dX3_readHome_7 ?_
  refine lv_istore_n (i := 1) (lv' := [(1, .int (rd 230)), (0, .ref o)]) hx hb dX3_readHome_8 rfl hl (by decide) rfl (fun ls hl => ?_)
  refine lv_iload_n hx hb dX3_readHome_9 rfl (lv_at hl 0 rfl) ?_
  refine lv_bipush hx hb dX3_readHome_10 kc_b10 ?_
  refine lv_icmp_ne (tgt := 21) hx hb dX3_readHome_12 (by decide) (fun c1 => ?_) (fun c1 => ?_)
  · replace hf := it_f c1 hf
    refine lv_aload_n hx hb dX3_readHome_21 rfl (lv_at hl 1 rfl) ?_
    obtain ⟨v2, hv2, hf⟩ := ob_s hf
    refine mc_X3_X3_go S hC hD hK hP hS hv2 hl.1 ⟨Nat.le_of_ble_eq_true rfl, Nat.le_of_ble_eq_true rfl⟩ (Nat.le_of_ble_eq_true rfl) ⟨Nat.zero_le _, Nat.zero_le _⟩ dX3_readHome_22 (fun H locs _ hP hS => ?_)
    refine lv_bipush hx hb dX3_readHome_25 kc_b8 ?_
    refine lv_iload_n hx hb dX3_readHome_27 rfl (lv_at hl 0 rfl) ?_
    refine lv_imul hx hb dX3_readHome_28 ?_
    refine lv_istore_n (i := 2) (lv' := [(2, .int ((nI 8) * (rd 230))), (1, .int (rd 230)), (0, .ref o)]) hx hb dX3_readHome_29 rfl hl (by decide) rfl (fun ls hl => ?_)
    refine lv_aload_n hx hb dX3_readHome_30 rfl (lv_at hl 2 rfl) ?_
    refine lv_iload_n hx hb dX3_readHome_31 rfl (lv_at hl 1 rfl) ?_
    obtain ⟨v3, hv3, hf⟩ := ob_s hf
    refine mc_X3_X3_readName S hC hD hK hP hS hv3 hl.1 ⟨Nat.le_of_ble_eq_true rfl, Nat.le_of_ble_eq_true rfl⟩ (Nat.le_of_ble_eq_true rfl) ⟨Nat.zero_le _, Nat.zero_le _⟩ dX3_readHome_32 (fun H locs hnv3 hP hS => ?_)
    refine lv_if_eq (tgt := 63) hx hb dX3_readHome_35 (by decide) (fun c4 => ?_) (fun c4 => ?_)
    · replace hf := it_t c4 hf
      refine lv_iconst hx hb dX3_readHome_63 kc_i0 ?_
      have hE := Option.some.inj hf
      subst hE
      exact gt_wz S hr hlocks nb0 hP hS dX3_readHome_64
    · replace hf := it_f c4 hf
      refine lv_aload_n hx hb dX3_readHome_38 rfl (lv_at hl 2 rfl) ?_
      refine lv_iload_n hx hb dX3_readHome_39 rfl (lv_at hl 0 rfl) ?_
      refine lv_iconst hx hb dX3_readHome_40 kc_i0 ?_
      refine lv_iadd hx hb dX3_readHome_41 ?_
      refine lv_iconst hx hb dX3_readHome_42 kc_i1 ?_
      refine lv_iconst hx hb dX3_readHome_43 kc_i4 ?_
      obtain ⟨v5, hv5, hf⟩ := ob_s hf
      refine mc_X3_X3_readNumber S hC hD hK hP hS hv5 hl.1 ⟨Nat.le_of_ble_eq_true rfl, Nat.le_of_ble_eq_true rfl⟩ (Nat.le_of_ble_eq_true rfl) ⟨Nat.zero_le _, Nat.zero_le _⟩ dX3_readHome_44 (fun H locs hnv5 hP hS => ?_)
      refine lv_if_eq (tgt := 63) hx hb dX3_readHome_47 (by decide) (fun c6 => ?_) (fun c6 => ?_)
      · replace hf := it_t c6 hf
        refine lv_iconst hx hb dX3_readHome_63 kc_i0 ?_
        have hE := Option.some.inj hf
        subst hE
        exact gt_wz S hr hlocks nb0 hP hS dX3_readHome_64
      · replace hf := it_f c6 hf
        refine lv_aload_n hx hb dX3_readHome_50 rfl (lv_at hl 2 rfl) ?_
        refine lv_iload_n hx hb dX3_readHome_51 rfl (lv_at hl 0 rfl) ?_
        refine lv_iconst hx hb dX3_readHome_52 kc_i1 ?_
        refine lv_iadd hx hb dX3_readHome_53 ?_
        refine lv_iconst hx hb dX3_readHome_54 kc_i0 ?_
        refine lv_bipush hx hb dX3_readHome_55 kc_b7 ?_
        obtain ⟨v7, hv7, hf⟩ := ob_s hf
        refine mc_X3_X3_readNumber S hC hD hK hP hS hv7 hl.1 ⟨Nat.le_of_ble_eq_true rfl, Nat.le_of_ble_eq_true rfl⟩ (Nat.le_of_ble_eq_true rfl) ⟨Nat.zero_le _, Nat.zero_le _⟩ dX3_readHome_57 (fun H locs hnv7 hP hS => ?_)
        refine lv_if_ne (tgt := 65) hx hb dX3_readHome_60 (by decide) (fun c8 => ?_) (fun c8 => ?_)
        · replace hf := it_f c8 hf
          refine lv_aload_n hx hb dX3_readHome_65 rfl (lv_at hl 2 rfl) ?_
          refine mg_2 S hC hK hP dX3_readHome_66 ?_
          refine lv_iload_n hx hb dX3_readHome_69 rfl (lv_at hl 0 rfl) ?_
          refine lv_iconst hx hb dX3_readHome_70 kc_i2 ?_
          refine lv_iadd hx hb dX3_readHome_71 ?_
          refine lv_iconst hx hb dX3_readHome_72 kc_im1 ?_
          obtain ⟨g9, hf⟩ := gd_t hf
          refine ms_2 S hC hD hK hP hS (inR_vp g9) rfl dX3_readHome_73 (fun H locs hP hS => ?_)
          refine lv_aload_n hx hb dX3_readHome_74 rfl (lv_at hl 2 rfl) ?_
          refine mg_2 S hC hK hP dX3_readHome_75 ?_
          refine lv_sipush hx hb dX3_readHome_78 kc_s230 ?_
          refine lv_dup2_11 hx hb dX3_readHome_81 rfl rfl ?_
          refine ma_2 S hC hK hP kv_230_390 kn_230 dX3_readHome_82 ?_
          refine lv_iconst hx hb dX3_readHome_83 kc_i1 ?_
          refine lv_iadd hx hb dX3_readHome_84 ?_
          refine ms_2 S hC hD hK hP hS kv_230_390 kn_230 dX3_readHome_85 (fun H locs hP hS => ?_)
          obtain ⟨m10, em10⟩ : ∃ z, z = (upd (upd v7.2.2.2.2.2.2.2.2 (((nI 8) * (rd 230)) + (nI 2)).toNatClampNeg (-1)) 230 (((upd v7.2.2.2.2.2.2.2.2 (((nI 8) * (rd 230)) + (nI 2)).toNatClampNeg (-1)) 230) + 1)) := ⟨_, rfl⟩
          replace hf := bd_e em10 hf
          rw [← em10] at hP
          refine lv_aload_n hx hb dX3_readHome_86 rfl (lv_at hl 2 rfl) ?_
          obtain ⟨v11, hv11, hf⟩ := ob_s hf
          refine mc_X3_X3_readEnd S hC hD hK hP hS hv11 hl.1 ⟨Nat.le_of_ble_eq_true rfl, Nat.le_of_ble_eq_true rfl⟩ (Nat.le_of_ble_eq_true rfl) ⟨Nat.zero_le _, Nat.zero_le _⟩ dX3_readHome_87 (fun H locs hnv11 hP hS => ?_)
          have hE := Option.some.inj hf
          subst hE
          exact gt_wz S hr hlocks hnv11 hP hS dX3_readHome_90
        · replace hf := it_t c8 hf
          refine lv_iconst hx hb dX3_readHome_63 kc_i0 ?_
          have hE := Option.some.inj hf
          subst hE
          exact gt_wz S hr hlocks nb0 hP hS dX3_readHome_64
  · replace hf := it_t c1 hf
    refine lv_aload_n hx hb dX3_readHome_15 rfl (lv_at hl 1 rfl) ?_
    refine lv_iconst hx hb dX3_readHome_16 kc_i5 ?_
    obtain ⟨v12, hv12, hf⟩ := ob_s hf
    refine mc_X3_X3_bad S hC hD hK hP hS hv12 hl.1 ⟨Nat.le_of_ble_eq_true rfl, Nat.le_of_ble_eq_true rfl⟩ (Nat.le_of_ble_eq_true rfl) ⟨Nat.zero_le _, Nat.zero_le _⟩ dX3_readHome_17 (fun H locs hnv12 hP hS => ?_)
    have hE := Option.some.inj hf
    subst hE
    exact gt_wz S hr hlocks hnv12 hP hS dX3_readHome_20
set_option maxRecDepth 100000 in
theorem mc_X3_X3_readHome  {out : Int32 × Int32 × Int32 × Int32 × Int32 × Int32 × Int32 × Int64 × (Nat → Int32) × (Nat → Int64)} (S : CallFix p m c cc nL s args lw_all RX3) (hC : mC cl tys mi cI cJ cB) (hD : mD o ad) (hK : va_K D cl tys s) (hP : va_P D cl (mW mi cI cJ cB o ad th tp st fk fp ac si fr tt kd nu fa pl fo wd ci gr lm om nw rd aa kp ta nm rn gv gt rw rh lg lh ou) H) (hS : va_S (mA o ad) H0 H locs) (hf : f_X3_readHome si ta fr tt kd nu fa pl wd rd rn = some out) (hsz : ls.size = nL) (hR : 6 + 1 ≤ R.frames ∧ 8 + (3 + 11) + 130 ≤ R.locals) (hW : (rest.map fun v => v.category).sum ≤ 8) (hcs : cells ≤ R.cells ∧ slots ≤ R.slots) (hdg : decode cc pc = .ok (.invokevirtual 177, 3)) (kk : ∀ (H1 : Heap) (locs1 : List Loc), (narrow .boolean (.int out.1) = .int out.1) → va_P D cl (mW mi cI cJ cB o ad th tp st fk fp ac si out.2.1 out.2.2.1 out.2.2.2.1 out.2.2.2.2.1 out.2.2.2.2.2.1 out.2.2.2.2.2.2.1 fo out.2.2.2.2.2.2.2.1 ci gr lm om nw out.2.2.2.2.2.2.2.2.1 aa kp ta nm out.2.2.2.2.2.2.2.2.2 gv gt rw rh lg lh ou) H1 → va_S (mA o ad) H0 H1 locs1 → W p l e R s m args below meth c H1 locs1 cells slots Q (F0 m (pc + 3) ls (.int out.1 :: rest))) : W p l e R s m args below meth c H locs cells slots Q (F0 m pc ls (.ref o :: rest)) :=
  gc_Vw (As := []) S (mm_X3_readHome hC hD hf) (cwV 0 S.2.2.2.2 (lw_V q2155 q2157 qs99 q189 q2158) rfl rfl rfl hd_X3_readHome hR) (gPreV hK hP hC.1 (q0 := 0) rfl) rfl hsz rfl hW hdg hcs hS kk
theorem hd_X3_readLine : yX3_readLine.cls = RX3 ∧ yX3_readLine.cls ≠ "java/lang/invoke/MethodHandle" ∧ yX3_readLine.cls ≠ "java/lang/invoke/VarHandle" ∧ (parseMethodDescriptor yX3_readLine.desc).map (fun d => d.parameters.length) = some 0 := by decide +kernel
set_option maxHeartbeats 4000000 in
set_option maxRecDepth 100000 in
theorem mm_X3_readLine  {out : Int32 × Int32 × Int32 × Int32 × Int32 × Int32 × Int32 × Int64 × (Nat → Int32) × (Nat → Int64)} (hC : mC cl tys mi cI cJ cB) (hD : mD o ad) (hf : f_X3_readLine si ta fr tt kd nu fa pl wd rd rn = some out) : Met l yX3_readLine (ws_ yX3_readLine cX3_readLine 1 (some .boolean)) (rM 7 152) (gPc D cl tys [.ref o] (mW mi cI cJ cB o ad th tp st fk fp ac si fr tt kd nu fa pl fo wd ci gr lm om nw rd aa kp ta nm rn gv gt rw rh lg lh ou)) (gQ D cl (some (.int out.1)) (narrow .boolean (.int out.1) = .int out.1) (mW mi cI cJ cB o ad th tp st fk fp ac si out.2.1 out.2.2.1 out.2.2.2.1 out.2.2.2.2.1 out.2.2.2.2.2.1 out.2.2.2.2.2.2.1 fo out.2.2.2.2.2.2.2.1 ci gr lm om nw out.2.2.2.2.2.2.2.2.1 aa kp ta nm out.2.2.2.2.2.2.2.2.2 gv gt rw rh lg lh ou) (mA o ad)) 0 0 (mA o ad) := by
  refine gGo (by decide +kernel) (Nat.le_of_ble_eq_true rfl) (fun p e s m below meth c ls S hr hlocks hK hP hl => ?_)
  have S : CallFix p m c cX3_readLine 1 s _ lw_all RX3 := S
  obtain ⟨hx, hb, hml, hown, hts⟩ := id S
  have hl : lv_has ls 1 [(0, .ref o)] := hl
  suffices hg : ∀ (H : Heap) (locs : List Loc), va_P D cl (mW mi cI cJ cB o ad th tp st fk fp ac si fr tt kd nu fa pl fo wd ci gr lm om nw rd aa kp ta nm rn gv gt rw rh lg lh ou) H → va_S (mA o ad) s.heap H locs → W p l e (rM 7 152) s m ([.ref o] : List Value).toArray below meth c H locs 0 0 (MQ below (gQ D cl (some (.int out.1)) (narrow .boolean (.int out.1) = .int out.1) (mW mi cI cJ cB o ad th tp st fk fp ac si out.2.1 out.2.2.1 out.2.2.2.1 out.2.2.2.2.1 out.2.2.2.2.2.1 out.2.2.2.2.2.2.1 fo out.2.2.2.2.2.2.2.1 ci gr lm om nw out.2.2.2.2.2.2.2.2.1 aa kp ta nm out.2.2.2.2.2.2.2.2.2 gv gt rw rh lg lh ou) (mA o ad)) ([.ref o] : List Value).toArray s 0 0 (mA o ad)) (F0 m 0 ls []) from hg s.heap [] hP va_S.rf
  clear hP
  intro H locs hP hS
  rw [f_X3_readLine] at hf
  refine lv_aload_n hx hb dX3_readLine_0 rfl (lv_at hl 0 rfl) ?_
  refine lv_bipush hx hb dX3_readLine_1 kc_b6 ?_
  obtain ⟨v1, hv1, hf⟩ := ob_s hf
  refine mc_X3_X3_isWord S hC hK hP hv1 hl.1 ⟨Nat.le_of_ble_eq_true rfl, Nat.le_of_ble_eq_true rfl⟩ (Nat.le_of_ble_eq_true rfl) ⟨Nat.zero_le _, Nat.zero_le _⟩ dX3_readLine_3 (fun hnv1 => ?_)
  refine lv_if_eq (tgt := 14) hx hb dX3_readLine_6 (by decide) (fun c2 => ?_) (fun c2 => ?_)
  · replace hf := it_t c2 hf
    refine lv_aload_n hx hb dX3_readLine_14 rfl (lv_at hl 0 rfl) ?_
    refine lv_bipush hx hb dX3_readLine_15 kc_b7 ?_
    obtain ⟨v3, hv3, hf⟩ := ob_s hf
    refine mc_X3_X3_isWord S hC hK hP hv3 hl.1 ⟨Nat.le_of_ble_eq_true rfl, Nat.le_of_ble_eq_true rfl⟩ (Nat.le_of_ble_eq_true rfl) ⟨Nat.zero_le _, Nat.zero_le _⟩ dX3_readLine_17 (fun hnv3 => ?_)
    refine lv_if_eq (tgt := 28) hx hb dX3_readLine_20 (by decide) (fun c4 => ?_) (fun c4 => ?_)
    · replace hf := it_t c4 hf
      refine lv_aload_n hx hb dX3_readLine_28 rfl (lv_at hl 0 rfl) ?_
      refine lv_bipush hx hb dX3_readLine_29 kc_b8 ?_
      obtain ⟨v5, hv5, hf⟩ := ob_s hf
      refine mc_X3_X3_isWord S hC hK hP hv5 hl.1 ⟨Nat.le_of_ble_eq_true rfl, Nat.le_of_ble_eq_true rfl⟩ (Nat.le_of_ble_eq_true rfl) ⟨Nat.zero_le _, Nat.zero_le _⟩ dX3_readLine_31 (fun hnv5 => ?_)
      refine lv_if_eq (tgt := 44) hx hb dX3_readLine_34 (by decide) (fun c6 => ?_) (fun c6 => ?_)
      · replace hf := it_t c6 hf
        refine lv_aload_n hx hb dX3_readLine_44 rfl (lv_at hl 0 rfl) ?_
        refine lv_iconst hx hb dX3_readLine_45 kc_i2 ?_
        obtain ⟨v7, hv7, hf⟩ := ob_s hf
        refine mc_X3_X3_bad S hC hD hK hP hS hv7 hl.1 ⟨Nat.le_of_ble_eq_true rfl, Nat.le_of_ble_eq_true rfl⟩ (Nat.le_of_ble_eq_true rfl) ⟨Nat.zero_le _, Nat.zero_le _⟩ dX3_readLine_46 (fun H locs hnv7 hP hS => ?_)
        have hE := Option.some.inj hf
        subst hE
        exact gt_wz S hr hlocks hnv7 hP hS dX3_readLine_49
      · replace hf := it_f c6 hf
        refine lv_aload_n hx hb dX3_readLine_37 rfl (lv_at hl 0 rfl) ?_
        obtain ⟨v8, hv8, hf⟩ := ob_s hf
        refine mc_X3_X3_readRule S hC hD hK hP hS hv8 hl.1 ⟨Nat.le_of_ble_eq_true rfl, Nat.le_of_ble_eq_true rfl⟩ (Nat.le_of_ble_eq_true rfl) ⟨Nat.zero_le _, Nat.zero_le _⟩ dX3_readLine_38 (fun H locs hnv8 hP hS => ?_)
        refine lv_goto (tgt := 49) hx hb dX3_readLine_41 (by decide) ?_
        have hE := Option.some.inj hf
        subst hE
        exact gt_wz S hr hlocks hnv8 hP hS dX3_readLine_49
    · replace hf := it_f c4 hf
      refine lv_aload_n hx hb dX3_readLine_23 rfl (lv_at hl 0 rfl) ?_
      obtain ⟨v9, hv9, hf⟩ := ob_s hf
      refine mc_X3_X3_readHouse S hC hD hK hP hS hv9 hl.1 ⟨Nat.le_of_ble_eq_true rfl, Nat.le_of_ble_eq_true rfl⟩ (Nat.le_of_ble_eq_true rfl) ⟨Nat.zero_le _, Nat.zero_le _⟩ dX3_readLine_24 (fun H locs hnv9 hP hS => ?_)
      have hE := Option.some.inj hf
      subst hE
      exact gt_wz S hr hlocks hnv9 hP hS dX3_readLine_27
  · replace hf := it_f c2 hf
    refine lv_aload_n hx hb dX3_readLine_9 rfl (lv_at hl 0 rfl) ?_
    obtain ⟨v10, hv10, hf⟩ := ob_s hf
    refine mc_X3_X3_readHome S hC hD hK hP hS hv10 hl.1 ⟨Nat.le_of_ble_eq_true rfl, Nat.le_of_ble_eq_true rfl⟩ (Nat.le_of_ble_eq_true rfl) ⟨Nat.zero_le _, Nat.zero_le _⟩ dX3_readLine_10 (fun H locs hnv10 hP hS => ?_)
    have hE := Option.some.inj hf
    subst hE
    exact gt_wz S hr hlocks hnv10 hP hS dX3_readLine_13
set_option maxRecDepth 100000 in
theorem mc_X3_X3_readLine  {out : Int32 × Int32 × Int32 × Int32 × Int32 × Int32 × Int32 × Int64 × (Nat → Int32) × (Nat → Int64)} (S : CallFix p m c cc nL s args lw_all RX3) (hC : mC cl tys mi cI cJ cB) (hD : mD o ad) (hK : va_K D cl tys s) (hP : va_P D cl (mW mi cI cJ cB o ad th tp st fk fp ac si fr tt kd nu fa pl fo wd ci gr lm om nw rd aa kp ta nm rn gv gt rw rh lg lh ou) H) (hS : va_S (mA o ad) H0 H locs) (hf : f_X3_readLine si ta fr tt kd nu fa pl wd rd rn = some out) (hsz : ls.size = nL) (hR : 7 + 1 ≤ R.frames ∧ 8 + (1 + 11) + 152 ≤ R.locals) (hW : (rest.map fun v => v.category).sum ≤ 8) (hcs : cells ≤ R.cells ∧ slots ≤ R.slots) (hdg : decode cc pc = .ok (.invokevirtual 189, 3)) (kk : ∀ (H1 : Heap) (locs1 : List Loc), (narrow .boolean (.int out.1) = .int out.1) → va_P D cl (mW mi cI cJ cB o ad th tp st fk fp ac si out.2.1 out.2.2.1 out.2.2.2.1 out.2.2.2.2.1 out.2.2.2.2.2.1 out.2.2.2.2.2.2.1 fo out.2.2.2.2.2.2.2.1 ci gr lm om nw out.2.2.2.2.2.2.2.2.1 aa kp ta nm out.2.2.2.2.2.2.2.2.2 gv gt rw rh lg lh ou) H1 → va_S (mA o ad) H0 H1 locs1 → W p l e R s m args below meth c H1 locs1 cells slots Q (F0 m (pc + 3) ls (.int out.1 :: rest))) : W p l e R s m args below meth c H locs cells slots Q (F0 m pc ls (.ref o :: rest)) :=
  gc_Vw (As := []) S (mm_X3_readLine hC hD hf) (cwV 0 S.2.2.2.2 (lw_V q2138 q2140 qs97 q189 q2141) rfl rfl rfl hd_X3_readLine hR) (gPreV hK hP hC.1 (q0 := 0) rfl) rfl hsz rfl hW hdg hcs hS kk
theorem hd_X3_copies : yX3_copies.cls ≠ "java/lang/invoke/MethodHandle" ∧ yX3_copies.cls ≠ "java/lang/invoke/VarHandle" ∧ (parseMethodDescriptor yX3_copies.desc).map (fun d => d.parameters.length) = some 2 := by decide +kernel
set_option maxHeartbeats 4000000 in
set_option maxRecDepth 100000 in
theorem mm_X3_copies_rd_nw  {out : (Nat → Int32)} (hC : mC cl tys mi cI cJ cB) (hD : mD o ad) (hf : f_X3_copies_rd_nw rd nw = some out) : Met l yX3_copies (ws_ yX3_copies cX3_copies 3 none) (rM 0 0) (gPc D cl tys [.ref (ad 2), .ref (ad 1)] (mW mi cI cJ cB o ad th tp st fk fp ac si fr tt kd nu fa pl fo wd ci gr lm om nw rd aa kp ta nm rn gv gt rw rh lg lh ou)) (gQ D cl none True (mW mi cI cJ cB o ad th tp st fk fp ac si fr tt kd nu fa pl fo wd ci gr lm om out rd aa kp ta nm rn gv gt rw rh lg lh ou) (mA o ad)) 0 0 (mA o ad) := by
  refine gGo (by decide +kernel) (Nat.le_of_ble_eq_true rfl) (fun p e s m below meth c ls S hr hlocks hK hP hl => ?_)
  have S : CallFix p m c cX3_copies 3 s _ lw_all RX3 := S
  obtain ⟨hx, hb, hml, hown, hts⟩ := id S
  have hl : lv_has ls 3 [(0, .ref (ad 2)), (1, .ref (ad 1))] := hl
  have w2 : ∀ (n : Nat) , ∀ (x2 : Int32) (nw : (Nat → Int32)) (ls : Array Slot) (H : Heap) (locs : List Loc), va_P D cl (mW mi cI cJ cB o ad th tp st fk fp ac si fr tt kd nu fa pl fo wd ci gr lm om nw rd aa kp ta nm rn gv gt rw rh lg lh ou) H → va_S (mA o ad) s.heap H locs → lv_has ls 3 [(0, .ref (ad 2)), (1, .ref (ad 1)), (2, .int x2)] → f_X3_copies_rd_nw_2 n rd x2 nw = some out → W p l e (rM 0 0) s m ([.ref (ad 2), .ref (ad 1)] : List Value).toArray below meth c H locs 0 0 (MQ below (gQ D cl none True (mW mi cI cJ cB o ad th tp st fk fp ac si fr tt kd nu fa pl fo wd ci gr lm om out rd aa kp ta nm rn gv gt rw rh lg lh ou) (mA o ad)) ([.ref (ad 2), .ref (ad 1)] : List Value).toArray s 0 0 (mA o ad)) (F0 m 2 ls []) := by
    intro n
    induction n with
    | zero =>
      intro x2 nw ls H locs hP hS hl hf
      exact absurd hf (by rw [f_X3_copies_rd_nw_2]; exact nofun)
    | succ n ih =>
      intro x2 nw ls H locs hP hS hl hf
      rw [f_X3_copies_rd_nw_2] at hf
      refine lv_iload_n hx hb dX3_copies_2 rfl (lv_at hl 2 rfl) ?_
      refine lv_sipush hx hb dX3_copies_3 kc_s390 ?_
      refine lv_icmp_ge (tgt := 21) hx hb dX3_copies_6 (by decide) (fun c1 => ?_) (fun c1 => ?_)
      · replace hf := it_t c1 hf
        have hE := Option.some.inj hf
        subst hE
        exact gt_wv S hr hlocks trivial hP hS dX3_copies_21
      · replace hf := it_f c1 hf
        refine lv_aload_n hx hb dX3_copies_9 rfl (lv_at hl 1 rfl) ?_
        refine lv_iload_n hx hb dX3_copies_10 rfl (lv_at hl 2 rfl) ?_
        refine lv_aload_n hx hb dX3_copies_11 rfl (lv_at hl 0 rfl) ?_
        refine lv_iload_n hx hb dX3_copies_12 rfl (lv_at hl 2 rfl) ?_
        obtain ⟨g2, hf⟩ := gd_t hf
        refine ma_2 S hC hK hP (inR_vp g2) rfl dX3_copies_13 ?_
        obtain ⟨g3, hf⟩ := gd_t hf
        refine ms_1 S hC hD hK hP hS (inR_vp g3) rfl dX3_copies_14 (fun H locs hP hS => ?_)
        refine lv_iinc (v := (x2 + 1)) (lv' := [(2, .int (x2 + 1)), (0, .ref (ad 2)), (1, .ref (ad 1))]) hx hb dX3_copies_15 hl (k := 2) rfl rfl (by decide) rfl (fun ls hl => ?_)
        refine lv_goto (tgt := 2) hx hb dX3_copies_18 (by decide) ?_
        exact (ih) (x2 + 1) (upd nw x2.toNatClampNeg (rd x2.toNatClampNeg)) ls H locs hP hS (lv_sub (l' := [(0, .ref (ad 2)), (1, .ref (ad 1)), (2, .int (x2 + 1))]) hl [1, 2, 0] rfl) hf
  suffices hg : ∀ (H : Heap) (locs : List Loc), va_P D cl (mW mi cI cJ cB o ad th tp st fk fp ac si fr tt kd nu fa pl fo wd ci gr lm om nw rd aa kp ta nm rn gv gt rw rh lg lh ou) H → va_S (mA o ad) s.heap H locs → W p l e (rM 0 0) s m ([.ref (ad 2), .ref (ad 1)] : List Value).toArray below meth c H locs 0 0 (MQ below (gQ D cl none True (mW mi cI cJ cB o ad th tp st fk fp ac si fr tt kd nu fa pl fo wd ci gr lm om out rd aa kp ta nm rn gv gt rw rh lg lh ou) (mA o ad)) ([.ref (ad 2), .ref (ad 1)] : List Value).toArray s 0 0 (mA o ad)) (F0 m 0 ls []) from hg s.heap [] hP va_S.rf
  clear hP
  intro H locs hP hS
  rw [f_X3_copies_rd_nw] at hf
  refine lv_iconst hx hb dX3_copies_0 kc_i0 ?_
  refine lv_istore_n (i := 2) (lv' := [(2, .int 0), (0, .ref (ad 2)), (1, .ref (ad 1))]) hx hb dX3_copies_1 rfl hl (by decide) rfl (fun ls hl => ?_)
  exact (w2 FU) 0 nw ls H locs hP hS (lv_sub (l' := [(0, .ref (ad 2)), (1, .ref (ad 1)), (2, .int 0)]) hl [1, 2, 0] rfl) hf
set_option maxRecDepth 100000 in
theorem mc_X3_X3_copies_rd_nw  {out : (Nat → Int32)} (S : CallFix p m c cc nL s args lw_all RX3) (hC : mC cl tys mi cI cJ cB) (hD : mD o ad) (hK : va_K D cl tys s) (hP : va_P D cl (mW mi cI cJ cB o ad th tp st fk fp ac si fr tt kd nu fa pl fo wd ci gr lm om nw rd aa kp ta nm rn gv gt rw rh lg lh ou) H) (hS : va_S (mA o ad) H0 H locs) (hf : f_X3_copies_rd_nw rd nw = some out) (hsz : ls.size = nL) (hR : 0 + 1 ≤ R.frames ∧ 8 + (3 + 11) + 0 ≤ R.locals) (hW : (rest.map fun v => v.category).sum ≤ 8) (hcs : cells ≤ R.cells ∧ slots ≤ R.slots) (hdg : decode cc pc = .ok (.invokestatic 192, 3)) (kk : ∀ (H1 : Heap) (locs1 : List Loc), True → va_P D cl (mW mi cI cJ cB o ad th tp st fk fp ac si fr tt kd nu fa pl fo wd ci gr lm om out rd aa kp ta nm rn gv gt rw rh lg lh ou) H1 → va_S (mA o ad) H0 H1 locs1 → W p l e R s m args below meth c H1 locs1 cells slots Q (F0 m (pc + 3) ls (rest))) : W p l e R s m args below meth c H locs cells slots Q (F0 m pc ls (.ref (ad 1) :: .ref (ad 2) :: rest)) :=
  gc_Sv (As := [.ref (ad 2), .ref (ad 1)]) S (mm_X3_copies_rd_nw hC hD hf) (va_cwS 2 S.2.2.2.2 (lw_S q2212 q2213 q189 q2214) rfl rfl rfl hd_X3_copies hR) (gPreS hK hP) rfl hsz rfl hW hdg hcs hS kk
theorem hd_X3_gives : yX3_gives.cls = RX3 ∧ yX3_gives.cls ≠ "java/lang/invoke/MethodHandle" ∧ yX3_gives.cls ≠ "java/lang/invoke/VarHandle" ∧ (parseMethodDescriptor yX3_gives.desc).map (fun d => d.parameters.length) = some 1 := by decide +kernel
set_option maxHeartbeats 4000000 in
set_option maxRecDepth 100000 in
theorem mm_X3_gives {a0 : Int32} {out : Int32 × Int32 × Int32} (hC : mC cl tys mi cI cJ cB) (hD : mD o ad) (hf : f_X3_gives th st a0 = some out) : Met l yX3_gives (ws_ yX3_gives cX3_gives 2 (some .int)) (rM 0 0) (gPc D cl tys [.ref o, .int a0] (mW mi cI cJ cB o ad th tp st fk fp ac si fr tt kd nu fa pl fo wd ci gr lm om nw rd aa kp ta nm rn gv gt rw rh lg lh ou)) (gQ D cl (some (.int out.1)) True (mW mi cI cJ cB o ad out.2.1 tp out.2.2 fk fp ac si fr tt kd nu fa pl fo wd ci gr lm om nw rd aa kp ta nm rn gv gt rw rh lg lh ou) (mA o ad)) 0 0 (mA o ad) := by
  refine gGo (by decide +kernel) (Nat.le_of_ble_eq_true rfl) (fun p e s m below meth c ls S hr hlocks hK hP hl => ?_)
  have S : CallFix p m c cX3_gives 2 s _ lw_all RX3 := S
  obtain ⟨hx, hb, hml, hown, hts⟩ := id S
  have hl : lv_has ls 2 [(0, .ref o), (1, .int a0)] := hl
  suffices hg : ∀ (H : Heap) (locs : List Loc), va_P D cl (mW mi cI cJ cB o ad th tp st fk fp ac si fr tt kd nu fa pl fo wd ci gr lm om nw rd aa kp ta nm rn gv gt rw rh lg lh ou) H → va_S (mA o ad) s.heap H locs → W p l e (rM 0 0) s m ([.ref o, .int a0] : List Value).toArray below meth c H locs 0 0 (MQ below (gQ D cl (some (.int out.1)) True (mW mi cI cJ cB o ad out.2.1 tp out.2.2 fk fp ac si fr tt kd nu fa pl fo wd ci gr lm om nw rd aa kp ta nm rn gv gt rw rh lg lh ou) (mA o ad)) ([.ref o, .int a0] : List Value).toArray s 0 0 (mA o ad)) (F0 m 0 ls []) from hg s.heap [] hP va_S.rf
  clear hP
  intro H locs hP hS
  rw [f_X3_gives] at hf
  refine lv_aload_n hx hb dX3_gives_0 rfl (lv_at hl 0 rfl) ?_
  refine lv_iconst hx hb dX3_gives_1 kc_i0 ?_
  refine mp_0 S hC hD hK hP hS dX3_gives_2 (fun H locs hP hS => ?_)
  refine lv_aload_n hx hb dX3_gives_5 rfl (lv_at hl 0 rfl) ?_
  refine lv_iconst hx hb dX3_gives_6 kc_i0 ?_
  refine mp_9 S hC hD hK hP hS dX3_gives_7 (fun H locs hP hS => ?_)
  refine lv_iload_n hx hb dX3_gives_10 rfl (lv_at hl 1 rfl) ?_
  have hE := Option.some.inj hf
  subst hE
  exact gt_wi S hr hlocks trivial hP hS dX3_gives_11
set_option maxRecDepth 100000 in
theorem mc_X3_X3_gives {a0 : Int32} {out : Int32 × Int32 × Int32} (S : CallFix p m c cc nL s args lw_all RX3) (hC : mC cl tys mi cI cJ cB) (hD : mD o ad) (hK : va_K D cl tys s) (hP : va_P D cl (mW mi cI cJ cB o ad th tp st fk fp ac si fr tt kd nu fa pl fo wd ci gr lm om nw rd aa kp ta nm rn gv gt rw rh lg lh ou) H) (hS : va_S (mA o ad) H0 H locs) (hf : f_X3_gives th st a0 = some out) (hsz : ls.size = nL) (hR : 0 + 1 ≤ R.frames ∧ 8 + (2 + 11) + 0 ≤ R.locals) (hW : (rest.map fun v => v.category).sum ≤ 8) (hcs : cells ≤ R.cells ∧ slots ≤ R.slots) (hdg : decode cc pc = .ok (.invokevirtual 199, 3)) (kk : ∀ (H1 : Heap) (locs1 : List Loc), True → va_P D cl (mW mi cI cJ cB o ad out.2.1 tp out.2.2 fk fp ac si fr tt kd nu fa pl fo wd ci gr lm om nw rd aa kp ta nm rn gv gt rw rh lg lh ou) H1 → va_S (mA o ad) H0 H1 locs1 → W p l e R s m args below meth c H1 locs1 cells slots Q (F0 m (pc + 3) ls (.int out.1 :: rest))) : W p l e R s m args below meth c H locs cells slots Q (F0 m pc ls (.int a0 :: .ref o :: rest)) :=
  gc_Vw (As := [.int a0]) S (mm_X3_gives hC hD hf) (cwV 1 S.2.2.2.2 (lw_V q2215 q2217 qs111 q189 q2218) rfl rfl rfl hd_X3_gives hR) (gPreV hK hP hC.1 (q0 := 0) rfl) rfl hsz rfl hW hdg hcs hS kk
theorem hd_X3_load : yX3_load.cls = RX3 ∧ yX3_load.cls ≠ "java/lang/invoke/MethodHandle" ∧ yX3_load.cls ≠ "java/lang/invoke/VarHandle" ∧ (parseMethodDescriptor yX3_load.desc).map (fun d => d.parameters.length) = some 1 := by decide +kernel
set_option maxHeartbeats 4000000 in
set_option maxRecDepth 100000 in
theorem mm_X3_load {a0 : Int32} {out : Int32 × Int32 × Int32 × Int32 × Int32 × Int32 × Int32 × Int32 × Int32 × Int32 × Int32 × Int32 × Int32 × Int32 × Int64 × (Nat → Int32) × (Nat → Int32) × (Nat → Int64) × (Nat → Int64)} (hC : mC cl tys mi cI cJ cB) (hD : mD o ad) (hf : f_X3_load ta th tp st fk fp ac si fr tt kd nu fa pl wd nw rd nm rn a0 = some out) : Met l yX3_load (ws_ yX3_load cX3_load 4 (some .int)) (rM 8 172) (gPc D cl tys [.ref o, .int a0] (mW mi cI cJ cB o ad th tp st fk fp ac si fr tt kd nu fa pl fo wd ci gr lm om nw rd aa kp ta nm rn gv gt rw rh lg lh ou)) (gQ D cl (some (.int out.1)) True (mW mi cI cJ cB o ad out.2.1 out.2.2.1 out.2.2.2.1 out.2.2.2.2.1 out.2.2.2.2.2.1 out.2.2.2.2.2.2.1 out.2.2.2.2.2.2.2.1 out.2.2.2.2.2.2.2.2.1 out.2.2.2.2.2.2.2.2.2.1 out.2.2.2.2.2.2.2.2.2.2.1 out.2.2.2.2.2.2.2.2.2.2.2.1 out.2.2.2.2.2.2.2.2.2.2.2.2.1 out.2.2.2.2.2.2.2.2.2.2.2.2.2.1 fo out.2.2.2.2.2.2.2.2.2.2.2.2.2.2.1 ci gr lm om out.2.2.2.2.2.2.2.2.2.2.2.2.2.2.2.1 out.2.2.2.2.2.2.2.2.2.2.2.2.2.2.2.2.1 aa kp ta out.2.2.2.2.2.2.2.2.2.2.2.2.2.2.2.2.2.1 out.2.2.2.2.2.2.2.2.2.2.2.2.2.2.2.2.2.2 gv gt rw rh lg lh ou) (mA o ad)) 0 0 (mA o ad) := by
  refine gGo (by decide +kernel) (Nat.le_of_ble_eq_true rfl) (fun p e s m below meth c ls S hr hlocks hK hP hl => ?_)
  have S : CallFix p m c cX3_load 4 s _ lw_all RX3 := S
  obtain ⟨hx, hb, hml, hown, hts⟩ := id S
  have hl : lv_has ls 4 [(0, .ref o), (1, .int a0)] := hl
  have w115 : ∀ (n : Nat) , ∀ (x3 : Int32) (th : Int32) (tp : Int32) (st : Int32) (fk : Int32) (fp : Int32) (ac : Int32) (si : Int32) (fr : Int32) (tt : Int32) (kd : Int32) (nu : Int32) (fa : Int32) (pl : Int32) (wd : Int64) (nw : (Nat → Int32)) (rd : (Nat → Int32)) (nm : (Nat → Int64)) (rn : (Nat → Int64)) (ls : Array Slot) (H : Heap) (locs : List Loc), va_P D cl (mW mi cI cJ cB o ad th tp st fk fp ac si fr tt kd nu fa pl fo wd ci gr lm om nw rd aa kp ta nm rn gv gt rw rh lg lh ou) H → va_S (mA o ad) s.heap H locs → lv_has ls 4 [(0, .ref o), (3, .int x3)] → f_X3_load_115 n ta x3 th tp st fk fp ac si fr tt kd nu fa pl wd nw rd nm rn = some out → W p l e (rM 8 172) s m ([.ref o, .int a0] : List Value).toArray below meth c H locs 0 0 (MQ below (gQ D cl (some (.int out.1)) True (mW mi cI cJ cB o ad out.2.1 out.2.2.1 out.2.2.2.1 out.2.2.2.2.1 out.2.2.2.2.2.1 out.2.2.2.2.2.2.1 out.2.2.2.2.2.2.2.1 out.2.2.2.2.2.2.2.2.1 out.2.2.2.2.2.2.2.2.2.1 out.2.2.2.2.2.2.2.2.2.2.1 out.2.2.2.2.2.2.2.2.2.2.2.1 out.2.2.2.2.2.2.2.2.2.2.2.2.1 out.2.2.2.2.2.2.2.2.2.2.2.2.2.1 fo out.2.2.2.2.2.2.2.2.2.2.2.2.2.2.1 ci gr lm om out.2.2.2.2.2.2.2.2.2.2.2.2.2.2.2.1 out.2.2.2.2.2.2.2.2.2.2.2.2.2.2.2.2.1 aa kp ta out.2.2.2.2.2.2.2.2.2.2.2.2.2.2.2.2.2.1 out.2.2.2.2.2.2.2.2.2.2.2.2.2.2.2.2.2.2 gv gt rw rh lg lh ou) (mA o ad)) ([.ref o, .int a0] : List Value).toArray s 0 0 (mA o ad)) (F0 m 115 ls []) := by
    intro n
    induction n with
    | zero =>
      intro x3 th tp st fk fp ac si fr tt kd nu fa pl wd nw rd nm rn ls H locs hP hS hl hf
      exact absurd hf (by rw [f_X3_load_115]; exact nofun)
    | succ n ih =>
      intro x3 th tp st fk fp ac si fr tt kd nu fa pl wd nw rd nm rn ls H locs hP hS hl hf
      rw [f_X3_load_115] at hf
      refine lv_iload_n hx hb dX3_load_115 rfl (lv_at hl 1 rfl) ?_
      refine lv_bipush hx hb dX3_load_116 kc_b18 ?_
      refine lv_icmp_ge (tgt := 139) hx hb dX3_load_118 (by decide) (fun c1 => ?_) (fun c1 => ?_)
      · replace hf := it_t c1 hf
        refine lv_aload_n hx hb dX3_load_139 rfl (lv_at hl 0 rfl) ?_
        refine lv_iconst hx hb dX3_load_140 kc_i0 ?_
        refine mp_12 S hC hD hK hP hS dX3_load_141 (fun H locs hP hS => ?_)
        refine lv_aload_n hx hb dX3_load_144 rfl (lv_at hl 0 rfl) ?_
        refine lv_aload_n hx hb dX3_load_145 rfl (lv_at hl 0 rfl) ?_
        refine mg_1 S hC hK hP dX3_load_146 ?_
        refine lv_sipush hx hb dX3_load_149 kc_s231 ?_
        refine ma_1 S hC hK hP kv_231_390 kn_231 dX3_load_152 ?_
        obtain ⟨v2, hv2, hf⟩ := ob_s hf
        refine mc_X3_X3_gives S hC hD hK hP hS hv2 hl.1 ⟨Nat.le_of_ble_eq_true rfl, Nat.le_of_ble_eq_true rfl⟩ (Nat.le_of_ble_eq_true rfl) ⟨Nat.zero_le _, Nat.zero_le _⟩ dX3_load_153 (fun H locs _ hP hS => ?_)
        have hE := Option.some.inj hf
        subst hE
        exact gt_wi S hr hlocks trivial hP hS dX3_load_156
      · replace hf := it_f c1 hf
        refine lv_aload_n hx hb dX3_load_121 rfl (lv_at hl 0 rfl) ?_
        refine mg_6 S hC hK hP dX3_load_122 ?_
        refine lv_iload_n hx hb dX3_load_125 rfl (lv_at hl 1 rfl) ?_
        refine lv_aload_n hx hb dX3_load_126 rfl (lv_at hl 0 rfl) ?_
        refine mg_7 S hC hK hP dX3_load_127 ?_
        refine lv_iload_n hx hb dX3_load_130 rfl (lv_at hl 1 rfl) ?_
        obtain ⟨g3, hf⟩ := gd_t hf
        refine ma_7 S hC hK hP (inR_vp g3) rfl dX3_load_131 ?_
        obtain ⟨g4, hf⟩ := gd_t hf
        refine ms_6 S hC hD hK hP hS (inR_vp g4) rfl dX3_load_132 (fun H locs hP hS => ?_)
        refine lv_iinc (v := (x3 + 1)) (lv' := [(3, .int (x3 + 1)), (0, .ref o)]) hx hb dX3_load_133 hl (k := 1) rfl rfl (by decide) rfl (fun ls hl => ?_)
        refine lv_goto (tgt := 115) hx hb dX3_load_136 (by decide) ?_
        exact (ih) (x3 + 1) th tp st fk fp ac si fr tt kd nu fa pl wd nw rd (vp_updL nm x3.toNatClampNeg (rn x3.toNatClampNeg)) rn ls H locs hP hS (lv_sub (l' := [(0, .ref o), (3, .int (x3 + 1))]) hl [1, 0] rfl) hf
  have w75 : ∀ (x2 : Int32) (th : Int32) (tp : Int32) (st : Int32) (fk : Int32) (fp : Int32) (ac : Int32) (si : Int32) (fr : Int32) (tt : Int32) (kd : Int32) (nu : Int32) (fa : Int32) (pl : Int32) (wd : Int64) (nw : (Nat → Int32)) (rd : (Nat → Int32)) (nm : (Nat → Int64)) (rn : (Nat → Int64)) (ls : Array Slot) (H : Heap) (locs : List Loc), va_P D cl (mW mi cI cJ cB o ad th tp st fk fp ac si fr tt kd nu fa pl fo wd ci gr lm om nw rd aa kp ta nm rn gv gt rw rh lg lh ou) H → va_S (mA o ad) s.heap H locs → lv_has ls 4 [(0, .ref o), (2, .int x2)] → f_X3_load_75 ta x2 th tp st fk fp ac si fr tt kd nu fa pl wd nw rd nm rn = some out → W p l e (rM 8 172) s m ([.ref o, .int a0] : List Value).toArray below meth c H locs 0 0 (MQ below (gQ D cl (some (.int out.1)) True (mW mi cI cJ cB o ad out.2.1 out.2.2.1 out.2.2.2.1 out.2.2.2.2.1 out.2.2.2.2.2.1 out.2.2.2.2.2.2.1 out.2.2.2.2.2.2.2.1 out.2.2.2.2.2.2.2.2.1 out.2.2.2.2.2.2.2.2.2.1 out.2.2.2.2.2.2.2.2.2.2.1 out.2.2.2.2.2.2.2.2.2.2.2.1 out.2.2.2.2.2.2.2.2.2.2.2.2.1 out.2.2.2.2.2.2.2.2.2.2.2.2.2.1 fo out.2.2.2.2.2.2.2.2.2.2.2.2.2.2.1 ci gr lm om out.2.2.2.2.2.2.2.2.2.2.2.2.2.2.2.1 out.2.2.2.2.2.2.2.2.2.2.2.2.2.2.2.2.1 aa kp ta out.2.2.2.2.2.2.2.2.2.2.2.2.2.2.2.2.2.1 out.2.2.2.2.2.2.2.2.2.2.2.2.2.2.2.2.2.2 gv gt rw rh lg lh ou) (mA o ad)) ([.ref o, .int a0] : List Value).toArray s 0 0 (mA o ad)) (F0 m 75 ls []) := by
    intro x2 th tp st fk fp ac si fr tt kd nu fa pl wd nw rd nm rn ls H locs hP hS hl hf
    rw [f_X3_load_75] at hf
    refine lv_aload_n hx hb dX3_load_75 rfl (lv_at hl 0 rfl) ?_
    refine lv_aload_n hx hb dX3_load_76 rfl (lv_at hl 0 rfl) ?_
    refine mg_18 S hC hK hP dX3_load_77 ?_
    refine mp_10 S hC hD hK hP hS dX3_load_80 (fun H locs hP hS => ?_)
    refine lv_aload_n hx hb dX3_load_83 rfl (lv_at hl 0 rfl) ?_
    refine lv_aload_n hx hb dX3_load_84 rfl (lv_at hl 0 rfl) ?_
    refine mg_19 S hC hK hP dX3_load_85 ?_
    refine mp_11 S hC hD hK hP hS dX3_load_88 (fun H locs hP hS => ?_)
    refine lv_iload_n hx hb dX3_load_91 rfl (lv_at hl 1 rfl) ?_
    refine lv_if_ne (tgt := 102) hx hb dX3_load_92 (by decide) (fun c1 => ?_) (fun c1 => ?_)
    · replace hf := it_f c1 hf
      refine lv_aload_n hx hb dX3_load_102 rfl (lv_at hl 0 rfl) ?_
      refine mg_2 S hC hK hP dX3_load_103 ?_
      refine lv_aload_n hx hb dX3_load_106 rfl (lv_at hl 0 rfl) ?_
      refine mg_1 S hC hK hP dX3_load_107 ?_
      obtain ⟨v2, hv2, hf⟩ := ob_s hf
      refine mc_X3_X3_copies_rd_nw S hC hD hK hP hS hv2 hl.1 ⟨Nat.le_of_ble_eq_true rfl, Nat.le_of_ble_eq_true rfl⟩ (Nat.le_of_ble_eq_true rfl) ⟨Nat.zero_le _, Nat.zero_le _⟩ dX3_load_110 (fun H locs _ hP hS => ?_)
      refine lv_iconst hx hb dX3_load_113 kc_i0 ?_
      refine lv_istore_n (i := 3) (lv' := [(3, .int 0), (0, .ref o), (2, .int x2)]) hx hb dX3_load_114 rfl hl (by decide) rfl (fun ls hl => ?_)
      exact (w115 FU) 0 th tp st fa pl ac si fr tt kd nu fa pl wd v2 rd nm rn ls H locs hP hS (lv_sub (l' := [(0, .ref o), (3, .int 0)]) hl [1, 0] rfl) hf
    · replace hf := it_t c1 hf
      refine lv_aload_n hx hb dX3_load_95 rfl (lv_at hl 0 rfl) ?_
      refine lv_bipush hx hb dX3_load_96 kc_b9 ?_
      obtain ⟨v3, hv3, hf⟩ := ob_s hf
      refine mc_X3_X3_refuse S hC hD hK hP hS hv3 hl.1 ⟨Nat.le_of_ble_eq_true rfl, Nat.le_of_ble_eq_true rfl⟩ (Nat.le_of_ble_eq_true rfl) ⟨Nat.zero_le _, Nat.zero_le _⟩ dX3_load_98 (fun H locs _ hP hS => ?_)
      have hE := Option.some.inj hf
      subst hE
      exact gt_wi S hr hlocks trivial hP hS dX3_load_101
  have w56 : ∀ (n : Nat) , ∀ (x2 : Int32) (th : Int32) (tp : Int32) (st : Int32) (fk : Int32) (fp : Int32) (ac : Int32) (si : Int32) (fr : Int32) (tt : Int32) (kd : Int32) (nu : Int32) (fa : Int32) (pl : Int32) (wd : Int64) (nw : (Nat → Int32)) (rd : (Nat → Int32)) (nm : (Nat → Int64)) (rn : (Nat → Int64)) (ls : Array Slot) (H : Heap) (locs : List Loc), va_P D cl (mW mi cI cJ cB o ad th tp st fk fp ac si fr tt kd nu fa pl fo wd ci gr lm om nw rd aa kp ta nm rn gv gt rw rh lg lh ou) H → va_S (mA o ad) s.heap H locs → lv_has ls 4 [(0, .ref o), (2, .int x2)] → f_X3_load_56 n ta x2 th tp st fk fp ac si fr tt kd nu fa pl wd nw rd nm rn = some out → W p l e (rM 8 172) s m ([.ref o, .int a0] : List Value).toArray below meth c H locs 0 0 (MQ below (gQ D cl (some (.int out.1)) True (mW mi cI cJ cB o ad out.2.1 out.2.2.1 out.2.2.2.1 out.2.2.2.2.1 out.2.2.2.2.2.1 out.2.2.2.2.2.2.1 out.2.2.2.2.2.2.2.1 out.2.2.2.2.2.2.2.2.1 out.2.2.2.2.2.2.2.2.2.1 out.2.2.2.2.2.2.2.2.2.2.1 out.2.2.2.2.2.2.2.2.2.2.2.1 out.2.2.2.2.2.2.2.2.2.2.2.2.1 out.2.2.2.2.2.2.2.2.2.2.2.2.2.1 fo out.2.2.2.2.2.2.2.2.2.2.2.2.2.2.1 ci gr lm om out.2.2.2.2.2.2.2.2.2.2.2.2.2.2.2.1 out.2.2.2.2.2.2.2.2.2.2.2.2.2.2.2.2.1 aa kp ta out.2.2.2.2.2.2.2.2.2.2.2.2.2.2.2.2.2.1 out.2.2.2.2.2.2.2.2.2.2.2.2.2.2.2.2.2.2 gv gt rw rh lg lh ou) (mA o ad)) ([.ref o, .int a0] : List Value).toArray s 0 0 (mA o ad)) (F0 m 56 ls []) := by
    intro n
    induction n with
    | zero =>
      intro x2 th tp st fk fp ac si fr tt kd nu fa pl wd nw rd nm rn ls H locs hP hS hl hf
      exact absurd hf (by rw [f_X3_load_56]; exact nofun)
    | succ n ih =>
      intro x2 th tp st fk fp ac si fr tt kd nu fa pl wd nw rd nm rn ls H locs hP hS hl hf
      rw [f_X3_load_56] at hf
      refine lv_iload_n hx hb dX3_load_56 rfl (lv_at hl 1 rfl) ?_
      refine lv_if_eq (tgt := 75) hx hb dX3_load_57 (by decide) (fun c1 => ?_) (fun c1 => ?_)
      · replace hf := it_t c1 hf
        exact (w75) x2 th tp st fk fp ac si fr tt kd nu fa pl wd nw rd nm rn ls H locs hP hS hl hf
      · replace hf := it_f c1 hf
        refine lv_aload_n hx hb dX3_load_60 rfl (lv_at hl 0 rfl) ?_
        refine mg_16 S hC hK hP dX3_load_61 ?_
        refine lv_if_eq (tgt := 75) hx hb dX3_load_64 (by decide) (fun c2 => ?_) (fun c2 => ?_)
        · replace hf := it_t c2 hf
          exact (w75) x2 th tp st fk fp ac si fr tt kd nu fa pl wd nw rd nm rn ls H locs hP hS hl hf
        · replace hf := it_f c2 hf
          refine lv_aload_n hx hb dX3_load_67 rfl (lv_at hl 0 rfl) ?_
          obtain ⟨v3, hv3, hf⟩ := ob_s hf
          refine mc_X3_X3_readLine S hC hD hK hP hS hv3 hl.1 ⟨Nat.le_of_ble_eq_true rfl, Nat.le_of_ble_eq_true rfl⟩ (Nat.le_of_ble_eq_true rfl) ⟨Nat.zero_le _, Nat.zero_le _⟩ dX3_load_68 (fun H locs hnv3 hP hS => ?_)
          refine lv_istore_n (i := 2) (lv' := [(2, .int v3.1), (0, .ref o)]) hx hb dX3_load_71 rfl hl (by decide) rfl (fun ls hl => ?_)
          refine lv_goto (tgt := 56) hx hb dX3_load_72 (by decide) ?_
          exact (ih) v3.1 th tp st fk fp ac si v3.2.1 v3.2.2.1 v3.2.2.2.1 v3.2.2.2.2.1 v3.2.2.2.2.2.1 v3.2.2.2.2.2.2.1 v3.2.2.2.2.2.2.2.1 nw v3.2.2.2.2.2.2.2.2.1 nm v3.2.2.2.2.2.2.2.2.2 ls H locs hP hS (lv_sub (l' := [(0, .ref o), (2, .int v3.1)]) hl [1, 0] rfl) hf
  suffices hg : ∀ (H : Heap) (locs : List Loc), va_P D cl (mW mi cI cJ cB o ad th tp st fk fp ac si fr tt kd nu fa pl fo wd ci gr lm om nw rd aa kp ta nm rn gv gt rw rh lg lh ou) H → va_S (mA o ad) s.heap H locs → W p l e (rM 8 172) s m ([.ref o, .int a0] : List Value).toArray below meth c H locs 0 0 (MQ below (gQ D cl (some (.int out.1)) True (mW mi cI cJ cB o ad out.2.1 out.2.2.1 out.2.2.2.1 out.2.2.2.2.1 out.2.2.2.2.2.1 out.2.2.2.2.2.2.1 out.2.2.2.2.2.2.2.1 out.2.2.2.2.2.2.2.2.1 out.2.2.2.2.2.2.2.2.2.1 out.2.2.2.2.2.2.2.2.2.2.1 out.2.2.2.2.2.2.2.2.2.2.2.1 out.2.2.2.2.2.2.2.2.2.2.2.2.1 out.2.2.2.2.2.2.2.2.2.2.2.2.2.1 fo out.2.2.2.2.2.2.2.2.2.2.2.2.2.2.1 ci gr lm om out.2.2.2.2.2.2.2.2.2.2.2.2.2.2.2.1 out.2.2.2.2.2.2.2.2.2.2.2.2.2.2.2.2.1 aa kp ta out.2.2.2.2.2.2.2.2.2.2.2.2.2.2.2.2.2.1 out.2.2.2.2.2.2.2.2.2.2.2.2.2.2.2.2.2.2 gv gt rw rh lg lh ou) (mA o ad)) ([.ref o, .int a0] : List Value).toArray s 0 0 (mA o ad)) (F0 m 0 ls []) from hg s.heap [] hP va_S.rf
  clear hP
  intro H locs hP hS
  rw [f_X3_load] at hf
  refine lv_iload_n hx hb dX3_load_0 rfl (lv_at hl 1 rfl) ?_
  refine lv_iconst hx hb dX3_load_1 kc_i0 ?_
  refine lv_aload_n hx hb dX3_load_2 rfl (lv_at hl 0 rfl) ?_
  refine mg_8 S hC hK hP dX3_load_3 ?_
  obtain ⟨v1, hv1, hf⟩ := ob_s hf
  refine mc_X3_X3_isFrom S hK hv1 hl.1 ⟨Nat.le_of_ble_eq_true rfl, Nat.le_of_ble_eq_true rfl⟩ (Nat.le_of_ble_eq_true rfl) ⟨Nat.zero_le _, Nat.zero_le _⟩ dX3_load_6 (fun hnv1 => ?_)
  refine lv_if_ne (tgt := 18) hx hb dX3_load_9 (by decide) (fun c2 => ?_) (fun c2 => ?_)
  · replace hf := it_f c2 hf
    refine lv_aload_n hx hb dX3_load_18 rfl (lv_at hl 0 rfl) ?_
    refine lv_iload_n hx hb dX3_load_19 rfl (lv_at hl 1 rfl) ?_
    refine mp_13 S hC hD hK hP hS dX3_load_20 (fun H locs hP hS => ?_)
    refine lv_aload_n hx hb dX3_load_23 rfl (lv_at hl 0 rfl) ?_
    refine lv_iconst hx hb dX3_load_24 kc_i0 ?_
    refine mp_8 S hC hD hK hP hS dX3_load_25 (fun H locs hP hS => ?_)
    refine lv_aload_n hx hb dX3_load_28 rfl (lv_at hl 0 rfl) ?_
    refine lv_iconst hx hb dX3_load_29 kc_i0 ?_
    refine mp_15 S hC hD hK hP hS dX3_load_30 (fun H locs hP hS => ?_)
    refine lv_aload_n hx hb dX3_load_33 rfl (lv_at hl 0 rfl) ?_
    refine lv_iconst hx hb dX3_load_34 kc_i0 ?_
    refine mp_18 S hC hD hK hP hS dX3_load_35 (fun H locs hP hS => ?_)
    refine lv_aload_n hx hb dX3_load_38 rfl (lv_at hl 0 rfl) ?_
    refine lv_iconst hx hb dX3_load_39 kc_im1 ?_
    refine mp_19 S hC hD hK hP hS dX3_load_40 (fun H locs hP hS => ?_)
    refine lv_aload_n hx hb dX3_load_43 rfl (lv_at hl 0 rfl) ?_
    refine mg_2 S hC hK hP dX3_load_44 ?_
    obtain ⟨v3, hv3, hf⟩ := ob_s hf
    refine mc_X3_X3_plain_rd S hC hD hK hP hS hv3 hl.1 ⟨Nat.le_of_ble_eq_true rfl, Nat.le_of_ble_eq_true rfl⟩ (Nat.le_of_ble_eq_true rfl) ⟨Nat.zero_le _, Nat.zero_le _⟩ dX3_load_47 (fun H locs _ hP hS => ?_)
    refine lv_aload_n hx hb dX3_load_50 rfl (lv_at hl 0 rfl) ?_
    obtain ⟨v4, hv4, hf⟩ := ob_s hf
    refine mc_X3_X3_go S hC hD hK hP hS hv4 hl.1 ⟨Nat.le_of_ble_eq_true rfl, Nat.le_of_ble_eq_true rfl⟩ (Nat.le_of_ble_eq_true rfl) ⟨Nat.zero_le _, Nat.zero_le _⟩ dX3_load_51 (fun H locs _ hP hS => ?_)
    refine lv_iconst hx hb dX3_load_54 kc_i1 ?_
    refine lv_istore_n (i := 2) (lv' := [(2, .int 1), (0, .ref o), (1, .int a0)]) hx hb dX3_load_55 rfl hl (by decide) rfl (fun ls hl => ?_)
    exact (w56 FU) 1 th 0 st fk fp ac a0 v4.1 v4.2.1 v4.2.2.1 v4.2.2.2.1 0 (-1) v4.2.2.2.2 nw v3 nm rn ls H locs hP hS (lv_sub (l' := [(0, .ref o), (2, .int 1)]) hl [1, 0] rfl) hf
  · replace hf := it_t c2 hf
    refine lv_aload_n hx hb dX3_load_12 rfl (lv_at hl 0 rfl) ?_
    refine lv_iconst hx hb dX3_load_13 kc_i1 ?_
    obtain ⟨v5, hv5, hf⟩ := ob_s hf
    refine mc_X3_X3_refuse S hC hD hK hP hS hv5 hl.1 ⟨Nat.le_of_ble_eq_true rfl, Nat.le_of_ble_eq_true rfl⟩ (Nat.le_of_ble_eq_true rfl) ⟨Nat.zero_le _, Nat.zero_le _⟩ dX3_load_14 (fun H locs _ hP hS => ?_)
    have hE := Option.some.inj hf
    subst hE
    exact gt_wi S hr hlocks trivial hP hS dX3_load_17
theorem hd_X3_fault : yX3_fault.cls = RX3 ∧ yX3_fault.cls ≠ "java/lang/invoke/MethodHandle" ∧ yX3_fault.cls ≠ "java/lang/invoke/VarHandle" ∧ (parseMethodDescriptor yX3_fault.desc).map (fun d => d.parameters.length) = some 1 := by decide +kernel
set_option maxHeartbeats 4000000 in
set_option maxRecDepth 100000 in
theorem mm_X3_fault {a0 : Int32} {out : Int32 × Int32} (hC : mC cl tys mi cI cJ cB) (hD : mD o ad) (hf : f_X3_fault fk fp th a0 = some out) : Met l yX3_fault (ws_ yX3_fault cX3_fault 2 (some .int)) (rM 0 0) (gPc D cl tys [.ref o, .int a0] (mW mi cI cJ cB o ad th tp st fk fp ac si fr tt kd nu fa pl fo wd ci gr lm om nw rd aa kp ta nm rn gv gt rw rh lg lh ou)) (gQ D cl (some (.int out.1)) True (mW mi cI cJ cB o ad out.2 tp st fk fp ac si fr tt kd nu fa pl fo wd ci gr lm om nw rd aa kp ta nm rn gv gt rw rh lg lh ou) (mA o ad)) 0 0 (mA o ad) := by
  refine gGo (by decide +kernel) (Nat.le_of_ble_eq_true rfl) (fun p e s m below meth c ls S hr hlocks hK hP hl => ?_)
  have S : CallFix p m c cX3_fault 2 s _ lw_all RX3 := S
  obtain ⟨hx, hb, hml, hown, hts⟩ := id S
  have hl : lv_has ls 2 [(0, .ref o), (1, .int a0)] := hl
  suffices hg : ∀ (H : Heap) (locs : List Loc), va_P D cl (mW mi cI cJ cB o ad th tp st fk fp ac si fr tt kd nu fa pl fo wd ci gr lm om nw rd aa kp ta nm rn gv gt rw rh lg lh ou) H → va_S (mA o ad) s.heap H locs → W p l e (rM 0 0) s m ([.ref o, .int a0] : List Value).toArray below meth c H locs 0 0 (MQ below (gQ D cl (some (.int out.1)) True (mW mi cI cJ cB o ad out.2 tp st fk fp ac si fr tt kd nu fa pl fo wd ci gr lm om nw rd aa kp ta nm rn gv gt rw rh lg lh ou) (mA o ad)) ([.ref o, .int a0] : List Value).toArray s 0 0 (mA o ad)) (F0 m 0 ls []) from hg s.heap [] hP va_S.rf
  clear hP
  intro H locs hP hS
  rw [f_X3_fault] at hf
  refine lv_aload_n hx hb dX3_fault_0 rfl (lv_at hl 0 rfl) ?_
  refine lv_iconst hx hb dX3_fault_1 kc_i0 ?_
  refine mp_0 S hC hD hK hP hS dX3_fault_2 (fun H locs hP hS => ?_)
  refine lv_iload_n hx hb dX3_fault_5 rfl (lv_at hl 1 rfl) ?_
  refine lv_if_ne (tgt := 16) hx hb dX3_fault_6 (by decide) (fun c1 => ?_) (fun c1 => ?_)
  · replace hf := it_f c1 hf
    refine lv_iload_n hx hb dX3_fault_16 rfl (lv_at hl 1 rfl) ?_
    refine lv_iconst hx hb dX3_fault_17 kc_i1 ?_
    refine lv_icmp_ne (tgt := 28) hx hb dX3_fault_18 (by decide) (fun c2 => ?_) (fun c2 => ?_)
    · replace hf := it_f c2 hf
      refine lv_iconst hx hb dX3_fault_28 kc_im1 ?_
      have hE := Option.some.inj hf
      subst hE
      exact gt_wi S hr hlocks trivial hP hS dX3_fault_29
    · replace hf := it_t c2 hf
      refine lv_aload_n hx hb dX3_fault_21 rfl (lv_at hl 0 rfl) ?_
      refine mg_11 S hC hK hP dX3_fault_22 ?_
      refine lv_goto (tgt := 29) hx hb dX3_fault_25 (by decide) ?_
      have hE := Option.some.inj hf
      subst hE
      exact gt_wi S hr hlocks trivial hP hS dX3_fault_29
  · replace hf := it_t c1 hf
    refine lv_aload_n hx hb dX3_fault_9 rfl (lv_at hl 0 rfl) ?_
    refine mg_10 S hC hK hP dX3_fault_10 ?_
    refine lv_goto (tgt := 29) hx hb dX3_fault_13 (by decide) ?_
    have hE := Option.some.inj hf
    subst hE
    exact gt_wi S hr hlocks trivial hP hS dX3_fault_29
theorem hd_X3_of : yX3_of.cls = RX3 ∧ yX3_of.cls ≠ "java/lang/invoke/MethodHandle" ∧ yX3_of.cls ≠ "java/lang/invoke/VarHandle" ∧ (parseMethodDescriptor yX3_of.desc).map (fun d => d.parameters.length) = some 2 := by decide +kernel
set_option maxHeartbeats 4000000 in
set_option maxRecDepth 100000 in
theorem mm_X3_of {a0 : Int32} {a1 : Int32} {out : Int32} (hC : mC cl tys mi cI cJ cB) (hf : f_X3_of nw a0 a1 = some out) : Met l yX3_of (ws_ yX3_of cX3_of 3 (some .int)) (rM 1 21) (gPc D cl tys [.ref o, .int a0, .int a1] (mW mi cI cJ cB o ad th tp st fk fp ac si fr tt kd nu fa pl fo wd ci gr lm om nw rd aa kp ta nm rn gv gt rw rh lg lh ou)) (gR (some (.int out)) True) 0 0 (fun _ => False) := by
  refine gGo (by decide +kernel) (Nat.le_of_ble_eq_true rfl) (fun p e s m below meth c ls S hr hlocks hK hP hl => ?_)
  have S : CallFix p m c cX3_of 3 s _ lw_all RX3 := S
  obtain ⟨hx, hb, hml, hown, hts⟩ := id S
  have hl : lv_has ls 3 [(0, .ref o), (1, .int a0), (2, .int a1)] := hl
  rw [f_X3_of] at hf
  refine lv_aload_n hx hb dX3_of_0 rfl (lv_at hl 0 rfl) ?_
  refine mg_1 S hC hK hP dX3_of_1 ?_
  refine lv_iload_n hx hb dX3_of_4 rfl (lv_at hl 1 rfl) ?_
  refine lv_iload_n hx hb dX3_of_5 rfl (lv_at hl 2 rfl) ?_
  obtain ⟨v1, hv1, hf⟩ := ob_s hf
  refine mc_X3_X3_at S hK hv1 hl.1 ⟨Nat.le_of_ble_eq_true rfl, Nat.le_of_ble_eq_true rfl⟩ (Nat.le_of_ble_eq_true rfl) ⟨Nat.zero_le _, Nat.zero_le _⟩ dX3_of_6 (fun _ => ?_)
  obtain ⟨g2, hf⟩ := gd_t hf
  refine ma_1 S hC hK hP (inR_vp g2) rfl dX3_of_9 ?_
  have hE := Option.some.inj hf
  subst hE
  exact gt_ri S hr hlocks trivial dX3_of_10
set_option maxRecDepth 100000 in
theorem mc_X3_X3_of {a0 : Int32} {a1 : Int32} {out : Int32} (S : CallFix p m c cc nL s args lw_all RX3) (hC : mC cl tys mi cI cJ cB) (hK : va_K D cl tys s) (hP : va_P D cl (mW mi cI cJ cB o ad th tp st fk fp ac si fr tt kd nu fa pl fo wd ci gr lm om nw rd aa kp ta nm rn gv gt rw rh lg lh ou) H) (hf : f_X3_of nw a0 a1 = some out) (hsz : ls.size = nL) (hR : 1 + 1 ≤ R.frames ∧ 8 + (3 + 11) + 21 ≤ R.locals) (hW : (rest.map fun v => v.category).sum ≤ 8) (hcs : cells ≤ R.cells ∧ slots ≤ R.slots) (hdg : decode cc pc = .ok (.invokevirtual 205, 3)) (kk : True → W p l e R s m args below meth c H locs cells slots Q (F0 m (pc + 3) ls (.int out :: rest))) : W p l e R s m args below meth c H locs cells slots Q (F0 m pc ls (.int a1 :: .int a0 :: .ref o :: rest)) :=
  gc_Vr (As := [.int a0, .int a1]) S (mm_X3_of hC hf) (cwV 2 S.2.2.2.2 (lw_V q2231 q2233 qs113 q189 q2234) rfl rfl rfl hd_X3_of hR) (gPreV hK hP hC.1 (q0 := 0) rfl) rfl hsz rfl hW hdg hcs kk
theorem hd_X3_bits : yX3_bits.cls ≠ "java/lang/invoke/MethodHandle" ∧ yX3_bits.cls ≠ "java/lang/invoke/VarHandle" ∧ (parseMethodDescriptor yX3_bits.desc).map (fun d => d.parameters.length) = some 1 := by decide +kernel
set_option maxHeartbeats 4000000 in
set_option maxRecDepth 100000 in
theorem mm_X3_bits {a0 : Int32} {out : Int32} (hf : f_X3_bits a0 = some out) : Met l yX3_bits (ws_ yX3_bits cX3_bits 3 (some .int)) (rM 0 0) (gPc D cl tys [.int a0] []) (gR (some (.int out)) True) 0 0 (fun _ => False) := by
  refine gGo (by decide +kernel) (Nat.le_of_ble_eq_true rfl) (fun p e s m below meth c ls S hr hlocks hK hP hl => ?_)
  have S : CallFix p m c cX3_bits 3 s _ lw_all RX3 := S
  obtain ⟨hx, hb, hml, hown, hts⟩ := id S
  have hl : lv_has ls 3 [(0, .int a0)] := hl
  have w4 : ∀ (n : Nat) , ∀ (x1 : Int32) (x2 : Int32) (ls : Array Slot), lv_has ls 3 [(1, .int x1), (2, .int x2)] → f_X3_bits_4 n x1 x2 = some out → W p l e (rM 0 0) s m ([.int a0] : List Value).toArray below meth c s.heap [] 0 0 (MQ below (gR (some (.int out)) True) ([.int a0] : List Value).toArray s 0 0 (fun _ => False)) (F0 m 4 ls []) := by
    intro n
    induction n with
    | zero =>
      intro x1 x2 ls hl hf
      exact absurd hf (by rw [f_X3_bits_4]; exact nofun)
    | succ n ih =>
      intro x1 x2 ls hl hf
      rw [f_X3_bits_4] at hf
      refine lv_iload_n hx hb dX3_bits_4 rfl (lv_at hl 1 rfl) ?_
      refine lv_if_eq (tgt := 20) hx hb dX3_bits_5 (by decide) (fun c1 => ?_) (fun c1 => ?_)
      · replace hf := it_t c1 hf
        refine lv_iload_n hx hb dX3_bits_20 rfl (lv_at hl 0 rfl) ?_
        have hE := Option.some.inj hf
        subst hE
        exact gt_ri S hr hlocks trivial dX3_bits_21
      · replace hf := it_f c1 hf
        refine lv_iinc (v := (x1 + 1)) (lv' := [(1, .int (x1 + 1)), (2, .int x2)]) hx hb dX3_bits_8 hl (k := 0) rfl rfl (by decide) rfl (fun ls hl => ?_)
        refine lv_iload_n hx hb dX3_bits_11 rfl (lv_at hl 1 rfl) ?_
        refine lv_iload_n hx hb dX3_bits_12 rfl (lv_at hl 1 rfl) ?_
        refine lv_iconst hx hb dX3_bits_13 kc_i1 ?_
        refine lv_isub hx hb dX3_bits_14 ?_
        refine lv_iand hx hb dX3_bits_15 ?_
        refine lv_istore_n (i := 2) (lv' := [(2, .int (x2 &&& (x2 - 1))), (1, .int (x1 + 1))]) hx hb dX3_bits_16 rfl hl (by decide) rfl (fun ls hl => ?_)
        refine lv_goto (tgt := 4) hx hb dX3_bits_17 (by decide) ?_
        exact (ih) (x1 + 1) (x2 &&& (x2 - 1)) ls (lv_sub (l' := [(1, .int (x1 + 1)), (2, .int (x2 &&& (x2 - 1)))]) hl [1, 0] rfl) hf
  rw [f_X3_bits] at hf
  refine lv_iconst hx hb dX3_bits_0 kc_i0 ?_
  refine lv_istore_n (i := 1) (lv' := [(1, .int 0), (0, .int a0)]) hx hb dX3_bits_1 rfl hl (by decide) rfl (fun ls hl => ?_)
  refine lv_iload_n hx hb dX3_bits_2 rfl (lv_at hl 1 rfl) ?_
  refine lv_istore_n (i := 2) (lv' := [(2, .int a0), (1, .int 0), (0, .int a0)]) hx hb dX3_bits_3 rfl hl (by decide) rfl (fun ls hl => ?_)
  exact (w4 FU) 0 a0 ls (lv_sub (l' := [(1, .int 0), (2, .int a0)]) hl [1, 0] rfl) hf
set_option maxRecDepth 100000 in
theorem mc_X3_X3_bits {a0 : Int32} {out : Int32} (S : CallFix p m c cc nL s args lw_all RX3) (hK : va_K D cl tys s) (hf : f_X3_bits a0 = some out) (hsz : ls.size = nL) (hR : 0 + 1 ≤ R.frames ∧ 8 + (3 + 11) + 0 ≤ R.locals) (hW : (rest.map fun v => v.category).sum ≤ 8) (hcs : cells ≤ R.cells ∧ slots ≤ R.slots) (hdg : decode cc pc = .ok (.invokestatic 222, 3)) (kk : True → W p l e R s m args below meth c H locs cells slots Q (F0 m (pc + 3) ls (.int out :: rest))) : W p l e R s m args below meth c H locs cells slots Q (F0 m pc ls (.int a0 :: rest)) :=
  gc_Sr (As := [.int a0]) S (mm_X3_bits hf) (va_cwS 1 S.2.2.2.2 (lw_S q2235 q2236 q189 q2237) rfl rfl rfl hd_X3_bits hR) (gPreS hK gP0) rfl hsz rfl hW hdg hcs kk
theorem hd_X3_allBids : yX3_allBids.cls = RX3 ∧ yX3_allBids.cls ≠ "java/lang/invoke/MethodHandle" ∧ yX3_allBids.cls ≠ "java/lang/invoke/VarHandle" ∧ (parseMethodDescriptor yX3_allBids.desc).map (fun d => d.parameters.length) = some 0 := by decide +kernel
set_option maxHeartbeats 4000000 in
set_option maxRecDepth 100000 in
theorem mm_X3_allBids  {out : Int32} (hC : mC cl tys mi cI cJ cB) (hf : f_X3_allBids nw = some out) : Met l yX3_allBids (ws_ yX3_allBids cX3_allBids 3 (some .int)) (rM 2 43) (gPc D cl tys [.ref o] (mW mi cI cJ cB o ad th tp st fk fp ac si fr tt kd nu fa pl fo wd ci gr lm om nw rd aa kp ta nm rn gv gt rw rh lg lh ou)) (gR (some (.int out)) True) 0 0 (fun _ => False) := by
  refine gGo (by decide +kernel) (Nat.le_of_ble_eq_true rfl) (fun p e s m below meth c ls S hr hlocks hK hP hl => ?_)
  have S : CallFix p m c cX3_allBids 3 s _ lw_all RX3 := S
  obtain ⟨hx, hb, hml, hown, hts⟩ := id S
  have hl : lv_has ls 3 [(0, .ref o)] := hl
  have w4 : ∀ (n : Nat) , ∀ (x1 : Int32) (x2 : Int32) (ls : Array Slot), lv_has ls 3 [(0, .ref o), (1, .int x1), (2, .int x2)] → f_X3_allBids_4 n nw x1 x2 = some out → W p l e (rM 2 43) s m ([.ref o] : List Value).toArray below meth c s.heap [] 0 0 (MQ below (gR (some (.int out)) True) ([.ref o] : List Value).toArray s 0 0 (fun _ => False)) (F0 m 4 ls []) := by
    intro n
    induction n with
    | zero =>
      intro x1 x2 ls hl hf
      exact absurd hf (by rw [f_X3_allBids_4]; exact nofun)
    | succ n ih =>
      intro x1 x2 ls hl hf
      rw [f_X3_allBids_4] at hf
      refine lv_iload_n hx hb dX3_allBids_4 rfl (lv_at hl 2 rfl) ?_
      refine lv_aload_n hx hb dX3_allBids_5 rfl (lv_at hl 0 rfl) ?_
      refine mg_1 S hC hK hP dX3_allBids_6 ?_
      refine lv_sipush hx hb dX3_allBids_9 kc_s231 ?_
      refine ma_1 S hC hK hP kv_231_390 kn_231 dX3_allBids_12 ?_
      refine lv_icmp_ge (tgt := 35) hx hb dX3_allBids_13 (by decide) (fun c1 => ?_) (fun c1 => ?_)
      · replace hf := it_t c1 hf
        refine lv_iload_n hx hb dX3_allBids_35 rfl (lv_at hl 1 rfl) ?_
        have hE := Option.some.inj hf
        subst hE
        exact gt_ri S hr hlocks trivial dX3_allBids_36
      · replace hf := it_f c1 hf
        refine lv_iload_n hx hb dX3_allBids_16 rfl (lv_at hl 1 rfl) ?_
        refine lv_aload_n hx hb dX3_allBids_17 rfl (lv_at hl 0 rfl) ?_
        refine lv_iload_n hx hb dX3_allBids_18 rfl (lv_at hl 2 rfl) ?_
        refine lv_bipush hx hb dX3_allBids_19 kc_b10 ?_
        obtain ⟨v2, hv2, hf⟩ := ob_s hf
        refine mc_X3_X3_of S hC hK hP hv2 hl.1 ⟨Nat.le_of_ble_eq_true rfl, Nat.le_of_ble_eq_true rfl⟩ (Nat.le_of_ble_eq_true rfl) ⟨Nat.zero_le _, Nat.zero_le _⟩ dX3_allBids_21 (fun _ => ?_)
        obtain ⟨v3, hv3, hf⟩ := ob_s hf
        refine mc_X3_X3_bits S hK hv3 hl.1 ⟨Nat.le_of_ble_eq_true rfl, Nat.le_of_ble_eq_true rfl⟩ (Nat.le_of_ble_eq_true rfl) ⟨Nat.zero_le _, Nat.zero_le _⟩ dX3_allBids_24 (fun _ => ?_)
        refine lv_iadd hx hb dX3_allBids_27 ?_
        refine lv_istore_n (i := 1) (lv' := [(1, .int (x1 + v3)), (0, .ref o), (2, .int x2)]) hx hb dX3_allBids_28 rfl hl (by decide) rfl (fun ls hl => ?_)
        refine lv_iinc (v := (x2 + 1)) (lv' := [(2, .int (x2 + 1)), (1, .int (x1 + v3)), (0, .ref o)]) hx hb dX3_allBids_29 hl (k := 2) rfl rfl (by decide) rfl (fun ls hl => ?_)
        refine lv_goto (tgt := 4) hx hb dX3_allBids_32 (by decide) ?_
        exact (ih) (x1 + v3) (x2 + 1) ls (lv_sub (l' := [(0, .ref o), (1, .int (x1 + v3)), (2, .int (x2 + 1))]) hl [2, 1, 0] rfl) hf
  rw [f_X3_allBids] at hf
  refine lv_iconst hx hb dX3_allBids_0 kc_i0 ?_
  refine lv_istore_n (i := 1) (lv' := [(1, .int 0), (0, .ref o)]) hx hb dX3_allBids_1 rfl hl (by decide) rfl (fun ls hl => ?_)
  refine lv_iconst hx hb dX3_allBids_2 kc_i0 ?_
  refine lv_istore_n (i := 2) (lv' := [(2, .int 0), (1, .int 0), (0, .ref o)]) hx hb dX3_allBids_3 rfl hl (by decide) rfl (fun ls hl => ?_)
  exact (w4 FU) 0 0 ls (lv_sub (l' := [(0, .ref o), (1, .int 0), (2, .int 0)]) hl [2, 1, 0] rfl) hf
set_option maxRecDepth 100000 in
theorem mc_X3_X3_allBids  {out : Int32} (S : CallFix p m c cc nL s args lw_all RX3) (hC : mC cl tys mi cI cJ cB) (hK : va_K D cl tys s) (hP : va_P D cl (mW mi cI cJ cB o ad th tp st fk fp ac si fr tt kd nu fa pl fo wd ci gr lm om nw rd aa kp ta nm rn gv gt rw rh lg lh ou) H) (hf : f_X3_allBids nw = some out) (hsz : ls.size = nL) (hR : 2 + 1 ≤ R.frames ∧ 8 + (3 + 11) + 43 ≤ R.locals) (hW : (rest.map fun v => v.category).sum ≤ 8) (hcs : cells ≤ R.cells ∧ slots ≤ R.slots) (hdg : decode cc pc = .ok (.invokevirtual 225, 3)) (kk : True → W p l e R s m args below meth c H locs cells slots Q (F0 m (pc + 3) ls (.int out :: rest))) : W p l e R s m args below meth c H locs cells slots Q (F0 m pc ls (.ref o :: rest)) :=
  gc_Vr (As := []) S (mm_X3_allBids hC hf) (cwV 0 S.2.2.2.2 (lw_V q2227 q2229 qs112 q189 q2230) rfl rfl rfl hd_X3_allBids hR) (gPreV hK hP hC.1 (q0 := 0) rfl) rfl hsz rfl hW hdg hcs kk
theorem hd_X3_home0 : yX3_home0.cls = RX3 ∧ yX3_home0.cls ≠ "java/lang/invoke/MethodHandle" ∧ yX3_home0.cls ≠ "java/lang/invoke/VarHandle" ∧ (parseMethodDescriptor yX3_home0.desc).map (fun d => d.parameters.length) = some 2 := by decide +kernel
set_option maxHeartbeats 4000000 in
set_option maxRecDepth 100000 in
theorem mm_X3_home0 {a0 : Int32} {a1 : Int32} {out : Int32} (hC : mC cl tys mi cI cJ cB) (hf : f_X3_home0 nw a0 a1 = some out) : Met l yX3_home0 (ws_ yX3_home0 cX3_home0 3 (some .int)) (rM 0 0) (gPc D cl tys [.ref o, .int a0, .int a1] (mW mi cI cJ cB o ad th tp st fk fp ac si fr tt kd nu fa pl fo wd ci gr lm om nw rd aa kp ta nm rn gv gt rw rh lg lh ou)) (gR (some (.int out)) True) 0 0 (fun _ => False) := by
  refine gGo (by decide +kernel) (Nat.le_of_ble_eq_true rfl) (fun p e s m below meth c ls S hr hlocks hK hP hl => ?_)
  have S : CallFix p m c cX3_home0 3 s _ lw_all RX3 := S
  obtain ⟨hx, hb, hml, hown, hts⟩ := id S
  have hl : lv_has ls 3 [(0, .ref o), (1, .int a0), (2, .int a1)] := hl
  rw [f_X3_home0] at hf
  refine lv_aload_n hx hb dX3_home0_0 rfl (lv_at hl 0 rfl) ?_
  refine mg_1 S hC hK hP dX3_home0_1 ?_
  refine lv_bipush hx hb dX3_home0_4 kc_b8 ?_
  refine lv_iload_n hx hb dX3_home0_6 rfl (lv_at hl 1 rfl) ?_
  refine lv_imul hx hb dX3_home0_7 ?_
  refine lv_iload_n hx hb dX3_home0_8 rfl (lv_at hl 2 rfl) ?_
  refine lv_iadd hx hb dX3_home0_9 ?_
  obtain ⟨g1, hf⟩ := gd_t hf
  refine ma_1 S hC hK hP (inR_vp g1) rfl dX3_home0_10 ?_
  have hE := Option.some.inj hf
  subst hE
  exact gt_ri S hr hlocks trivial dX3_home0_11
set_option maxRecDepth 100000 in
theorem mc_X3_X3_home0 {a0 : Int32} {a1 : Int32} {out : Int32} (S : CallFix p m c cc nL s args lw_all RX3) (hC : mC cl tys mi cI cJ cB) (hK : va_K D cl tys s) (hP : va_P D cl (mW mi cI cJ cB o ad th tp st fk fp ac si fr tt kd nu fa pl fo wd ci gr lm om nw rd aa kp ta nm rn gv gt rw rh lg lh ou) H) (hf : f_X3_home0 nw a0 a1 = some out) (hsz : ls.size = nL) (hR : 0 + 1 ≤ R.frames ∧ 8 + (3 + 11) + 0 ≤ R.locals) (hW : (rest.map fun v => v.category).sum ≤ 8) (hcs : cells ≤ R.cells ∧ slots ≤ R.slots) (hdg : decode cc pc = .ok (.invokevirtual 202, 3)) (kk : True → W p l e R s m args below meth c H locs cells slots Q (F0 m (pc + 3) ls (.int out :: rest))) : W p l e R s m args below meth c H locs cells slots Q (F0 m pc ls (.int a1 :: .int a0 :: .ref o :: rest)) :=
  gc_Vr (As := [.int a0, .int a1]) S (mm_X3_home0 hC hf) (cwV 2 S.2.2.2.2 (lw_V q2246 q2248 qs116 q189 q2249) rfl rfl rfl hd_X3_home0 hR) (gPreV hK hP hC.1 (q0 := 0) rfl) rfl hsz rfl hW hdg hcs kk
theorem hd_X3_isFree : yX3_isFree.cls = RX3 ∧ yX3_isFree.cls ≠ "java/lang/invoke/MethodHandle" ∧ yX3_isFree.cls ≠ "java/lang/invoke/VarHandle" ∧ (parseMethodDescriptor yX3_isFree.desc).map (fun d => d.parameters.length) = some 1 := by decide +kernel
set_option maxHeartbeats 4000000 in
set_option maxRecDepth 100000 in
theorem mm_X3_isFree {a0 : Int32} {out : Int32} (hC : mC cl tys mi cI cJ cB) (hf : f_X3_isFree nw a0 = some out) : Met l yX3_isFree (ws_ yX3_isFree cX3_isFree 2 (some .boolean)) (rM 1 22) (gPc D cl tys [.ref o, .int a0] (mW mi cI cJ cB o ad th tp st fk fp ac si fr tt kd nu fa pl fo wd ci gr lm om nw rd aa kp ta nm rn gv gt rw rh lg lh ou)) (gR (some (.int out)) (narrow .boolean (.int out) = .int out)) 0 0 (fun _ => False) := by
  refine gGo (by decide +kernel) (Nat.le_of_ble_eq_true rfl) (fun p e s m below meth c ls S hr hlocks hK hP hl => ?_)
  have S : CallFix p m c cX3_isFree 2 s _ lw_all RX3 := S
  obtain ⟨hx, hb, hml, hown, hts⟩ := id S
  have hl : lv_has ls 2 [(0, .ref o), (1, .int a0)] := hl
  rw [f_X3_isFree] at hf
  refine lv_aload_n hx hb dX3_isFree_0 rfl (lv_at hl 0 rfl) ?_
  refine lv_iload_n hx hb dX3_isFree_1 rfl (lv_at hl 1 rfl) ?_
  refine lv_iconst hx hb dX3_isFree_2 kc_i2 ?_
  obtain ⟨v1, hv1, hf⟩ := ob_s hf
  refine mc_X3_X3_home0 S hC hK hP hv1 hl.1 ⟨Nat.le_of_ble_eq_true rfl, Nat.le_of_ble_eq_true rfl⟩ (Nat.le_of_ble_eq_true rfl) ⟨Nat.zero_le _, Nat.zero_le _⟩ dX3_isFree_3 (fun _ => ?_)
  refine lv_iconst hx hb dX3_isFree_6 kc_im1 ?_
  refine lv_icmp_ne (tgt := 33) hx hb dX3_isFree_7 (by decide) (fun c2 => ?_) (fun c2 => ?_)
  · replace hf := it_f c2 hf
    refine lv_iconst hx hb dX3_isFree_33 kc_i0 ?_
    have hE := Option.some.inj hf
    subst hE
    exact gt_rz S hr hlocks nb0 dX3_isFree_34
  · replace hf := it_t c2 hf
    refine lv_aload_n hx hb dX3_isFree_10 rfl (lv_at hl 0 rfl) ?_
    refine lv_iload_n hx hb dX3_isFree_11 rfl (lv_at hl 1 rfl) ?_
    refine lv_iconst hx hb dX3_isFree_12 kc_i3 ?_
    obtain ⟨v3, hv3, hf⟩ := ob_s hf
    refine mc_X3_X3_home0 S hC hK hP hv3 hl.1 ⟨Nat.le_of_ble_eq_true rfl, Nat.le_of_ble_eq_true rfl⟩ (Nat.le_of_ble_eq_true rfl) ⟨Nat.zero_le _, Nat.zero_le _⟩ dX3_isFree_13 (fun _ => ?_)
    refine lv_if_ne (tgt := 33) hx hb dX3_isFree_16 (by decide) (fun c4 => ?_) (fun c4 => ?_)
    · replace hf := it_f c4 hf
      refine lv_iconst hx hb dX3_isFree_33 kc_i0 ?_
      have hE := Option.some.inj hf
      subst hE
      exact gt_rz S hr hlocks nb0 dX3_isFree_34
    · replace hf := it_t c4 hf
      refine lv_aload_n hx hb dX3_isFree_19 rfl (lv_at hl 0 rfl) ?_
      refine lv_iload_n hx hb dX3_isFree_20 rfl (lv_at hl 1 rfl) ?_
      refine lv_bipush hx hb dX3_isFree_21 kc_b6 ?_
      obtain ⟨v5, hv5, hf⟩ := ob_s hf
      refine mc_X3_X3_home0 S hC hK hP hv5 hl.1 ⟨Nat.le_of_ble_eq_true rfl, Nat.le_of_ble_eq_true rfl⟩ (Nat.le_of_ble_eq_true rfl) ⟨Nat.zero_le _, Nat.zero_le _⟩ dX3_isFree_23 (fun _ => ?_)
      refine lv_if_ne (tgt := 33) hx hb dX3_isFree_26 (by decide) (fun c6 => ?_) (fun c6 => ?_)
      · replace hf := it_f c6 hf
        refine lv_iconst hx hb dX3_isFree_33 kc_i0 ?_
        have hE := Option.some.inj hf
        subst hE
        exact gt_rz S hr hlocks nb0 dX3_isFree_34
      · replace hf := it_t c6 hf
        refine lv_iconst hx hb dX3_isFree_29 kc_i1 ?_
        refine lv_goto (tgt := 34) hx hb dX3_isFree_30 (by decide) ?_
        have hE := Option.some.inj hf
        subst hE
        exact gt_rz S hr hlocks nb1 dX3_isFree_34
set_option maxRecDepth 100000 in
theorem mc_X3_X3_isFree {a0 : Int32} {out : Int32} (S : CallFix p m c cc nL s args lw_all RX3) (hC : mC cl tys mi cI cJ cB) (hK : va_K D cl tys s) (hP : va_P D cl (mW mi cI cJ cB o ad th tp st fk fp ac si fr tt kd nu fa pl fo wd ci gr lm om nw rd aa kp ta nm rn gv gt rw rh lg lh ou) H) (hf : f_X3_isFree nw a0 = some out) (hsz : ls.size = nL) (hR : 1 + 1 ≤ R.frames ∧ 8 + (2 + 11) + 22 ≤ R.locals) (hW : (rest.map fun v => v.category).sum ≤ 8) (hcs : cells ≤ R.cells ∧ slots ≤ R.slots) (hdg : decode cc pc = .ok (.invokevirtual 219, 3)) (kk : (narrow .boolean (.int out) = .int out) → W p l e R s m args below meth c H locs cells slots Q (F0 m (pc + 3) ls (.int out :: rest))) : W p l e R s m args below meth c H locs cells slots Q (F0 m pc ls (.int a0 :: .ref o :: rest)) :=
  gc_Vr (As := [.int a0]) S (mm_X3_isFree hC hf) (cwV 1 S.2.2.2.2 (lw_V q2242 q2244 qs115 q189 q2245) rfl rfl rfl hd_X3_isFree hR) (gPreV hK hP hC.1 (q0 := 0) rfl) rfl hsz rfl hW hdg hcs kk
theorem hd_X3_freeOnes : yX3_freeOnes.cls = RX3 ∧ yX3_freeOnes.cls ≠ "java/lang/invoke/MethodHandle" ∧ yX3_freeOnes.cls ≠ "java/lang/invoke/VarHandle" ∧ (parseMethodDescriptor yX3_freeOnes.desc).map (fun d => d.parameters.length) = some 0 := by decide +kernel
set_option maxHeartbeats 4000000 in
set_option maxRecDepth 100000 in
theorem mm_X3_freeOnes  {out : Int32} (hC : mC cl tys mi cI cJ cB) (hf : f_X3_freeOnes nw = some out) : Met l yX3_freeOnes (ws_ yX3_freeOnes cX3_freeOnes 3 (some .int)) (rM 2 43) (gPc D cl tys [.ref o] (mW mi cI cJ cB o ad th tp st fk fp ac si fr tt kd nu fa pl fo wd ci gr lm om nw rd aa kp ta nm rn gv gt rw rh lg lh ou)) (gR (some (.int out)) True) 0 0 (fun _ => False) := by
  refine gGo (by decide +kernel) (Nat.le_of_ble_eq_true rfl) (fun p e s m below meth c ls S hr hlocks hK hP hl => ?_)
  have S : CallFix p m c cX3_freeOnes 3 s _ lw_all RX3 := S
  obtain ⟨hx, hb, hml, hown, hts⟩ := id S
  have hl : lv_has ls 3 [(0, .ref o)] := hl
  have w4 : ∀ (n : Nat) , ∀ (x1 : Int32) (x2 : Int32) (ls : Array Slot), lv_has ls 3 [(0, .ref o), (1, .int x1), (2, .int x2)] → f_X3_freeOnes_4 n nw x1 x2 = some out → W p l e (rM 2 43) s m ([.ref o] : List Value).toArray below meth c s.heap [] 0 0 (MQ below (gR (some (.int out)) True) ([.ref o] : List Value).toArray s 0 0 (fun _ => False)) (F0 m 4 ls []) := by
    intro n
    induction n with
    | zero =>
      intro x1 x2 ls hl hf
      exact absurd hf (by rw [f_X3_freeOnes_4]; exact nofun)
    | succ n ih =>
      intro x1 x2 ls hl hf
      rw [f_X3_freeOnes_4] at hf
      refine lv_iload_n hx hb dX3_freeOnes_4 rfl (lv_at hl 2 rfl) ?_
      refine lv_aload_n hx hb dX3_freeOnes_5 rfl (lv_at hl 0 rfl) ?_
      refine mg_1 S hC hK hP dX3_freeOnes_6 ?_
      refine lv_sipush hx hb dX3_freeOnes_9 kc_s230 ?_
      refine ma_1 S hC hK hP kv_230_390 kn_230 dX3_freeOnes_12 ?_
      refine lv_icmp_ge (tgt := 38) hx hb dX3_freeOnes_13 (by decide) (fun c1 => ?_) (fun c1 => ?_)
      · replace hf := it_t c1 hf
        refine lv_iload_n hx hb dX3_freeOnes_38 rfl (lv_at hl 1 rfl) ?_
        have hE := Option.some.inj hf
        subst hE
        exact gt_ri S hr hlocks trivial dX3_freeOnes_39
      · replace hf := it_f c1 hf
        refine lv_iload_n hx hb dX3_freeOnes_16 rfl (lv_at hl 1 rfl) ?_
        refine lv_aload_n hx hb dX3_freeOnes_17 rfl (lv_at hl 0 rfl) ?_
        refine lv_iload_n hx hb dX3_freeOnes_18 rfl (lv_at hl 2 rfl) ?_
        obtain ⟨v2, hv2, hf⟩ := ob_s hf
        refine mc_X3_X3_isFree S hC hK hP hv2 hl.1 ⟨Nat.le_of_ble_eq_true rfl, Nat.le_of_ble_eq_true rfl⟩ (Nat.le_of_ble_eq_true rfl) ⟨Nat.zero_le _, Nat.zero_le _⟩ dX3_freeOnes_19 (fun hnv2 => ?_)
        refine lv_if_eq (tgt := 29) hx hb dX3_freeOnes_22 (by decide) (fun c3 => ?_) (fun c3 => ?_)
        · replace hf := it_t c3 hf
          refine lv_iconst hx hb dX3_freeOnes_29 kc_i0 ?_
          refine lv_iadd hx hb dX3_freeOnes_30 ?_
          refine lv_istore_n (i := 1) (lv' := [(1, .int (x1 + 0)), (0, .ref o), (2, .int x2)]) hx hb dX3_freeOnes_31 rfl hl (by decide) rfl (fun ls hl => ?_)
          refine lv_iinc (v := (x2 + 1)) (lv' := [(2, .int (x2 + 1)), (1, .int (x1 + 0)), (0, .ref o)]) hx hb dX3_freeOnes_32 hl (k := 2) rfl rfl (by decide) rfl (fun ls hl => ?_)
          refine lv_goto (tgt := 4) hx hb dX3_freeOnes_35 (by decide) ?_
          exact (ih) (x1 + 0) (x2 + 1) ls (lv_sub (l' := [(0, .ref o), (1, .int (x1 + 0)), (2, .int (x2 + 1))]) hl [2, 1, 0] rfl) hf
        · replace hf := it_f c3 hf
          refine lv_iconst hx hb dX3_freeOnes_25 kc_i1 ?_
          refine lv_goto (tgt := 30) hx hb dX3_freeOnes_26 (by decide) ?_
          refine lv_iadd hx hb dX3_freeOnes_30 ?_
          refine lv_istore_n (i := 1) (lv' := [(1, .int (x1 + 1)), (0, .ref o), (2, .int x2)]) hx hb dX3_freeOnes_31 rfl hl (by decide) rfl (fun ls hl => ?_)
          refine lv_iinc (v := (x2 + 1)) (lv' := [(2, .int (x2 + 1)), (1, .int (x1 + 1)), (0, .ref o)]) hx hb dX3_freeOnes_32 hl (k := 2) rfl rfl (by decide) rfl (fun ls hl => ?_)
          refine lv_goto (tgt := 4) hx hb dX3_freeOnes_35 (by decide) ?_
          exact (ih) (x1 + 1) (x2 + 1) ls (lv_sub (l' := [(0, .ref o), (1, .int (x1 + 1)), (2, .int (x2 + 1))]) hl [2, 1, 0] rfl) hf
  rw [f_X3_freeOnes] at hf
  refine lv_iconst hx hb dX3_freeOnes_0 kc_i0 ?_
  refine lv_istore_n (i := 1) (lv' := [(1, .int 0), (0, .ref o)]) hx hb dX3_freeOnes_1 rfl hl (by decide) rfl (fun ls hl => ?_)
  refine lv_iconst hx hb dX3_freeOnes_2 kc_i0 ?_
  refine lv_istore_n (i := 2) (lv' := [(2, .int 0), (1, .int 0), (0, .ref o)]) hx hb dX3_freeOnes_3 rfl hl (by decide) rfl (fun ls hl => ?_)
  exact (w4 FU) 0 0 ls (lv_sub (l' := [(0, .ref o), (1, .int 0), (2, .int 0)]) hl [2, 1, 0] rfl) hf
set_option maxRecDepth 100000 in
theorem mc_X3_X3_freeOnes  {out : Int32} (S : CallFix p m c cc nL s args lw_all RX3) (hC : mC cl tys mi cI cJ cB) (hK : va_K D cl tys s) (hP : va_P D cl (mW mi cI cJ cB o ad th tp st fk fp ac si fr tt kd nu fa pl fo wd ci gr lm om nw rd aa kp ta nm rn gv gt rw rh lg lh ou) H) (hf : f_X3_freeOnes nw = some out) (hsz : ls.size = nL) (hR : 2 + 1 ≤ R.frames ∧ 8 + (3 + 11) + 43 ≤ R.locals) (hW : (rest.map fun v => v.category).sum ≤ 8) (hcs : cells ≤ R.cells ∧ slots ≤ R.slots) (hdg : decode cc pc = .ok (.invokevirtual 228, 3)) (kk : True → W p l e R s m args below meth c H locs cells slots Q (F0 m (pc + 3) ls (.int out :: rest))) : W p l e R s m args below meth c H locs cells slots Q (F0 m pc ls (.ref o :: rest)) :=
  gc_Vr (As := []) S (mm_X3_freeOnes hC hf) (cwV 0 S.2.2.2.2 (lw_V q2238 q2240 qs114 q189 q2241) rfl rfl rfl hd_X3_freeOnes hR) (gPreV hK hP hC.1 (q0 := 0) rfl) rfl hsz rfl hW hdg hcs kk
theorem hd_X3_isIn : yX3_isIn.cls = RX3 ∧ yX3_isIn.cls ≠ "java/lang/invoke/MethodHandle" ∧ yX3_isIn.cls ≠ "java/lang/invoke/VarHandle" ∧ (parseMethodDescriptor yX3_isIn.desc).map (fun d => d.parameters.length) = some 1 := by decide +kernel
set_option maxHeartbeats 4000000 in
set_option maxRecDepth 100000 in
theorem mm_X3_isIn {a0 : Int32} {out : Int32} (hC : mC cl tys mi cI cJ cB) (hf : f_X3_isIn nw a0 = some out) : Met l yX3_isIn (ws_ yX3_isIn cX3_isIn 2 (some .boolean)) (rM 2 43) (gPc D cl tys [.ref o, .int a0] (mW mi cI cJ cB o ad th tp st fk fp ac si fr tt kd nu fa pl fo wd ci gr lm om nw rd aa kp ta nm rn gv gt rw rh lg lh ou)) (gR (some (.int out)) (narrow .boolean (.int out) = .int out)) 0 0 (fun _ => False) := by
  refine gGo (by decide +kernel) (Nat.le_of_ble_eq_true rfl) (fun p e s m below meth c ls S hr hlocks hK hP hl => ?_)
  have S : CallFix p m c cX3_isIn 2 s _ lw_all RX3 := S
  obtain ⟨hx, hb, hml, hown, hts⟩ := id S
  have hl : lv_has ls 2 [(0, .ref o), (1, .int a0)] := hl
  rw [f_X3_isIn] at hf
  refine lv_aload_n hx hb dX3_isIn_0 rfl (lv_at hl 0 rfl) ?_
  refine lv_iload_n hx hb dX3_isIn_1 rfl (lv_at hl 1 rfl) ?_
  refine lv_bipush hx hb dX3_isIn_2 kc_b8 ?_
  obtain ⟨v1, hv1, hf⟩ := ob_s hf
  refine mc_X3_X3_of S hC hK hP hv1 hl.1 ⟨Nat.le_of_ble_eq_true rfl, Nat.le_of_ble_eq_true rfl⟩ (Nat.le_of_ble_eq_true rfl) ⟨Nat.zero_le _, Nat.zero_le _⟩ dX3_isIn_4 (fun _ => ?_)
  refine lv_if_ne (tgt := 14) hx hb dX3_isIn_7 (by decide) (fun c2 => ?_) (fun c2 => ?_)
  · replace hf := it_f c2 hf
    refine lv_iconst hx hb dX3_isIn_14 kc_i0 ?_
    have hE := Option.some.inj hf
    subst hE
    exact gt_rz S hr hlocks nb0 dX3_isIn_15
  · replace hf := it_t c2 hf
    refine lv_iconst hx hb dX3_isIn_10 kc_i1 ?_
    refine lv_goto (tgt := 15) hx hb dX3_isIn_11 (by decide) ?_
    have hE := Option.some.inj hf
    subst hE
    exact gt_rz S hr hlocks nb1 dX3_isIn_15
set_option maxRecDepth 100000 in
theorem mc_X3_X3_isIn {a0 : Int32} {out : Int32} (S : CallFix p m c cc nL s args lw_all RX3) (hC : mC cl tys mi cI cJ cB) (hK : va_K D cl tys s) (hP : va_P D cl (mW mi cI cJ cB o ad th tp st fk fp ac si fr tt kd nu fa pl fo wd ci gr lm om nw rd aa kp ta nm rn gv gt rw rh lg lh ou) H) (hf : f_X3_isIn nw a0 = some out) (hsz : ls.size = nL) (hR : 2 + 1 ≤ R.frames ∧ 8 + (2 + 11) + 43 ≤ R.locals) (hW : (rest.map fun v => v.category).sum ≤ 8) (hcs : cells ≤ R.cells ∧ slots ≤ R.slots) (hdg : decode cc pc = .ok (.invokevirtual 208, 3)) (kk : (narrow .boolean (.int out) = .int out) → W p l e R s m args below meth c H locs cells slots Q (F0 m (pc + 3) ls (.int out :: rest))) : W p l e R s m args below meth c H locs cells slots Q (F0 m pc ls (.int a0 :: .ref o :: rest)) :=
  gc_Vr (As := [.int a0]) S (mm_X3_isIn hC hf) (cwV 1 S.2.2.2.2 (lw_V q2254 q2256 qs118 q189 q2257) rfl rfl rfl hd_X3_isIn hR) (gPreV hK hP hC.1 (q0 := 0) rfl) rfl hsz rfl hW hdg hcs kk
theorem hd_X3_inOnes : yX3_inOnes.cls = RX3 ∧ yX3_inOnes.cls ≠ "java/lang/invoke/MethodHandle" ∧ yX3_inOnes.cls ≠ "java/lang/invoke/VarHandle" ∧ (parseMethodDescriptor yX3_inOnes.desc).map (fun d => d.parameters.length) = some 0 := by decide +kernel
set_option maxHeartbeats 4000000 in
set_option maxRecDepth 100000 in
theorem mm_X3_inOnes  {out : Int32} (hC : mC cl tys mi cI cJ cB) (hf : f_X3_inOnes nw = some out) : Met l yX3_inOnes (ws_ yX3_inOnes cX3_inOnes 3 (some .int)) (rM 3 64) (gPc D cl tys [.ref o] (mW mi cI cJ cB o ad th tp st fk fp ac si fr tt kd nu fa pl fo wd ci gr lm om nw rd aa kp ta nm rn gv gt rw rh lg lh ou)) (gR (some (.int out)) True) 0 0 (fun _ => False) := by
  refine gGo (by decide +kernel) (Nat.le_of_ble_eq_true rfl) (fun p e s m below meth c ls S hr hlocks hK hP hl => ?_)
  have S : CallFix p m c cX3_inOnes 3 s _ lw_all RX3 := S
  obtain ⟨hx, hb, hml, hown, hts⟩ := id S
  have hl : lv_has ls 3 [(0, .ref o)] := hl
  have w4 : ∀ (n : Nat) , ∀ (x1 : Int32) (x2 : Int32) (ls : Array Slot), lv_has ls 3 [(0, .ref o), (1, .int x1), (2, .int x2)] → f_X3_inOnes_4 n nw x1 x2 = some out → W p l e (rM 3 64) s m ([.ref o] : List Value).toArray below meth c s.heap [] 0 0 (MQ below (gR (some (.int out)) True) ([.ref o] : List Value).toArray s 0 0 (fun _ => False)) (F0 m 4 ls []) := by
    intro n
    induction n with
    | zero =>
      intro x1 x2 ls hl hf
      exact absurd hf (by rw [f_X3_inOnes_4]; exact nofun)
    | succ n ih =>
      intro x1 x2 ls hl hf
      rw [f_X3_inOnes_4] at hf
      refine lv_iload_n hx hb dX3_inOnes_4 rfl (lv_at hl 2 rfl) ?_
      refine lv_aload_n hx hb dX3_inOnes_5 rfl (lv_at hl 0 rfl) ?_
      refine mg_1 S hC hK hP dX3_inOnes_6 ?_
      refine lv_sipush hx hb dX3_inOnes_9 kc_s231 ?_
      refine ma_1 S hC hK hP kv_231_390 kn_231 dX3_inOnes_12 ?_
      refine lv_icmp_ge (tgt := 38) hx hb dX3_inOnes_13 (by decide) (fun c1 => ?_) (fun c1 => ?_)
      · replace hf := it_t c1 hf
        refine lv_iload_n hx hb dX3_inOnes_38 rfl (lv_at hl 1 rfl) ?_
        have hE := Option.some.inj hf
        subst hE
        exact gt_ri S hr hlocks trivial dX3_inOnes_39
      · replace hf := it_f c1 hf
        refine lv_iload_n hx hb dX3_inOnes_16 rfl (lv_at hl 1 rfl) ?_
        refine lv_aload_n hx hb dX3_inOnes_17 rfl (lv_at hl 0 rfl) ?_
        refine lv_iload_n hx hb dX3_inOnes_18 rfl (lv_at hl 2 rfl) ?_
        obtain ⟨v2, hv2, hf⟩ := ob_s hf
        refine mc_X3_X3_isIn S hC hK hP hv2 hl.1 ⟨Nat.le_of_ble_eq_true rfl, Nat.le_of_ble_eq_true rfl⟩ (Nat.le_of_ble_eq_true rfl) ⟨Nat.zero_le _, Nat.zero_le _⟩ dX3_inOnes_19 (fun hnv2 => ?_)
        refine lv_if_eq (tgt := 29) hx hb dX3_inOnes_22 (by decide) (fun c3 => ?_) (fun c3 => ?_)
        · replace hf := it_t c3 hf
          refine lv_iconst hx hb dX3_inOnes_29 kc_i0 ?_
          refine lv_iadd hx hb dX3_inOnes_30 ?_
          refine lv_istore_n (i := 1) (lv' := [(1, .int (x1 + 0)), (0, .ref o), (2, .int x2)]) hx hb dX3_inOnes_31 rfl hl (by decide) rfl (fun ls hl => ?_)
          refine lv_iinc (v := (x2 + 1)) (lv' := [(2, .int (x2 + 1)), (1, .int (x1 + 0)), (0, .ref o)]) hx hb dX3_inOnes_32 hl (k := 2) rfl rfl (by decide) rfl (fun ls hl => ?_)
          refine lv_goto (tgt := 4) hx hb dX3_inOnes_35 (by decide) ?_
          exact (ih) (x1 + 0) (x2 + 1) ls (lv_sub (l' := [(0, .ref o), (1, .int (x1 + 0)), (2, .int (x2 + 1))]) hl [2, 1, 0] rfl) hf
        · replace hf := it_f c3 hf
          refine lv_iconst hx hb dX3_inOnes_25 kc_i1 ?_
          refine lv_goto (tgt := 30) hx hb dX3_inOnes_26 (by decide) ?_
          refine lv_iadd hx hb dX3_inOnes_30 ?_
          refine lv_istore_n (i := 1) (lv' := [(1, .int (x1 + 1)), (0, .ref o), (2, .int x2)]) hx hb dX3_inOnes_31 rfl hl (by decide) rfl (fun ls hl => ?_)
          refine lv_iinc (v := (x2 + 1)) (lv' := [(2, .int (x2 + 1)), (1, .int (x1 + 1)), (0, .ref o)]) hx hb dX3_inOnes_32 hl (k := 2) rfl rfl (by decide) rfl (fun ls hl => ?_)
          refine lv_goto (tgt := 4) hx hb dX3_inOnes_35 (by decide) ?_
          exact (ih) (x1 + 1) (x2 + 1) ls (lv_sub (l' := [(0, .ref o), (1, .int (x1 + 1)), (2, .int (x2 + 1))]) hl [2, 1, 0] rfl) hf
  rw [f_X3_inOnes] at hf
  refine lv_iconst hx hb dX3_inOnes_0 kc_i0 ?_
  refine lv_istore_n (i := 1) (lv' := [(1, .int 0), (0, .ref o)]) hx hb dX3_inOnes_1 rfl hl (by decide) rfl (fun ls hl => ?_)
  refine lv_iconst hx hb dX3_inOnes_2 kc_i0 ?_
  refine lv_istore_n (i := 2) (lv' := [(2, .int 0), (1, .int 0), (0, .ref o)]) hx hb dX3_inOnes_3 rfl hl (by decide) rfl (fun ls hl => ?_)
  exact (w4 FU) 0 0 ls (lv_sub (l' := [(0, .ref o), (1, .int 0), (2, .int 0)]) hl [2, 1, 0] rfl) hf
set_option maxRecDepth 100000 in
theorem mc_X3_X3_inOnes  {out : Int32} (S : CallFix p m c cc nL s args lw_all RX3) (hC : mC cl tys mi cI cJ cB) (hK : va_K D cl tys s) (hP : va_P D cl (mW mi cI cJ cB o ad th tp st fk fp ac si fr tt kd nu fa pl fo wd ci gr lm om nw rd aa kp ta nm rn gv gt rw rh lg lh ou) H) (hf : f_X3_inOnes nw = some out) (hsz : ls.size = nL) (hR : 3 + 1 ≤ R.frames ∧ 8 + (3 + 11) + 64 ≤ R.locals) (hW : (rest.map fun v => v.category).sum ≤ 8) (hcs : cells ≤ R.cells ∧ slots ≤ R.slots) (hdg : decode cc pc = .ok (.invokevirtual 231, 3)) (kk : True → W p l e R s m args below meth c H locs cells slots Q (F0 m (pc + 3) ls (.int out :: rest))) : W p l e R s m args below meth c H locs cells slots Q (F0 m pc ls (.ref o :: rest)) :=
  gc_Vr (As := []) S (mm_X3_inOnes hC hf) (cwV 0 S.2.2.2.2 (lw_V q2250 q2252 qs117 q189 q2253) rfl rfl rfl hd_X3_inOnes hR) (gPreV hK hP hC.1 (q0 := 0) rfl) rfl hsz rfl hW hdg hcs kk
theorem hd_X3_many : yX3_many.cls = RX3 ∧ yX3_many.cls ≠ "java/lang/invoke/MethodHandle" ∧ yX3_many.cls ≠ "java/lang/invoke/VarHandle" ∧ (parseMethodDescriptor yX3_many.desc).map (fun d => d.parameters.length) = some 1 := by decide +kernel
set_option maxHeartbeats 4000000 in
set_option maxRecDepth 100000 in
theorem mm_X3_many {a0 : Int32} {out : Int32 × Int32 × Int32} (hC : mC cl tys mi cI cJ cB) (hD : mD o ad) (hf : f_X3_many ac nw th st a0 = some out) : Met l yX3_many (ws_ yX3_many cX3_many 2 (some .int)) (rM 4 86) (gPc D cl tys [.ref o, .int a0] (mW mi cI cJ cB o ad th tp st fk fp ac si fr tt kd nu fa pl fo wd ci gr lm om nw rd aa kp ta nm rn gv gt rw rh lg lh ou)) (gQ D cl (some (.int out.1)) True (mW mi cI cJ cB o ad out.2.1 tp out.2.2 fk fp ac si fr tt kd nu fa pl fo wd ci gr lm om nw rd aa kp ta nm rn gv gt rw rh lg lh ou) (mA o ad)) 0 0 (mA o ad) := by
  refine gGo (by decide +kernel) (Nat.le_of_ble_eq_true rfl) (fun p e s m below meth c ls S hr hlocks hK hP hl => ?_)
  have S : CallFix p m c cX3_many 2 s _ lw_all RX3 := S
  obtain ⟨hx, hb, hml, hown, hts⟩ := id S
  have hl : lv_has ls 2 [(0, .ref o), (1, .int a0)] := hl
  suffices hg : ∀ (H : Heap) (locs : List Loc), va_P D cl (mW mi cI cJ cB o ad th tp st fk fp ac si fr tt kd nu fa pl fo wd ci gr lm om nw rd aa kp ta nm rn gv gt rw rh lg lh ou) H → va_S (mA o ad) s.heap H locs → W p l e (rM 4 86) s m ([.ref o, .int a0] : List Value).toArray below meth c H locs 0 0 (MQ below (gQ D cl (some (.int out.1)) True (mW mi cI cJ cB o ad out.2.1 tp out.2.2 fk fp ac si fr tt kd nu fa pl fo wd ci gr lm om nw rd aa kp ta nm rn gv gt rw rh lg lh ou) (mA o ad)) ([.ref o, .int a0] : List Value).toArray s 0 0 (mA o ad)) (F0 m 0 ls []) from hg s.heap [] hP va_S.rf
  clear hP
  intro H locs hP hS
  rw [f_X3_many] at hf
  refine lv_iload_n hx hb dX3_many_0 rfl (lv_at hl 1 rfl) ?_
  by_cases c1 : a0 = 0
  · replace hf := it_t c1 hf
    refine lv_tableIn (tgt := 56) (off := 55) hx hb dX3_many_1 (by rw [c1]; decide) (by rw [c1]; decide) (by rw [c1]; decide) (by decide) ?_
    refine lv_aload_n hx hb dX3_many_56 rfl (lv_at hl 0 rfl) ?_
    refine lv_aload_n hx hb dX3_many_57 rfl (lv_at hl 0 rfl) ?_
    refine mg_1 S hC hK hP dX3_many_58 ?_
    refine lv_sipush hx hb dX3_many_61 kc_s230 ?_
    refine ma_1 S hC hK hP kv_230_390 kn_230 dX3_many_64 ?_
    obtain ⟨v2, hv2, hf⟩ := ob_s hf
    refine mc_X3_X3_gives S hC hD hK hP hS hv2 hl.1 ⟨Nat.le_of_ble_eq_true rfl, Nat.le_of_ble_eq_true rfl⟩ (Nat.le_of_ble_eq_true rfl) ⟨Nat.zero_le _, Nat.zero_le _⟩ dX3_many_65 (fun H locs _ hP hS => ?_)
    have hE := Option.some.inj hf
    subst hE
    exact gt_wi S hr hlocks trivial hP hS dX3_many_68
  · replace hf := it_f c1 hf
    by_cases c3 : a0 = 1
    · replace hf := it_t c3 hf
      refine lv_tableIn (tgt := 69) (off := 68) hx hb dX3_many_1 (by rw [c3]; decide) (by rw [c3]; decide) (by rw [c3]; decide) (by decide) ?_
      refine lv_aload_n hx hb dX3_many_69 rfl (lv_at hl 0 rfl) ?_
      refine lv_aload_n hx hb dX3_many_70 rfl (lv_at hl 0 rfl) ?_
      refine mg_1 S hC hK hP dX3_many_71 ?_
      refine lv_sipush hx hb dX3_many_74 kc_s231 ?_
      refine ma_1 S hC hK hP kv_231_390 kn_231 dX3_many_77 ?_
      obtain ⟨v4, hv4, hf⟩ := ob_s hf
      refine mc_X3_X3_gives S hC hD hK hP hS hv4 hl.1 ⟨Nat.le_of_ble_eq_true rfl, Nat.le_of_ble_eq_true rfl⟩ (Nat.le_of_ble_eq_true rfl) ⟨Nat.zero_le _, Nat.zero_le _⟩ dX3_many_78 (fun H locs _ hP hS => ?_)
      have hE := Option.some.inj hf
      subst hE
      exact gt_wi S hr hlocks trivial hP hS dX3_many_81
    · replace hf := it_f c3 hf
      by_cases c5 : a0 = (nI 2)
      · replace hf := it_t c5 hf
        refine lv_tableIn (tgt := 82) (off := 81) hx hb dX3_many_1 (by rw [c5]; decide) (by rw [c5]; decide) (by rw [c5]; decide) (by decide) ?_
        refine lv_aload_n hx hb dX3_many_82 rfl (lv_at hl 0 rfl) ?_
        refine lv_aload_n hx hb dX3_many_83 rfl (lv_at hl 0 rfl) ?_
        refine mg_1 S hC hK hP dX3_many_84 ?_
        refine lv_sipush hx hb dX3_many_87 kc_s232 ?_
        refine ma_1 S hC hK hP kv_232_390 kn_232 dX3_many_90 ?_
        obtain ⟨v6, hv6, hf⟩ := ob_s hf
        refine mc_X3_X3_gives S hC hD hK hP hS hv6 hl.1 ⟨Nat.le_of_ble_eq_true rfl, Nat.le_of_ble_eq_true rfl⟩ (Nat.le_of_ble_eq_true rfl) ⟨Nat.zero_le _, Nat.zero_le _⟩ dX3_many_91 (fun H locs _ hP hS => ?_)
        have hE := Option.some.inj hf
        subst hE
        exact gt_wi S hr hlocks trivial hP hS dX3_many_94
      · replace hf := it_f c5 hf
        by_cases c7 : a0 = (nI 3)
        · replace hf := it_t c7 hf
          refine lv_tableIn (tgt := 95) (off := 94) hx hb dX3_many_1 (by rw [c7]; decide) (by rw [c7]; decide) (by rw [c7]; decide) (by decide) ?_
          refine lv_aload_n hx hb dX3_many_95 rfl (lv_at hl 0 rfl) ?_
          refine lv_aload_n hx hb dX3_many_96 rfl (lv_at hl 0 rfl) ?_
          refine mg_1 S hC hK hP dX3_many_97 ?_
          refine lv_sipush hx hb dX3_many_100 kc_s233 ?_
          refine ma_1 S hC hK hP kv_233_390 kn_233 dX3_many_103 ?_
          obtain ⟨v8, hv8, hf⟩ := ob_s hf
          refine mc_X3_X3_gives S hC hD hK hP hS hv8 hl.1 ⟨Nat.le_of_ble_eq_true rfl, Nat.le_of_ble_eq_true rfl⟩ (Nat.le_of_ble_eq_true rfl) ⟨Nat.zero_le _, Nat.zero_le _⟩ dX3_many_104 (fun H locs _ hP hS => ?_)
          have hE := Option.some.inj hf
          subst hE
          exact gt_wi S hr hlocks trivial hP hS dX3_many_107
        · replace hf := it_f c7 hf
          by_cases c9 : a0 = (nI 4)
          · replace hf := it_t c9 hf
            refine lv_tableIn (tgt := 108) (off := 107) hx hb dX3_many_1 (by rw [c9]; decide) (by rw [c9]; decide) (by rw [c9]; decide) (by decide) ?_
            refine lv_aload_n hx hb dX3_many_108 rfl (lv_at hl 0 rfl) ?_
            refine lv_aload_n hx hb dX3_many_109 rfl (lv_at hl 0 rfl) ?_
            obtain ⟨v10, hv10, hf⟩ := ob_s hf
            refine mc_X3_X3_allBids S hC hK hP hv10 hl.1 ⟨Nat.le_of_ble_eq_true rfl, Nat.le_of_ble_eq_true rfl⟩ (Nat.le_of_ble_eq_true rfl) ⟨Nat.zero_le _, Nat.zero_le _⟩ dX3_many_110 (fun _ => ?_)
            obtain ⟨v11, hv11, hf⟩ := ob_s hf
            refine mc_X3_X3_gives S hC hD hK hP hS hv11 hl.1 ⟨Nat.le_of_ble_eq_true rfl, Nat.le_of_ble_eq_true rfl⟩ (Nat.le_of_ble_eq_true rfl) ⟨Nat.zero_le _, Nat.zero_le _⟩ dX3_many_113 (fun H locs _ hP hS => ?_)
            have hE := Option.some.inj hf
            subst hE
            exact gt_wi S hr hlocks trivial hP hS dX3_many_116
          · replace hf := it_f c9 hf
            by_cases c12 : a0 = (nI 5)
            · replace hf := it_t c12 hf
              refine lv_tableIn (tgt := 117) (off := 116) hx hb dX3_many_1 (by rw [c12]; decide) (by rw [c12]; decide) (by rw [c12]; decide) (by decide) ?_
              refine lv_aload_n hx hb dX3_many_117 rfl (lv_at hl 0 rfl) ?_
              refine lv_aload_n hx hb dX3_many_118 rfl (lv_at hl 0 rfl) ?_
              obtain ⟨v13, hv13, hf⟩ := ob_s hf
              refine mc_X3_X3_freeOnes S hC hK hP hv13 hl.1 ⟨Nat.le_of_ble_eq_true rfl, Nat.le_of_ble_eq_true rfl⟩ (Nat.le_of_ble_eq_true rfl) ⟨Nat.zero_le _, Nat.zero_le _⟩ dX3_many_119 (fun _ => ?_)
              obtain ⟨v14, hv14, hf⟩ := ob_s hf
              refine mc_X3_X3_gives S hC hD hK hP hS hv14 hl.1 ⟨Nat.le_of_ble_eq_true rfl, Nat.le_of_ble_eq_true rfl⟩ (Nat.le_of_ble_eq_true rfl) ⟨Nat.zero_le _, Nat.zero_le _⟩ dX3_many_122 (fun H locs _ hP hS => ?_)
              have hE := Option.some.inj hf
              subst hE
              exact gt_wi S hr hlocks trivial hP hS dX3_many_125
            · replace hf := it_f c12 hf
              by_cases c15 : a0 = (nI 6)
              · replace hf := it_t c15 hf
                refine lv_tableIn (tgt := 126) (off := 125) hx hb dX3_many_1 (by rw [c15]; decide) (by rw [c15]; decide) (by rw [c15]; decide) (by decide) ?_
                refine lv_aload_n hx hb dX3_many_126 rfl (lv_at hl 0 rfl) ?_
                refine lv_aload_n hx hb dX3_many_127 rfl (lv_at hl 0 rfl) ?_
                obtain ⟨v16, hv16, hf⟩ := ob_s hf
                refine mc_X3_X3_inOnes S hC hK hP hv16 hl.1 ⟨Nat.le_of_ble_eq_true rfl, Nat.le_of_ble_eq_true rfl⟩ (Nat.le_of_ble_eq_true rfl) ⟨Nat.zero_le _, Nat.zero_le _⟩ dX3_many_128 (fun _ => ?_)
                obtain ⟨v17, hv17, hf⟩ := ob_s hf
                refine mc_X3_X3_gives S hC hD hK hP hS hv17 hl.1 ⟨Nat.le_of_ble_eq_true rfl, Nat.le_of_ble_eq_true rfl⟩ (Nat.le_of_ble_eq_true rfl) ⟨Nat.zero_le _, Nat.zero_le _⟩ dX3_many_131 (fun H locs _ hP hS => ?_)
                have hE := Option.some.inj hf
                subst hE
                exact gt_wi S hr hlocks trivial hP hS dX3_many_134
              · replace hf := it_f c15 hf
                by_cases c18 : a0 = (nI 7)
                · replace hf := it_t c18 hf
                  refine lv_tableIn (tgt := 135) (off := 134) hx hb dX3_many_1 (by rw [c18]; decide) (by rw [c18]; decide) (by rw [c18]; decide) (by decide) ?_
                  refine lv_aload_n hx hb dX3_many_135 rfl (lv_at hl 0 rfl) ?_
                  refine lv_aload_n hx hb dX3_many_136 rfl (lv_at hl 0 rfl) ?_
                  refine mg_12 S hC hK hP dX3_many_137 ?_
                  obtain ⟨v19, hv19, hf⟩ := ob_s hf
                  refine mc_X3_X3_gives S hC hD hK hP hS hv19 hl.1 ⟨Nat.le_of_ble_eq_true rfl, Nat.le_of_ble_eq_true rfl⟩ (Nat.le_of_ble_eq_true rfl) ⟨Nat.zero_le _, Nat.zero_le _⟩ dX3_many_140 (fun H locs _ hP hS => ?_)
                  have hE := Option.some.inj hf
                  subst hE
                  exact gt_wi S hr hlocks trivial hP hS dX3_many_143
                · replace hf := it_f c18 hf
                  by_cases c20 : a0 = (nI 8)
                  · replace hf := it_t c20 hf
                    refine lv_tableIn (tgt := 144) (off := 143) hx hb dX3_many_1 (by rw [c20]; decide) (by rw [c20]; decide) (by rw [c20]; decide) (by decide) ?_
                    refine lv_aload_n hx hb dX3_many_144 rfl (lv_at hl 0 rfl) ?_
                    refine lv_aload_n hx hb dX3_many_145 rfl (lv_at hl 0 rfl) ?_
                    refine mg_1 S hC hK hP dX3_many_146 ?_
                    refine lv_sipush hx hb dX3_many_149 kc_s298 ?_
                    refine ma_1 S hC hK hP kv_298_390 kn_298 dX3_many_152 ?_
                    obtain ⟨v21, hv21, hf⟩ := ob_s hf
                    refine mc_X3_X3_gives S hC hD hK hP hS hv21 hl.1 ⟨Nat.le_of_ble_eq_true rfl, Nat.le_of_ble_eq_true rfl⟩ (Nat.le_of_ble_eq_true rfl) ⟨Nat.zero_le _, Nat.zero_le _⟩ dX3_many_153 (fun H locs _ hP hS => ?_)
                    have hE := Option.some.inj hf
                    subst hE
                    exact gt_wi S hr hlocks trivial hP hS dX3_many_156
                  · replace hf := it_f c20 hf
                    by_cases c22 : a0 = (nI 9)
                    · replace hf := it_t c22 hf
                      refine lv_tableIn (tgt := 157) (off := 156) hx hb dX3_many_1 (by rw [c22]; decide) (by rw [c22]; decide) (by rw [c22]; decide) (by decide) ?_
                      refine lv_aload_n hx hb dX3_many_157 rfl (lv_at hl 0 rfl) ?_
                      refine lv_aload_n hx hb dX3_many_158 rfl (lv_at hl 0 rfl) ?_
                      refine mg_1 S hC hK hP dX3_many_159 ?_
                      refine lv_sipush hx hb dX3_many_162 kc_s299 ?_
                      refine ma_1 S hC hK hP kv_299_390 kn_299 dX3_many_165 ?_
                      obtain ⟨v23, hv23, hf⟩ := ob_s hf
                      refine mc_X3_X3_gives S hC hD hK hP hS hv23 hl.1 ⟨Nat.le_of_ble_eq_true rfl, Nat.le_of_ble_eq_true rfl⟩ (Nat.le_of_ble_eq_true rfl) ⟨Nat.zero_le _, Nat.zero_le _⟩ dX3_many_166 (fun H locs _ hP hS => ?_)
                      have hE := Option.some.inj hf
                      subst hE
                      exact gt_wi S hr hlocks trivial hP hS dX3_many_169
                    · replace hf := it_f c22 hf
                      refine lv_tableOut (tgt := 170) hx hb dX3_many_1 (by have n0 := lv_neT (a := 0) c1 (by decide); have n1 := lv_neT (a := 1) c3 (by decide); have n2 := lv_neT (a := 2) c5 (by decide); have n3 := lv_neT (a := 3) c7 (by decide); have n4 := lv_neT (a := 4) c9 (by decide); have n5 := lv_neT (a := 5) c12 (by decide); have n6 := lv_neT (a := 6) c15 (by decide); have n7 := lv_neT (a := 7) c18 (by decide); have n8 := lv_neT (a := 8) c20 (by decide); have n9 := lv_neT (a := 9) c22 (by decide); omega) (by decide) ?_
                      refine lv_aload_n hx hb dX3_many_170 rfl (lv_at hl 0 rfl) ?_
                      refine lv_iconst hx hb dX3_many_171 kc_i1 ?_
                      obtain ⟨v24, hv24, hf⟩ := ob_s hf
                      refine mc_X3_X3_refuse S hC hD hK hP hS hv24 hl.1 ⟨Nat.le_of_ble_eq_true rfl, Nat.le_of_ble_eq_true rfl⟩ (Nat.le_of_ble_eq_true rfl) ⟨Nat.zero_le _, Nat.zero_le _⟩ dX3_many_172 (fun H locs _ hP hS => ?_)
                      have hE := Option.some.inj hf
                      subst hE
                      exact gt_wi S hr hlocks trivial hP hS dX3_many_175
theorem hd_X3_isHome : yX3_isHome.cls = RX3 ∧ yX3_isHome.cls ≠ "java/lang/invoke/MethodHandle" ∧ yX3_isHome.cls ≠ "java/lang/invoke/VarHandle" ∧ (parseMethodDescriptor yX3_isHome.desc).map (fun d => d.parameters.length) = some 1 := by decide +kernel
set_option maxHeartbeats 4000000 in
set_option maxRecDepth 100000 in
theorem mm_X3_isHome {a0 : Int32} {out : Int32} (hC : mC cl tys mi cI cJ cB) (hf : f_X3_isHome nw a0 = some out) : Met l yX3_isHome (ws_ yX3_isHome cX3_isHome 2 (some .boolean)) (rM 1 22) (gPc D cl tys [.ref o, .int a0] (mW mi cI cJ cB o ad th tp st fk fp ac si fr tt kd nu fa pl fo wd ci gr lm om nw rd aa kp ta nm rn gv gt rw rh lg lh ou)) (gR (some (.int out)) (narrow .boolean (.int out) = .int out)) 0 0 (fun _ => False) := by
  refine gGo (by decide +kernel) (Nat.le_of_ble_eq_true rfl) (fun p e s m below meth c ls S hr hlocks hK hP hl => ?_)
  have S : CallFix p m c cX3_isHome 2 s _ lw_all RX3 := S
  obtain ⟨hx, hb, hml, hown, hts⟩ := id S
  have hl : lv_has ls 2 [(0, .ref o), (1, .int a0)] := hl
  rw [f_X3_isHome] at hf
  refine lv_iload_n hx hb dX3_isHome_0 rfl (lv_at hl 1 rfl) ?_
  refine lv_iconst hx hb dX3_isHome_1 kc_i0 ?_
  refine lv_aload_n hx hb dX3_isHome_2 rfl (lv_at hl 0 rfl) ?_
  refine mg_1 S hC hK hP dX3_isHome_3 ?_
  refine lv_sipush hx hb dX3_isHome_6 kc_s230 ?_
  refine ma_1 S hC hK hP kv_230_390 kn_230 dX3_isHome_9 ?_
  refine lv_iconst hx hb dX3_isHome_10 kc_i1 ?_
  refine lv_isub hx hb dX3_isHome_11 ?_
  obtain ⟨v1, hv1, hf⟩ := ob_s hf
  refine mc_X3_X3_isFrom S hK hv1 hl.1 ⟨Nat.le_of_ble_eq_true rfl, Nat.le_of_ble_eq_true rfl⟩ (Nat.le_of_ble_eq_true rfl) ⟨Nat.zero_le _, Nat.zero_le _⟩ dX3_isHome_12 (fun hnv1 => ?_)
  have hE := Option.some.inj hf
  subst hE
  exact gt_rz S hr hlocks hnv1 dX3_isHome_15
set_option maxRecDepth 100000 in
theorem mc_X3_X3_isHome {a0 : Int32} {out : Int32} (S : CallFix p m c cc nL s args lw_all RX3) (hC : mC cl tys mi cI cJ cB) (hK : va_K D cl tys s) (hP : va_P D cl (mW mi cI cJ cB o ad th tp st fk fp ac si fr tt kd nu fa pl fo wd ci gr lm om nw rd aa kp ta nm rn gv gt rw rh lg lh ou) H) (hf : f_X3_isHome nw a0 = some out) (hsz : ls.size = nL) (hR : 1 + 1 ≤ R.frames ∧ 8 + (2 + 11) + 22 ≤ R.locals) (hW : (rest.map fun v => v.category).sum ≤ 8) (hcs : cells ≤ R.cells ∧ slots ≤ R.slots) (hdg : decode cc pc = .ok (.invokevirtual 238, 3)) (kk : (narrow .boolean (.int out) = .int out) → W p l e R s m args below meth c H locs cells slots Q (F0 m (pc + 3) ls (.int out :: rest))) : W p l e R s m args below meth c H locs cells slots Q (F0 m pc ls (.int a0 :: .ref o :: rest)) :=
  gc_Vr (As := [.int a0]) S (mm_X3_isHome hC hf) (cwV 1 S.2.2.2.2 (lw_V q2262 q2264 qs119 q189 q2265) rfl rfl rfl hd_X3_isHome hR) (gPreV hK hP hC.1 (q0 := 0) rfl) rfl hsz rfl hW hdg hcs kk
theorem hd_X3_isBid : yX3_isBid.cls = RX3 ∧ yX3_isBid.cls ≠ "java/lang/invoke/MethodHandle" ∧ yX3_isBid.cls ≠ "java/lang/invoke/VarHandle" ∧ (parseMethodDescriptor yX3_isBid.desc).map (fun d => d.parameters.length) = some 2 := by decide +kernel
set_option maxHeartbeats 4000000 in
set_option maxRecDepth 100000 in
theorem mm_X3_isBid {a0 : Int32} {a1 : Int32} {out : Int32} (hC : mC cl tys mi cI cJ cB) (hf : f_X3_isBid nw a0 a1 = some out) : Met l yX3_isBid (ws_ yX3_isBid cX3_isBid 3 (some .boolean)) (rM 2 43) (gPc D cl tys [.ref o, .int a0, .int a1] (mW mi cI cJ cB o ad th tp st fk fp ac si fr tt kd nu fa pl fo wd ci gr lm om nw rd aa kp ta nm rn gv gt rw rh lg lh ou)) (gR (some (.int out)) (narrow .boolean (.int out) = .int out)) 0 0 (fun _ => False) := by
  refine gGo (by decide +kernel) (Nat.le_of_ble_eq_true rfl) (fun p e s m below meth c ls S hr hlocks hK hP hl => ?_)
  have S : CallFix p m c cX3_isBid 3 s _ lw_all RX3 := S
  obtain ⟨hx, hb, hml, hown, hts⟩ := id S
  have hl : lv_has ls 3 [(0, .ref o), (1, .int a0), (2, .int a1)] := hl
  rw [f_X3_isBid] at hf
  refine lv_aload_n hx hb dX3_isBid_0 rfl (lv_at hl 0 rfl) ?_
  refine lv_iload_n hx hb dX3_isBid_1 rfl (lv_at hl 1 rfl) ?_
  refine lv_bipush hx hb dX3_isBid_2 kc_b10 ?_
  obtain ⟨v1, hv1, hf⟩ := ob_s hf
  refine mc_X3_X3_of S hC hK hP hv1 hl.1 ⟨Nat.le_of_ble_eq_true rfl, Nat.le_of_ble_eq_true rfl⟩ (Nat.le_of_ble_eq_true rfl) ⟨Nat.zero_le _, Nat.zero_le _⟩ dX3_isBid_4 (fun _ => ?_)
  refine lv_iload_n hx hb dX3_isBid_7 rfl (lv_at hl 2 rfl) ?_
  refine lv_ishr hx hb dX3_isBid_8 ?_
  refine lv_iconst hx hb dX3_isBid_9 kc_i1 ?_
  refine lv_iand hx hb dX3_isBid_10 ?_
  refine lv_iconst hx hb dX3_isBid_11 kc_i1 ?_
  refine lv_icmp_ne (tgt := 19) hx hb dX3_isBid_12 (by decide) (fun c2 => ?_) (fun c2 => ?_)
  · replace hf := it_f c2 hf
    refine lv_iconst hx hb dX3_isBid_19 kc_i0 ?_
    have hE := Option.some.inj hf
    subst hE
    exact gt_rz S hr hlocks nb0 dX3_isBid_20
  · replace hf := it_t c2 hf
    refine lv_iconst hx hb dX3_isBid_15 kc_i1 ?_
    refine lv_goto (tgt := 20) hx hb dX3_isBid_16 (by decide) ?_
    have hE := Option.some.inj hf
    subst hE
    exact gt_rz S hr hlocks nb1 dX3_isBid_20
set_option maxRecDepth 100000 in
theorem mc_X3_X3_isBid {a0 : Int32} {a1 : Int32} {out : Int32} (S : CallFix p m c cc nL s args lw_all RX3) (hC : mC cl tys mi cI cJ cB) (hK : va_K D cl tys s) (hP : va_P D cl (mW mi cI cJ cB o ad th tp st fk fp ac si fr tt kd nu fa pl fo wd ci gr lm om nw rd aa kp ta nm rn gv gt rw rh lg lh ou) H) (hf : f_X3_isBid nw a0 a1 = some out) (hsz : ls.size = nL) (hR : 2 + 1 ≤ R.frames ∧ 8 + (3 + 11) + 43 ≤ R.locals) (hW : (rest.map fun v => v.category).sum ≤ 8) (hcs : cells ≤ R.cells ∧ slots ≤ R.slots) (hdg : decode cc pc = .ok (.invokevirtual 234, 3)) (kk : (narrow .boolean (.int out) = .int out) → W p l e R s m args below meth c H locs cells slots Q (F0 m (pc + 3) ls (.int out :: rest))) : W p l e R s m args below meth c H locs cells slots Q (F0 m pc ls (.int a1 :: .int a0 :: .ref o :: rest)) :=
  gc_Vr (As := [.int a0, .int a1]) S (mm_X3_isBid hC hf) (cwV 2 S.2.2.2.2 (lw_V q2270 q2272 qs121 q189 q2273) rfl rfl rfl hd_X3_isBid hR) (gPreV hK hP hC.1 (q0 := 0) rfl) rfl hsz rfl hW hdg hcs kk
theorem hd_X3_bidders : yX3_bidders.cls = RX3 ∧ yX3_bidders.cls ≠ "java/lang/invoke/MethodHandle" ∧ yX3_bidders.cls ≠ "java/lang/invoke/VarHandle" ∧ (parseMethodDescriptor yX3_bidders.desc).map (fun d => d.parameters.length) = some 1 := by decide +kernel
set_option maxHeartbeats 4000000 in
set_option maxRecDepth 100000 in
theorem mm_X3_bidders {a0 : Int32} {out : Int32} (hC : mC cl tys mi cI cJ cB) (hf : f_X3_bidders nw a0 = some out) : Met l yX3_bidders (ws_ yX3_bidders cX3_bidders 4 (some .int)) (rM 3 65) (gPc D cl tys [.ref o, .int a0] (mW mi cI cJ cB o ad th tp st fk fp ac si fr tt kd nu fa pl fo wd ci gr lm om nw rd aa kp ta nm rn gv gt rw rh lg lh ou)) (gR (some (.int out)) True) 0 0 (fun _ => False) := by
  refine gGo (by decide +kernel) (Nat.le_of_ble_eq_true rfl) (fun p e s m below meth c ls S hr hlocks hK hP hl => ?_)
  have S : CallFix p m c cX3_bidders 4 s _ lw_all RX3 := S
  obtain ⟨hx, hb, hml, hown, hts⟩ := id S
  have hl : lv_has ls 4 [(0, .ref o), (1, .int a0)] := hl
  have w4 : ∀ (n : Nat) , ∀ (x1 : Int32) (x2 : Int32) (x3 : Int32) (ls : Array Slot), lv_has ls 4 [(0, .ref o), (1, .int x1), (2, .int x2), (3, .int x3)] → f_X3_bidders_4 n nw x1 x2 x3 = some out → W p l e (rM 3 65) s m ([.ref o, .int a0] : List Value).toArray below meth c s.heap [] 0 0 (MQ below (gR (some (.int out)) True) ([.ref o, .int a0] : List Value).toArray s 0 0 (fun _ => False)) (F0 m 4 ls []) := by
    intro n
    induction n with
    | zero =>
      intro x1 x2 x3 ls hl hf
      exact absurd hf (by rw [f_X3_bidders_4]; exact nofun)
    | succ n ih =>
      intro x1 x2 x3 ls hl hf
      rw [f_X3_bidders_4] at hf
      refine lv_iload_n hx hb dX3_bidders_4 rfl (lv_at hl 3 rfl) ?_
      refine lv_aload_n hx hb dX3_bidders_5 rfl (lv_at hl 0 rfl) ?_
      refine mg_1 S hC hK hP dX3_bidders_6 ?_
      refine lv_sipush hx hb dX3_bidders_9 kc_s231 ?_
      refine ma_1 S hC hK hP kv_231_390 kn_231 dX3_bidders_12 ?_
      refine lv_icmp_ge (tgt := 39) hx hb dX3_bidders_13 (by decide) (fun c1 => ?_) (fun c1 => ?_)
      · replace hf := it_t c1 hf
        refine lv_iload_n hx hb dX3_bidders_39 rfl (lv_at hl 2 rfl) ?_
        have hE := Option.some.inj hf
        subst hE
        exact gt_ri S hr hlocks trivial dX3_bidders_40
      · replace hf := it_f c1 hf
        refine lv_iload_n hx hb dX3_bidders_16 rfl (lv_at hl 2 rfl) ?_
        refine lv_aload_n hx hb dX3_bidders_17 rfl (lv_at hl 0 rfl) ?_
        refine lv_iload_n hx hb dX3_bidders_18 rfl (lv_at hl 3 rfl) ?_
        refine lv_iload_n hx hb dX3_bidders_19 rfl (lv_at hl 1 rfl) ?_
        obtain ⟨v2, hv2, hf⟩ := ob_s hf
        refine mc_X3_X3_isBid S hC hK hP hv2 hl.1 ⟨Nat.le_of_ble_eq_true rfl, Nat.le_of_ble_eq_true rfl⟩ (Nat.le_of_ble_eq_true rfl) ⟨Nat.zero_le _, Nat.zero_le _⟩ dX3_bidders_20 (fun hnv2 => ?_)
        refine lv_if_eq (tgt := 30) hx hb dX3_bidders_23 (by decide) (fun c3 => ?_) (fun c3 => ?_)
        · replace hf := it_t c3 hf
          refine lv_iconst hx hb dX3_bidders_30 kc_i0 ?_
          refine lv_iadd hx hb dX3_bidders_31 ?_
          refine lv_istore_n (i := 2) (lv' := [(2, .int (x2 + 0)), (0, .ref o), (1, .int x1), (3, .int x3)]) hx hb dX3_bidders_32 rfl hl (by decide) rfl (fun ls hl => ?_)
          refine lv_iinc (v := (x3 + 1)) (lv' := [(3, .int (x3 + 1)), (2, .int (x2 + 0)), (0, .ref o), (1, .int x1)]) hx hb dX3_bidders_33 hl (k := 3) rfl rfl (by decide) rfl (fun ls hl => ?_)
          refine lv_goto (tgt := 4) hx hb dX3_bidders_36 (by decide) ?_
          exact (ih) x1 (x2 + 0) (x3 + 1) ls (lv_sub (l' := [(0, .ref o), (1, .int x1), (2, .int (x2 + 0)), (3, .int (x3 + 1))]) hl [2, 3, 1, 0] rfl) hf
        · replace hf := it_f c3 hf
          refine lv_iconst hx hb dX3_bidders_26 kc_i1 ?_
          refine lv_goto (tgt := 31) hx hb dX3_bidders_27 (by decide) ?_
          refine lv_iadd hx hb dX3_bidders_31 ?_
          refine lv_istore_n (i := 2) (lv' := [(2, .int (x2 + 1)), (0, .ref o), (1, .int x1), (3, .int x3)]) hx hb dX3_bidders_32 rfl hl (by decide) rfl (fun ls hl => ?_)
          refine lv_iinc (v := (x3 + 1)) (lv' := [(3, .int (x3 + 1)), (2, .int (x2 + 1)), (0, .ref o), (1, .int x1)]) hx hb dX3_bidders_33 hl (k := 3) rfl rfl (by decide) rfl (fun ls hl => ?_)
          refine lv_goto (tgt := 4) hx hb dX3_bidders_36 (by decide) ?_
          exact (ih) x1 (x2 + 1) (x3 + 1) ls (lv_sub (l' := [(0, .ref o), (1, .int x1), (2, .int (x2 + 1)), (3, .int (x3 + 1))]) hl [2, 3, 1, 0] rfl) hf
  rw [f_X3_bidders] at hf
  refine lv_iconst hx hb dX3_bidders_0 kc_i0 ?_
  refine lv_istore_n (i := 2) (lv' := [(2, .int 0), (0, .ref o), (1, .int a0)]) hx hb dX3_bidders_1 rfl hl (by decide) rfl (fun ls hl => ?_)
  refine lv_iconst hx hb dX3_bidders_2 kc_i0 ?_
  refine lv_istore_n (i := 3) (lv' := [(3, .int 0), (2, .int 0), (0, .ref o), (1, .int a0)]) hx hb dX3_bidders_3 rfl hl (by decide) rfl (fun ls hl => ?_)
  exact (w4 FU) a0 0 0 ls (lv_sub (l' := [(0, .ref o), (1, .int a0), (2, .int 0), (3, .int 0)]) hl [2, 3, 1, 0] rfl) hf
set_option maxRecDepth 100000 in
theorem mc_X3_X3_bidders {a0 : Int32} {out : Int32} (S : CallFix p m c cc nL s args lw_all RX3) (hC : mC cl tys mi cI cJ cB) (hK : va_K D cl tys s) (hP : va_P D cl (mW mi cI cJ cB o ad th tp st fk fp ac si fr tt kd nu fa pl fo wd ci gr lm om nw rd aa kp ta nm rn gv gt rw rh lg lh ou) H) (hf : f_X3_bidders nw a0 = some out) (hsz : ls.size = nL) (hR : 3 + 1 ≤ R.frames ∧ 8 + (4 + 11) + 65 ≤ R.locals) (hW : (rest.map fun v => v.category).sum ≤ 8) (hcs : cells ≤ R.cells ∧ slots ≤ R.slots) (hdg : decode cc pc = .ok (.invokevirtual 241, 3)) (kk : True → W p l e R s m args below meth c H locs cells slots Q (F0 m (pc + 3) ls (.int out :: rest))) : W p l e R s m args below meth c H locs cells slots Q (F0 m pc ls (.int a0 :: .ref o :: rest)) :=
  gc_Vr (As := [.int a0]) S (mm_X3_bidders hC hf) (cwV 1 S.2.2.2.2 (lw_V q2266 q2268 qs120 q189 q2269) rfl rfl rfl hd_X3_bidders hR) (gPreV hK hP hC.1 (q0 := 0) rfl) rfl hsz rfl hW hdg hcs kk
theorem hd_X3_home : yX3_home.cls = RX3 ∧ yX3_home.cls ≠ "java/lang/invoke/MethodHandle" ∧ yX3_home.cls ≠ "java/lang/invoke/VarHandle" ∧ (parseMethodDescriptor yX3_home.desc).map (fun d => d.parameters.length) = some 2 := by decide +kernel
set_option maxHeartbeats 4000000 in
set_option maxRecDepth 100000 in
theorem mm_X3_home {a0 : Int32} {a1 : Int32} {out : Int32 × Int32 × Int32} (hC : mC cl tys mi cI cJ cB) (hD : mD o ad) (hf : f_X3_home nw th st a0 a1 = some out) : Met l yX3_home (ws_ yX3_home cX3_home 3 (some .int)) (rM 4 88) (gPc D cl tys [.ref o, .int a0, .int a1] (mW mi cI cJ cB o ad th tp st fk fp ac si fr tt kd nu fa pl fo wd ci gr lm om nw rd aa kp ta nm rn gv gt rw rh lg lh ou)) (gQ D cl (some (.int out.1)) True (mW mi cI cJ cB o ad out.2.1 tp out.2.2 fk fp ac si fr tt kd nu fa pl fo wd ci gr lm om nw rd aa kp ta nm rn gv gt rw rh lg lh ou) (mA o ad)) 0 0 (mA o ad) := by
  refine gGo (by decide +kernel) (Nat.le_of_ble_eq_true rfl) (fun p e s m below meth c ls S hr hlocks hK hP hl => ?_)
  have S : CallFix p m c cX3_home 3 s _ lw_all RX3 := S
  obtain ⟨hx, hb, hml, hown, hts⟩ := id S
  have hl : lv_has ls 3 [(0, .ref o), (1, .int a0), (2, .int a1)] := hl
  have w133 : ∀ (y1 : Int32) (th : Int32) (st : Int32) (ls : Array Slot) (H : Heap) (locs : List Loc), va_P D cl (mW mi cI cJ cB o ad th tp st fk fp ac si fr tt kd nu fa pl fo wd ci gr lm om nw rd aa kp ta nm rn gv gt rw rh lg lh ou) H → va_S (mA o ad) s.heap H locs → lv_has ls 3 [] → f_X3_home_133 nw y1 th st = some out → W p l e (rM 4 88) s m ([.ref o, .int a0, .int a1] : List Value).toArray below meth c H locs 0 0 (MQ below (gQ D cl (some (.int out.1)) True (mW mi cI cJ cB o ad out.2.1 tp out.2.2 fk fp ac si fr tt kd nu fa pl fo wd ci gr lm om nw rd aa kp ta nm rn gv gt rw rh lg lh ou) (mA o ad)) ([.ref o, .int a0, .int a1] : List Value).toArray s 0 0 (mA o ad)) (F0 m 133 ls [.int y1, .ref o]) := by
    intro y1 th st ls H locs hP hS hl hf
    rw [f_X3_home_133] at hf
    obtain ⟨v1, hv1, hf⟩ := ob_s hf
    refine mc_X3_X3_gives S hC hD hK hP hS hv1 hl.1 ⟨Nat.le_of_ble_eq_true rfl, Nat.le_of_ble_eq_true rfl⟩ (Nat.le_of_ble_eq_true rfl) ⟨Nat.zero_le _, Nat.zero_le _⟩ dX3_home_133 (fun H locs _ hP hS => ?_)
    have hE := Option.some.inj hf
    subst hE
    exact gt_wi S hr hlocks trivial hP hS dX3_home_136
  suffices hg : ∀ (H : Heap) (locs : List Loc), va_P D cl (mW mi cI cJ cB o ad th tp st fk fp ac si fr tt kd nu fa pl fo wd ci gr lm om nw rd aa kp ta nm rn gv gt rw rh lg lh ou) H → va_S (mA o ad) s.heap H locs → W p l e (rM 4 88) s m ([.ref o, .int a0, .int a1] : List Value).toArray below meth c H locs 0 0 (MQ below (gQ D cl (some (.int out.1)) True (mW mi cI cJ cB o ad out.2.1 tp out.2.2 fk fp ac si fr tt kd nu fa pl fo wd ci gr lm om nw rd aa kp ta nm rn gv gt rw rh lg lh ou) (mA o ad)) ([.ref o, .int a0, .int a1] : List Value).toArray s 0 0 (mA o ad)) (F0 m 0 ls []) from hg s.heap [] hP va_S.rf
  clear hP
  intro H locs hP hS
  rw [f_X3_home] at hf
  refine lv_iload_n hx hb dX3_home_0 rfl (lv_at hl 2 rfl) ?_
  refine lv_iconst hx hb dX3_home_1 kc_i0 ?_
  refine lv_bipush hx hb dX3_home_2 kc_b7 ?_
  obtain ⟨v1, hv1, hf⟩ := ob_s hf
  refine mc_X3_X3_isFrom S hK hv1 hl.1 ⟨Nat.le_of_ble_eq_true rfl, Nat.le_of_ble_eq_true rfl⟩ (Nat.le_of_ble_eq_true rfl) ⟨Nat.zero_le _, Nat.zero_le _⟩ dX3_home_4 (fun hnv1 => ?_)
  refine lv_if_ne (tgt := 16) hx hb dX3_home_7 (by decide) (fun c2 => ?_) (fun c2 => ?_)
  · replace hf := it_f c2 hf
    refine lv_aload_n hx hb dX3_home_16 rfl (lv_at hl 0 rfl) ?_
    refine lv_iload_n hx hb dX3_home_17 rfl (lv_at hl 1 rfl) ?_
    obtain ⟨v3, hv3, hf⟩ := ob_s hf
    refine mc_X3_X3_isHome S hC hK hP hv3 hl.1 ⟨Nat.le_of_ble_eq_true rfl, Nat.le_of_ble_eq_true rfl⟩ (Nat.le_of_ble_eq_true rfl) ⟨Nat.zero_le _, Nat.zero_le _⟩ dX3_home_18 (fun hnv3 => ?_)
    refine lv_if_ne (tgt := 30) hx hb dX3_home_21 (by decide) (fun c4 => ?_) (fun c4 => ?_)
    · replace hf := it_f c4 hf
      refine lv_iload_n hx hb dX3_home_30 rfl (lv_at hl 2 rfl) ?_
      by_cases c5 : a1 = 0
      · replace hf := it_t c5 hf
        refine lv_tableIn (tgt := 68) (off := 37) hx hb dX3_home_31 (by rw [c5]; decide) (by rw [c5]; decide) (by rw [c5]; decide) (by decide) ?_
        refine lv_aload_n hx hb dX3_home_68 rfl (lv_at hl 0 rfl) ?_
        refine lv_aload_n hx hb dX3_home_69 rfl (lv_at hl 0 rfl) ?_
        refine lv_iload_n hx hb dX3_home_70 rfl (lv_at hl 1 rfl) ?_
        refine lv_iconst hx hb dX3_home_71 kc_i0 ?_
        obtain ⟨v6, hv6, hf⟩ := ob_s hf
        refine mc_X3_X3_home0 S hC hK hP hv6 hl.1 ⟨Nat.le_of_ble_eq_true rfl, Nat.le_of_ble_eq_true rfl⟩ (Nat.le_of_ble_eq_true rfl) ⟨Nat.zero_le _, Nat.zero_le _⟩ dX3_home_72 (fun _ => ?_)
        obtain ⟨v7, hv7, hf⟩ := ob_s hf
        refine mc_X3_X3_gives S hC hD hK hP hS hv7 hl.1 ⟨Nat.le_of_ble_eq_true rfl, Nat.le_of_ble_eq_true rfl⟩ (Nat.le_of_ble_eq_true rfl) ⟨Nat.zero_le _, Nat.zero_le _⟩ dX3_home_75 (fun H locs _ hP hS => ?_)
        have hE := Option.some.inj hf
        subst hE
        exact gt_wi S hr hlocks trivial hP hS dX3_home_78
      · replace hf := it_f c5 hf
        by_cases c8 : a1 = 1
        · replace hf := it_t c8 hf
          refine lv_tableIn (tgt := 79) (off := 48) hx hb dX3_home_31 (by rw [c8]; decide) (by rw [c8]; decide) (by rw [c8]; decide) (by decide) ?_
          refine lv_aload_n hx hb dX3_home_79 rfl (lv_at hl 0 rfl) ?_
          refine lv_aload_n hx hb dX3_home_80 rfl (lv_at hl 0 rfl) ?_
          refine lv_iload_n hx hb dX3_home_81 rfl (lv_at hl 1 rfl) ?_
          refine lv_iconst hx hb dX3_home_82 kc_i1 ?_
          obtain ⟨v9, hv9, hf⟩ := ob_s hf
          refine mc_X3_X3_home0 S hC hK hP hv9 hl.1 ⟨Nat.le_of_ble_eq_true rfl, Nat.le_of_ble_eq_true rfl⟩ (Nat.le_of_ble_eq_true rfl) ⟨Nat.zero_le _, Nat.zero_le _⟩ dX3_home_83 (fun _ => ?_)
          obtain ⟨v10, hv10, hf⟩ := ob_s hf
          refine mc_X3_X3_gives S hC hD hK hP hS hv10 hl.1 ⟨Nat.le_of_ble_eq_true rfl, Nat.le_of_ble_eq_true rfl⟩ (Nat.le_of_ble_eq_true rfl) ⟨Nat.zero_le _, Nat.zero_le _⟩ dX3_home_86 (fun H locs _ hP hS => ?_)
          have hE := Option.some.inj hf
          subst hE
          exact gt_wi S hr hlocks trivial hP hS dX3_home_89
        · replace hf := it_f c8 hf
          by_cases c11 : a1 = (nI 2)
          · replace hf := it_t c11 hf
            refine lv_tableIn (tgt := 90) (off := 59) hx hb dX3_home_31 (by rw [c11]; decide) (by rw [c11]; decide) (by rw [c11]; decide) (by decide) ?_
            refine lv_aload_n hx hb dX3_home_90 rfl (lv_at hl 0 rfl) ?_
            refine lv_iload_n hx hb dX3_home_91 rfl (lv_at hl 1 rfl) ?_
            refine lv_iconst hx hb dX3_home_92 kc_i2 ?_
            obtain ⟨v12, hv12, hf⟩ := ob_s hf
            refine mc_X3_X3_home0 S hC hK hP hv12 hl.1 ⟨Nat.le_of_ble_eq_true rfl, Nat.le_of_ble_eq_true rfl⟩ (Nat.le_of_ble_eq_true rfl) ⟨Nat.zero_le _, Nat.zero_le _⟩ dX3_home_93 (fun _ => ?_)
            refine lv_iconst hx hb dX3_home_96 kc_im1 ?_
            refine lv_icmp_ne (tgt := 108) hx hb dX3_home_97 (by decide) (fun c13 => ?_) (fun c13 => ?_)
            · replace hf := it_f c13 hf
              refine lv_aload_n hx hb dX3_home_108 rfl (lv_at hl 0 rfl) ?_
              refine lv_aload_n hx hb dX3_home_109 rfl (lv_at hl 0 rfl) ?_
              refine lv_iload_n hx hb dX3_home_110 rfl (lv_at hl 1 rfl) ?_
              refine lv_iconst hx hb dX3_home_111 kc_i2 ?_
              obtain ⟨v14, hv14, hf⟩ := ob_s hf
              refine mc_X3_X3_home0 S hC hK hP hv14 hl.1 ⟨Nat.le_of_ble_eq_true rfl, Nat.le_of_ble_eq_true rfl⟩ (Nat.le_of_ble_eq_true rfl) ⟨Nat.zero_le _, Nat.zero_le _⟩ dX3_home_112 (fun _ => ?_)
              obtain ⟨v15, hv15, hf⟩ := ob_s hf
              refine mc_X3_X3_gives S hC hD hK hP hS hv15 hl.1 ⟨Nat.le_of_ble_eq_true rfl, Nat.le_of_ble_eq_true rfl⟩ (Nat.le_of_ble_eq_true rfl) ⟨Nat.zero_le _, Nat.zero_le _⟩ dX3_home_115 (fun H locs _ hP hS => ?_)
              have hE := Option.some.inj hf
              subst hE
              exact gt_wi S hr hlocks trivial hP hS dX3_home_118
            · replace hf := it_t c13 hf
              refine lv_aload_n hx hb dX3_home_100 rfl (lv_at hl 0 rfl) ?_
              refine lv_iconst hx hb dX3_home_101 kc_i5 ?_
              obtain ⟨v16, hv16, hf⟩ := ob_s hf
              refine mc_X3_X3_refuse S hC hD hK hP hS hv16 hl.1 ⟨Nat.le_of_ble_eq_true rfl, Nat.le_of_ble_eq_true rfl⟩ (Nat.le_of_ble_eq_true rfl) ⟨Nat.zero_le _, Nat.zero_le _⟩ dX3_home_102 (fun H locs _ hP hS => ?_)
              refine lv_goto (tgt := 118) hx hb dX3_home_105 (by decide) ?_
              have hE := Option.some.inj hf
              subst hE
              exact gt_wi S hr hlocks trivial hP hS dX3_home_118
          · replace hf := it_f c11 hf
            by_cases c17 : a1 = (nI 3)
            · replace hf := it_t c17 hf
              refine lv_tableIn (tgt := 119) (off := 88) hx hb dX3_home_31 (by rw [c17]; decide) (by rw [c17]; decide) (by rw [c17]; decide) (by decide) ?_
              refine lv_aload_n hx hb dX3_home_119 rfl (lv_at hl 0 rfl) ?_
              refine lv_aload_n hx hb dX3_home_120 rfl (lv_at hl 0 rfl) ?_
              refine lv_iload_n hx hb dX3_home_121 rfl (lv_at hl 1 rfl) ?_
              obtain ⟨v18, hv18, hf⟩ := ob_s hf
              refine mc_X3_X3_isFree S hC hK hP hv18 hl.1 ⟨Nat.le_of_ble_eq_true rfl, Nat.le_of_ble_eq_true rfl⟩ (Nat.le_of_ble_eq_true rfl) ⟨Nat.zero_le _, Nat.zero_le _⟩ dX3_home_122 (fun hnv18 => ?_)
              refine lv_if_eq (tgt := 132) hx hb dX3_home_125 (by decide) (fun c19 => ?_) (fun c19 => ?_)
              · replace hf := it_t c19 hf
                refine lv_iconst hx hb dX3_home_132 kc_i0 ?_
                exact (w133) 0 th st ls H locs hP hS (lv_sub (l' := []) hl [] rfl) hf
              · replace hf := it_f c19 hf
                refine lv_iconst hx hb dX3_home_128 kc_i1 ?_
                refine lv_goto (tgt := 133) hx hb dX3_home_129 (by decide) ?_
                exact (w133) 1 th st ls H locs hP hS (lv_sub (l' := []) hl [] rfl) hf
            · replace hf := it_f c17 hf
              by_cases c20 : a1 = (nI 4)
              · replace hf := it_t c20 hf
                refine lv_tableIn (tgt := 137) (off := 106) hx hb dX3_home_31 (by rw [c20]; decide) (by rw [c20]; decide) (by rw [c20]; decide) (by decide) ?_
                refine lv_aload_n hx hb dX3_home_137 rfl (lv_at hl 0 rfl) ?_
                refine lv_aload_n hx hb dX3_home_138 rfl (lv_at hl 0 rfl) ?_
                refine lv_iload_n hx hb dX3_home_139 rfl (lv_at hl 1 rfl) ?_
                obtain ⟨v21, hv21, hf⟩ := ob_s hf
                refine mc_X3_X3_bidders S hC hK hP hv21 hl.1 ⟨Nat.le_of_ble_eq_true rfl, Nat.le_of_ble_eq_true rfl⟩ (Nat.le_of_ble_eq_true rfl) ⟨Nat.zero_le _, Nat.zero_le _⟩ dX3_home_140 (fun _ => ?_)
                obtain ⟨v22, hv22, hf⟩ := ob_s hf
                refine mc_X3_X3_gives S hC hD hK hP hS hv22 hl.1 ⟨Nat.le_of_ble_eq_true rfl, Nat.le_of_ble_eq_true rfl⟩ (Nat.le_of_ble_eq_true rfl) ⟨Nat.zero_le _, Nat.zero_le _⟩ dX3_home_143 (fun H locs _ hP hS => ?_)
                have hE := Option.some.inj hf
                subst hE
                exact gt_wi S hr hlocks trivial hP hS dX3_home_146
              · replace hf := it_f c20 hf
                by_cases c23 : a1 = (nI 5)
                · replace hf := it_t c23 hf
                  refine lv_tableIn (tgt := 147) (off := 116) hx hb dX3_home_31 (by rw [c23]; decide) (by rw [c23]; decide) (by rw [c23]; decide) (by decide) ?_
                  refine lv_aload_n hx hb dX3_home_147 rfl (lv_at hl 0 rfl) ?_
                  refine lv_aload_n hx hb dX3_home_148 rfl (lv_at hl 0 rfl) ?_
                  refine lv_iload_n hx hb dX3_home_149 rfl (lv_at hl 1 rfl) ?_
                  refine lv_iconst hx hb dX3_home_150 kc_i4 ?_
                  obtain ⟨v24, hv24, hf⟩ := ob_s hf
                  refine mc_X3_X3_home0 S hC hK hP hv24 hl.1 ⟨Nat.le_of_ble_eq_true rfl, Nat.le_of_ble_eq_true rfl⟩ (Nat.le_of_ble_eq_true rfl) ⟨Nat.zero_le _, Nat.zero_le _⟩ dX3_home_151 (fun _ => ?_)
                  obtain ⟨v25, hv25, hf⟩ := ob_s hf
                  refine mc_X3_X3_gives S hC hD hK hP hS hv25 hl.1 ⟨Nat.le_of_ble_eq_true rfl, Nat.le_of_ble_eq_true rfl⟩ (Nat.le_of_ble_eq_true rfl) ⟨Nat.zero_le _, Nat.zero_le _⟩ dX3_home_154 (fun H locs _ hP hS => ?_)
                  have hE := Option.some.inj hf
                  subst hE
                  exact gt_wi S hr hlocks trivial hP hS dX3_home_157
                · replace hf := it_f c23 hf
                  refine lv_tableOut (tgt := 158) hx hb dX3_home_31 (by have n0 := lv_neT (a := 0) c5 (by decide); have n1 := lv_neT (a := 1) c8 (by decide); have n2 := lv_neT (a := 2) c11 (by decide); have n3 := lv_neT (a := 3) c17 (by decide); have n4 := lv_neT (a := 4) c20 (by decide); have n5 := lv_neT (a := 5) c23 (by decide); omega) (by decide) ?_
                  refine lv_aload_n hx hb dX3_home_158 rfl (lv_at hl 0 rfl) ?_
                  refine lv_aload_n hx hb dX3_home_159 rfl (lv_at hl 0 rfl) ?_
                  refine lv_iload_n hx hb dX3_home_160 rfl (lv_at hl 1 rfl) ?_
                  refine lv_iload_n hx hb dX3_home_161 rfl (lv_at hl 2 rfl) ?_
                  obtain ⟨v26, hv26, hf⟩ := ob_s hf
                  refine mc_X3_X3_home0 S hC hK hP hv26 hl.1 ⟨Nat.le_of_ble_eq_true rfl, Nat.le_of_ble_eq_true rfl⟩ (Nat.le_of_ble_eq_true rfl) ⟨Nat.zero_le _, Nat.zero_le _⟩ dX3_home_162 (fun _ => ?_)
                  obtain ⟨v27, hv27, hf⟩ := ob_s hf
                  refine mc_X3_X3_gives S hC hD hK hP hS hv27 hl.1 ⟨Nat.le_of_ble_eq_true rfl, Nat.le_of_ble_eq_true rfl⟩ (Nat.le_of_ble_eq_true rfl) ⟨Nat.zero_le _, Nat.zero_le _⟩ dX3_home_165 (fun H locs _ hP hS => ?_)
                  have hE := Option.some.inj hf
                  subst hE
                  exact gt_wi S hr hlocks trivial hP hS dX3_home_168
    · replace hf := it_t c4 hf
      refine lv_aload_n hx hb dX3_home_24 rfl (lv_at hl 0 rfl) ?_
      refine lv_iconst hx hb dX3_home_25 kc_i2 ?_
      obtain ⟨v28, hv28, hf⟩ := ob_s hf
      refine mc_X3_X3_refuse S hC hD hK hP hS hv28 hl.1 ⟨Nat.le_of_ble_eq_true rfl, Nat.le_of_ble_eq_true rfl⟩ (Nat.le_of_ble_eq_true rfl) ⟨Nat.zero_le _, Nat.zero_le _⟩ dX3_home_26 (fun H locs _ hP hS => ?_)
      have hE := Option.some.inj hf
      subst hE
      exact gt_wi S hr hlocks trivial hP hS dX3_home_29
  · replace hf := it_t c2 hf
    refine lv_aload_n hx hb dX3_home_10 rfl (lv_at hl 0 rfl) ?_
    refine lv_iconst hx hb dX3_home_11 kc_i1 ?_
    obtain ⟨v29, hv29, hf⟩ := ob_s hf
    refine mc_X3_X3_refuse S hC hD hK hP hS hv29 hl.1 ⟨Nat.le_of_ble_eq_true rfl, Nat.le_of_ble_eq_true rfl⟩ (Nat.le_of_ble_eq_true rfl) ⟨Nat.zero_le _, Nat.zero_le _⟩ dX3_home_12 (fun H locs _ hP hS => ?_)
    have hE := Option.some.inj hf
    subst hE
    exact gt_wi S hr hlocks trivial hP hS dX3_home_15
theorem hd_X3_isHouse : yX3_isHouse.cls = RX3 ∧ yX3_isHouse.cls ≠ "java/lang/invoke/MethodHandle" ∧ yX3_isHouse.cls ≠ "java/lang/invoke/VarHandle" ∧ (parseMethodDescriptor yX3_isHouse.desc).map (fun d => d.parameters.length) = some 1 := by decide +kernel
set_option maxHeartbeats 4000000 in
set_option maxRecDepth 100000 in
theorem mm_X3_isHouse {a0 : Int32} {out : Int32} (hC : mC cl tys mi cI cJ cB) (hf : f_X3_isHouse nw a0 = some out) : Met l yX3_isHouse (ws_ yX3_isHouse cX3_isHouse 2 (some .boolean)) (rM 1 22) (gPc D cl tys [.ref o, .int a0] (mW mi cI cJ cB o ad th tp st fk fp ac si fr tt kd nu fa pl fo wd ci gr lm om nw rd aa kp ta nm rn gv gt rw rh lg lh ou)) (gR (some (.int out)) (narrow .boolean (.int out) = .int out)) 0 0 (fun _ => False) := by
  refine gGo (by decide +kernel) (Nat.le_of_ble_eq_true rfl) (fun p e s m below meth c ls S hr hlocks hK hP hl => ?_)
  have S : CallFix p m c cX3_isHouse 2 s _ lw_all RX3 := S
  obtain ⟨hx, hb, hml, hown, hts⟩ := id S
  have hl : lv_has ls 2 [(0, .ref o), (1, .int a0)] := hl
  rw [f_X3_isHouse] at hf
  refine lv_iload_n hx hb dX3_isHouse_0 rfl (lv_at hl 1 rfl) ?_
  refine lv_iconst hx hb dX3_isHouse_1 kc_i0 ?_
  refine lv_aload_n hx hb dX3_isHouse_2 rfl (lv_at hl 0 rfl) ?_
  refine mg_1 S hC hK hP dX3_isHouse_3 ?_
  refine lv_sipush hx hb dX3_isHouse_6 kc_s231 ?_
  refine ma_1 S hC hK hP kv_231_390 kn_231 dX3_isHouse_9 ?_
  refine lv_iconst hx hb dX3_isHouse_10 kc_i1 ?_
  refine lv_isub hx hb dX3_isHouse_11 ?_
  obtain ⟨v1, hv1, hf⟩ := ob_s hf
  refine mc_X3_X3_isFrom S hK hv1 hl.1 ⟨Nat.le_of_ble_eq_true rfl, Nat.le_of_ble_eq_true rfl⟩ (Nat.le_of_ble_eq_true rfl) ⟨Nat.zero_le _, Nat.zero_le _⟩ dX3_isHouse_12 (fun hnv1 => ?_)
  have hE := Option.some.inj hf
  subst hE
  exact gt_rz S hr hlocks hnv1 dX3_isHouse_15
set_option maxRecDepth 100000 in
theorem mc_X3_X3_isHouse {a0 : Int32} {out : Int32} (S : CallFix p m c cc nL s args lw_all RX3) (hC : mC cl tys mi cI cJ cB) (hK : va_K D cl tys s) (hP : va_P D cl (mW mi cI cJ cB o ad th tp st fk fp ac si fr tt kd nu fa pl fo wd ci gr lm om nw rd aa kp ta nm rn gv gt rw rh lg lh ou) H) (hf : f_X3_isHouse nw a0 = some out) (hsz : ls.size = nL) (hR : 1 + 1 ≤ R.frames ∧ 8 + (2 + 11) + 22 ≤ R.locals) (hW : (rest.map fun v => v.category).sum ≤ 8) (hcs : cells ≤ R.cells ∧ slots ≤ R.slots) (hdg : decode cc pc = .ok (.invokevirtual 244, 3)) (kk : (narrow .boolean (.int out) = .int out) → W p l e R s m args below meth c H locs cells slots Q (F0 m (pc + 3) ls (.int out :: rest))) : W p l e R s m args below meth c H locs cells slots Q (F0 m pc ls (.int a0 :: .ref o :: rest)) :=
  gc_Vr (As := [.int a0]) S (mm_X3_isHouse hC hf) (cwV 1 S.2.2.2.2 (lw_V q2278 q2280 qs122 q189 q2281) rfl rfl rfl hd_X3_isHouse hR) (gPreV hK hP hC.1 (q0 := 0) rfl) rfl hsz rfl hW hdg hcs kk
theorem hd_J6_max : yJ6_max.cls ≠ "java/lang/invoke/MethodHandle" ∧ yJ6_max.cls ≠ "java/lang/invoke/VarHandle" ∧ (parseMethodDescriptor yJ6_max.desc).map (fun d => d.parameters.length) = some 2 := by decide +kernel
set_option maxHeartbeats 4000000 in
set_option maxRecDepth 100000 in
theorem mm_J6_max {a0 : Int32} {a1 : Int32} {out : Int32} (hf : f_J6_max a0 a1 = some out) : Met l yJ6_max (ws_ yJ6_max cJ6_max 2 (some .int)) (rM 0 0) (gPc D cl tys [.int a0, .int a1] []) (gR (some (.int out)) True) 0 0 (fun _ => False) := by
  refine gGo (by decide +kernel) (Nat.le_of_ble_eq_true rfl) (fun p e s m below meth c ls S hr hlocks hK hP hl => ?_)
  have S : CallFix p m c cJ6_max 2 s _ lw_all RJ6 := S
  obtain ⟨hx, hb, hml, hown, hts⟩ := id S
  have hl : lv_has ls 2 [(0, .int a0), (1, .int a1)] := hl
  rw [f_J6_max] at hf
  refine lv_iload_n hx hb dJ6_max_0 rfl (lv_at hl 0 rfl) ?_
  refine lv_iload_n hx hb dJ6_max_1 rfl (lv_at hl 1 rfl) ?_
  refine lv_icmp_lt (tgt := 9) hx hb dJ6_max_2 (by decide) (fun c1 => ?_) (fun c1 => ?_)
  · replace hf := it_t c1 hf
    refine lv_iload_n hx hb dJ6_max_9 rfl (lv_at hl 1 rfl) ?_
    have hE := Option.some.inj hf
    subst hE
    exact gt_ri S hr hlocks trivial dJ6_max_10
  · replace hf := it_f c1 hf
    refine lv_iload_n hx hb dJ6_max_5 rfl (lv_at hl 0 rfl) ?_
    refine lv_goto (tgt := 10) hx hb dJ6_max_6 (by decide) ?_
    have hE := Option.some.inj hf
    subst hE
    exact gt_ri S hr hlocks trivial dJ6_max_10
set_option maxRecDepth 100000 in
theorem mc_X3_J6_max {a0 : Int32} {a1 : Int32} {out : Int32} (S : CallFix p m c cc nL s args lw_all RX3) (hK : va_K D cl tys s) (hf : f_J6_max a0 a1 = some out) (hsz : ls.size = nL) (hR : 0 + 1 ≤ R.frames ∧ 8 + (2 + 11) + 0 ≤ R.locals) (hW : (rest.map fun v => v.category).sum ≤ 8) (hcs : cells ≤ R.cells ∧ slots ≤ R.slots) (hdg : decode cc pc = .ok (.invokestatic 211, 3)) (kk : True → W p l e R s m args below meth c H locs cells slots Q (F0 m (pc + 3) ls (.int out :: rest))) : W p l e R s m args below meth c H locs cells slots Q (F0 m pc ls (.int a1 :: .int a0 :: rest)) :=
  gc_Sr (As := [.int a0, .int a1]) S (mm_J6_max hf) (va_cwS 2 S.2.2.2.2 (lw_S q2286 q357 q184 q358) rfl rfl rfl hd_J6_max hR) (gPreS hK gP0) rfl hsz rfl hW hdg hcs kk
theorem hd_X3_bandNow : yX3_bandNow.cls = RX3 ∧ yX3_bandNow.cls ≠ "java/lang/invoke/MethodHandle" ∧ yX3_bandNow.cls ≠ "java/lang/invoke/VarHandle" ∧ (parseMethodDescriptor yX3_bandNow.desc).map (fun d => d.parameters.length) = some 1 := by decide +kernel
set_option maxHeartbeats 4000000 in
set_option maxRecDepth 100000 in
theorem mm_X3_bandNow {a0 : Int32} {out : Int32} (hC : mC cl tys mi cI cJ cB) (hf : f_X3_bandNow nw a0 = some out) : Met l yX3_bandNow (ws_ yX3_bandNow cX3_bandNow 2 (some .int)) (rM 2 43) (gPc D cl tys [.ref o, .int a0] (mW mi cI cJ cB o ad th tp st fk fp ac si fr tt kd nu fa pl fo wd ci gr lm om nw rd aa kp ta nm rn gv gt rw rh lg lh ou)) (gR (some (.int out)) True) 0 0 (fun _ => False) := by
  refine gGo (by decide +kernel) (Nat.le_of_ble_eq_true rfl) (fun p e s m below meth c ls S hr hlocks hK hP hl => ?_)
  have S : CallFix p m c cX3_bandNow 2 s _ lw_all RX3 := S
  obtain ⟨hx, hb, hml, hown, hts⟩ := id S
  have hl : lv_has ls 2 [(0, .ref o), (1, .int a0)] := hl
  rw [f_X3_bandNow] at hf
  refine lv_iconst hx hb dX3_bandNow_0 kc_i1 ?_
  refine lv_aload_n hx hb dX3_bandNow_1 rfl (lv_at hl 0 rfl) ?_
  refine lv_iload_n hx hb dX3_bandNow_2 rfl (lv_at hl 1 rfl) ?_
  refine lv_iconst hx hb dX3_bandNow_3 kc_i0 ?_
  obtain ⟨v1, hv1, hf⟩ := ob_s hf
  refine mc_X3_X3_of S hC hK hP hv1 hl.1 ⟨Nat.le_of_ble_eq_true rfl, Nat.le_of_ble_eq_true rfl⟩ (Nat.le_of_ble_eq_true rfl) ⟨Nat.zero_le _, Nat.zero_le _⟩ dX3_bandNow_4 (fun _ => ?_)
  refine lv_sipush hx hb dX3_bandNow_7 kc_s1000 ?_
  refine lv_bipush hx hb dX3_bandNow_10 kc_b7 ?_
  refine lv_aload_n hx hb dX3_bandNow_12 rfl (lv_at hl 0 rfl) ?_
  refine mg_1 S hC hK hP dX3_bandNow_13 ?_
  refine lv_sipush hx hb dX3_bandNow_16 kc_s232 ?_
  refine ma_1 S hC hK hP kv_232_390 kn_232 dX3_bandNow_19 ?_
  refine lv_imul hx hb dX3_bandNow_20 ?_
  refine lv_iadd hx hb dX3_bandNow_21 ?_
  refine lv_aload_n hx hb dX3_bandNow_22 rfl (lv_at hl 0 rfl) ?_
  refine lv_iload_n hx hb dX3_bandNow_23 rfl (lv_at hl 1 rfl) ?_
  refine lv_iconst hx hb dX3_bandNow_24 kc_i3 ?_
  obtain ⟨v2, hv2, hf⟩ := ob_s hf
  refine mc_X3_X3_of S hC hK hP hv2 hl.1 ⟨Nat.le_of_ble_eq_true rfl, Nat.le_of_ble_eq_true rfl⟩ (Nat.le_of_ble_eq_true rfl) ⟨Nat.zero_le _, Nat.zero_le _⟩ dX3_bandNow_25 (fun _ => ?_)
  refine lv_isub hx hb dX3_bandNow_28 ?_
  refine lv_aload_n hx hb dX3_bandNow_29 rfl (lv_at hl 0 rfl) ?_
  refine mg_1 S hC hK hP dX3_bandNow_30 ?_
  refine lv_sipush hx hb dX3_bandNow_33 kc_s228 ?_
  refine ma_1 S hC hK hP kv_228_390 kn_228 dX3_bandNow_36 ?_
  obtain ⟨g3, hf⟩ := gd_t hf
  refine lv_idiv hx hb dX3_bandNow_37 (nz32_t g3) ?_
  refine lv_isub hx hb dX3_bandNow_38 ?_
  obtain ⟨v4, hv4, hf⟩ := ob_s hf
  refine mc_X3_J6_max S hK hv4 hl.1 ⟨Nat.le_of_ble_eq_true rfl, Nat.le_of_ble_eq_true rfl⟩ (Nat.le_of_ble_eq_true rfl) ⟨Nat.zero_le _, Nat.zero_le _⟩ dX3_bandNow_39 (fun _ => ?_)
  have hE := Option.some.inj hf
  subst hE
  exact gt_ri S hr hlocks trivial dX3_bandNow_42
set_option maxRecDepth 100000 in
theorem mc_X3_X3_bandNow {a0 : Int32} {out : Int32} (S : CallFix p m c cc nL s args lw_all RX3) (hC : mC cl tys mi cI cJ cB) (hK : va_K D cl tys s) (hP : va_P D cl (mW mi cI cJ cB o ad th tp st fk fp ac si fr tt kd nu fa pl fo wd ci gr lm om nw rd aa kp ta nm rn gv gt rw rh lg lh ou) H) (hf : f_X3_bandNow nw a0 = some out) (hsz : ls.size = nL) (hR : 2 + 1 ≤ R.frames ∧ 8 + (2 + 11) + 43 ≤ R.locals) (hW : (rest.map fun v => v.category).sum ≤ 8) (hcs : cells ≤ R.cells ∧ slots ≤ R.slots) (hdg : decode cc pc = .ok (.invokevirtual 247, 3)) (kk : True → W p l e R s m args below meth c H locs cells slots Q (F0 m (pc + 3) ls (.int out :: rest))) : W p l e R s m args below meth c H locs cells slots Q (F0 m pc ls (.int a0 :: .ref o :: rest)) :=
  gc_Vr (As := [.int a0]) S (mm_X3_bandNow hC hf) (cwV 1 S.2.2.2.2 (lw_V q2282 q2284 qs123 q189 q2285) rfl rfl rfl hd_X3_bandNow hR) (gPreV hK hP hC.1 (q0 := 0) rfl) rfl hsz rfl hW hdg hcs kk
theorem hd_X3_house : yX3_house.cls = RX3 ∧ yX3_house.cls ≠ "java/lang/invoke/MethodHandle" ∧ yX3_house.cls ≠ "java/lang/invoke/VarHandle" ∧ (parseMethodDescriptor yX3_house.desc).map (fun d => d.parameters.length) = some 2 := by decide +kernel
set_option maxHeartbeats 4000000 in
set_option maxRecDepth 100000 in
theorem mm_X3_house {a0 : Int32} {a1 : Int32} {out : Int32 × Int32 × Int32} (hC : mC cl tys mi cI cJ cB) (hD : mD o ad) (hf : f_X3_house nw th st a0 a1 = some out) : Met l yX3_house (ws_ yX3_house cX3_house 3 (some .int)) (rM 3 64) (gPc D cl tys [.ref o, .int a0, .int a1] (mW mi cI cJ cB o ad th tp st fk fp ac si fr tt kd nu fa pl fo wd ci gr lm om nw rd aa kp ta nm rn gv gt rw rh lg lh ou)) (gQ D cl (some (.int out.1)) True (mW mi cI cJ cB o ad out.2.1 tp out.2.2 fk fp ac si fr tt kd nu fa pl fo wd ci gr lm om nw rd aa kp ta nm rn gv gt rw rh lg lh ou) (mA o ad)) 0 0 (mA o ad) := by
  refine gGo (by decide +kernel) (Nat.le_of_ble_eq_true rfl) (fun p e s m below meth c ls S hr hlocks hK hP hl => ?_)
  have S : CallFix p m c cX3_house 3 s _ lw_all RX3 := S
  obtain ⟨hx, hb, hml, hown, hts⟩ := id S
  have hl : lv_has ls 3 [(0, .ref o), (1, .int a0), (2, .int a1)] := hl
  have w27 : ∀ (x1 : Int32) (x2 : Int32) (th : Int32) (st : Int32) (ls : Array Slot) (H : Heap) (locs : List Loc), va_P D cl (mW mi cI cJ cB o ad th tp st fk fp ac si fr tt kd nu fa pl fo wd ci gr lm om nw rd aa kp ta nm rn gv gt rw rh lg lh ou) H → va_S (mA o ad) s.heap H locs → lv_has ls 3 [(0, .ref o), (1, .int x1), (2, .int x2)] → f_X3_house_27 nw x1 x2 th st = some out → W p l e (rM 3 64) s m ([.ref o, .int a0, .int a1] : List Value).toArray below meth c H locs 0 0 (MQ below (gQ D cl (some (.int out.1)) True (mW mi cI cJ cB o ad out.2.1 tp out.2.2 fk fp ac si fr tt kd nu fa pl fo wd ci gr lm om nw rd aa kp ta nm rn gv gt rw rh lg lh ou) (mA o ad)) ([.ref o, .int a0, .int a1] : List Value).toArray s 0 0 (mA o ad)) (F0 m 27 ls []) := by
    intro x1 x2 th st ls H locs hP hS hl hf
    rw [f_X3_house_27] at hf
    refine lv_aload_n hx hb dX3_house_27 rfl (lv_at hl 0 rfl) ?_
    refine lv_iload_n hx hb dX3_house_28 rfl (lv_at hl 1 rfl) ?_
    obtain ⟨v1, hv1, hf⟩ := ob_s hf
    refine mc_X3_X3_isHouse S hC hK hP hv1 hl.1 ⟨Nat.le_of_ble_eq_true rfl, Nat.le_of_ble_eq_true rfl⟩ (Nat.le_of_ble_eq_true rfl) ⟨Nat.zero_le _, Nat.zero_le _⟩ dX3_house_29 (fun hnv1 => ?_)
    refine lv_if_ne (tgt := 41) hx hb dX3_house_32 (by decide) (fun c2 => ?_) (fun c2 => ?_)
    · replace hf := it_f c2 hf
      refine lv_iload_n hx hb dX3_house_41 rfl (lv_at hl 2 rfl) ?_
      refine lv_bipush hx hb dX3_house_42 kc_b20 ?_
      refine lv_icmp_lt (tgt := 86) hx hb dX3_house_44 (by decide) (fun c3 => ?_) (fun c3 => ?_)
      · replace hf := it_t c3 hf
        refine lv_iload_n hx hb dX3_house_86 rfl (lv_at hl 2 rfl) ?_
        by_cases c4 : x2 = 0
        · replace hf := it_t c4 hf
          refine lv_tableIn (tgt := 144) (off := 57) hx hb dX3_house_87 (by rw [c4]; decide) (by rw [c4]; decide) (by rw [c4]; decide) (by decide) ?_
          refine lv_aload_n hx hb dX3_house_144 rfl (lv_at hl 0 rfl) ?_
          refine lv_aload_n hx hb dX3_house_145 rfl (lv_at hl 0 rfl) ?_
          refine lv_iload_n hx hb dX3_house_146 rfl (lv_at hl 1 rfl) ?_
          refine lv_iconst hx hb dX3_house_147 kc_i0 ?_
          obtain ⟨v5, hv5, hf⟩ := ob_s hf
          refine mc_X3_X3_of S hC hK hP hv5 hl.1 ⟨Nat.le_of_ble_eq_true rfl, Nat.le_of_ble_eq_true rfl⟩ (Nat.le_of_ble_eq_true rfl) ⟨Nat.zero_le _, Nat.zero_le _⟩ dX3_house_148 (fun _ => ?_)
          obtain ⟨v6, hv6, hf⟩ := ob_s hf
          refine mc_X3_X3_gives S hC hD hK hP hS hv6 hl.1 ⟨Nat.le_of_ble_eq_true rfl, Nat.le_of_ble_eq_true rfl⟩ (Nat.le_of_ble_eq_true rfl) ⟨Nat.zero_le _, Nat.zero_le _⟩ dX3_house_151 (fun H locs _ hP hS => ?_)
          have hE := Option.some.inj hf
          subst hE
          exact gt_wi S hr hlocks trivial hP hS dX3_house_154
        · replace hf := it_f c4 hf
          by_cases c7 : x2 = 1
          · replace hf := it_t c7 hf
            refine lv_tableIn (tgt := 155) (off := 68) hx hb dX3_house_87 (by rw [c7]; decide) (by rw [c7]; decide) (by rw [c7]; decide) (by decide) ?_
            refine lv_aload_n hx hb dX3_house_155 rfl (lv_at hl 0 rfl) ?_
            refine lv_aload_n hx hb dX3_house_156 rfl (lv_at hl 0 rfl) ?_
            refine lv_iload_n hx hb dX3_house_157 rfl (lv_at hl 1 rfl) ?_
            obtain ⟨v8, hv8, hf⟩ := ob_s hf
            refine mc_X3_X3_bandNow S hC hK hP hv8 hl.1 ⟨Nat.le_of_ble_eq_true rfl, Nat.le_of_ble_eq_true rfl⟩ (Nat.le_of_ble_eq_true rfl) ⟨Nat.zero_le _, Nat.zero_le _⟩ dX3_house_158 (fun _ => ?_)
            obtain ⟨v9, hv9, hf⟩ := ob_s hf
            refine mc_X3_X3_gives S hC hD hK hP hS hv9 hl.1 ⟨Nat.le_of_ble_eq_true rfl, Nat.le_of_ble_eq_true rfl⟩ (Nat.le_of_ble_eq_true rfl) ⟨Nat.zero_le _, Nat.zero_le _⟩ dX3_house_161 (fun H locs _ hP hS => ?_)
            have hE := Option.some.inj hf
            subst hE
            exact gt_wi S hr hlocks trivial hP hS dX3_house_164
          · replace hf := it_f c7 hf
            by_cases c10 : x2 = (nI 2)
            · replace hf := it_t c10 hf
              refine lv_tableIn (tgt := 165) (off := 78) hx hb dX3_house_87 (by rw [c10]; decide) (by rw [c10]; decide) (by rw [c10]; decide) (by decide) ?_
              refine lv_aload_n hx hb dX3_house_165 rfl (lv_at hl 0 rfl) ?_
              refine lv_aload_n hx hb dX3_house_166 rfl (lv_at hl 0 rfl) ?_
              refine lv_iload_n hx hb dX3_house_167 rfl (lv_at hl 1 rfl) ?_
              refine lv_iconst hx hb dX3_house_168 kc_i1 ?_
              obtain ⟨v11, hv11, hf⟩ := ob_s hf
              refine mc_X3_X3_of S hC hK hP hv11 hl.1 ⟨Nat.le_of_ble_eq_true rfl, Nat.le_of_ble_eq_true rfl⟩ (Nat.le_of_ble_eq_true rfl) ⟨Nat.zero_le _, Nat.zero_le _⟩ dX3_house_169 (fun _ => ?_)
              obtain ⟨v12, hv12, hf⟩ := ob_s hf
              refine mc_X3_X3_gives S hC hD hK hP hS hv12 hl.1 ⟨Nat.le_of_ble_eq_true rfl, Nat.le_of_ble_eq_true rfl⟩ (Nat.le_of_ble_eq_true rfl) ⟨Nat.zero_le _, Nat.zero_le _⟩ dX3_house_172 (fun H locs _ hP hS => ?_)
              have hE := Option.some.inj hf
              subst hE
              exact gt_wi S hr hlocks trivial hP hS dX3_house_175
            · replace hf := it_f c10 hf
              by_cases c13 : x2 = (nI 3)
              · replace hf := it_t c13 hf
                refine lv_tableIn (tgt := 176) (off := 89) hx hb dX3_house_87 (by rw [c13]; decide) (by rw [c13]; decide) (by rw [c13]; decide) (by decide) ?_
                refine lv_aload_n hx hb dX3_house_176 rfl (lv_at hl 0 rfl) ?_
                refine lv_aload_n hx hb dX3_house_177 rfl (lv_at hl 0 rfl) ?_
                refine lv_iload_n hx hb dX3_house_178 rfl (lv_at hl 1 rfl) ?_
                refine lv_iconst hx hb dX3_house_179 kc_i2 ?_
                obtain ⟨v14, hv14, hf⟩ := ob_s hf
                refine mc_X3_X3_of S hC hK hP hv14 hl.1 ⟨Nat.le_of_ble_eq_true rfl, Nat.le_of_ble_eq_true rfl⟩ (Nat.le_of_ble_eq_true rfl) ⟨Nat.zero_le _, Nat.zero_le _⟩ dX3_house_180 (fun _ => ?_)
                obtain ⟨v15, hv15, hf⟩ := ob_s hf
                refine mc_X3_X3_gives S hC hD hK hP hS hv15 hl.1 ⟨Nat.le_of_ble_eq_true rfl, Nat.le_of_ble_eq_true rfl⟩ (Nat.le_of_ble_eq_true rfl) ⟨Nat.zero_le _, Nat.zero_le _⟩ dX3_house_183 (fun H locs _ hP hS => ?_)
                have hE := Option.some.inj hf
                subst hE
                exact gt_wi S hr hlocks trivial hP hS dX3_house_186
              · replace hf := it_f c13 hf
                by_cases c16 : x2 = (nI 4)
                · replace hf := it_t c16 hf
                  refine lv_tableIn (tgt := 187) (off := 100) hx hb dX3_house_87 (by rw [c16]; decide) (by rw [c16]; decide) (by rw [c16]; decide) (by decide) ?_
                  refine lv_aload_n hx hb dX3_house_187 rfl (lv_at hl 0 rfl) ?_
                  refine lv_aload_n hx hb dX3_house_188 rfl (lv_at hl 0 rfl) ?_
                  refine lv_iload_n hx hb dX3_house_189 rfl (lv_at hl 1 rfl) ?_
                  refine lv_iconst hx hb dX3_house_190 kc_i3 ?_
                  obtain ⟨v17, hv17, hf⟩ := ob_s hf
                  refine mc_X3_X3_of S hC hK hP hv17 hl.1 ⟨Nat.le_of_ble_eq_true rfl, Nat.le_of_ble_eq_true rfl⟩ (Nat.le_of_ble_eq_true rfl) ⟨Nat.zero_le _, Nat.zero_le _⟩ dX3_house_191 (fun _ => ?_)
                  obtain ⟨v18, hv18, hf⟩ := ob_s hf
                  refine mc_X3_X3_gives S hC hD hK hP hS hv18 hl.1 ⟨Nat.le_of_ble_eq_true rfl, Nat.le_of_ble_eq_true rfl⟩ (Nat.le_of_ble_eq_true rfl) ⟨Nat.zero_le _, Nat.zero_le _⟩ dX3_house_194 (fun H locs _ hP hS => ?_)
                  have hE := Option.some.inj hf
                  subst hE
                  exact gt_wi S hr hlocks trivial hP hS dX3_house_197
                · replace hf := it_f c16 hf
                  by_cases c19 : x2 = (nI 5)
                  · replace hf := it_t c19 hf
                    refine lv_tableIn (tgt := 198) (off := 111) hx hb dX3_house_87 (by rw [c19]; decide) (by rw [c19]; decide) (by rw [c19]; decide) (by decide) ?_
                    refine lv_aload_n hx hb dX3_house_198 rfl (lv_at hl 0 rfl) ?_
                    refine lv_iload_n hx hb dX3_house_199 rfl (lv_at hl 1 rfl) ?_
                    refine lv_iconst hx hb dX3_house_200 kc_i4 ?_
                    obtain ⟨v20, hv20, hf⟩ := ob_s hf
                    refine mc_X3_X3_of S hC hK hP hv20 hl.1 ⟨Nat.le_of_ble_eq_true rfl, Nat.le_of_ble_eq_true rfl⟩ (Nat.le_of_ble_eq_true rfl) ⟨Nat.zero_le _, Nat.zero_le _⟩ dX3_house_201 (fun _ => ?_)
                    refine lv_iconst hx hb dX3_house_204 kc_im1 ?_
                    refine lv_icmp_ne (tgt := 216) hx hb dX3_house_205 (by decide) (fun c21 => ?_) (fun c21 => ?_)
                    · replace hf := it_f c21 hf
                      refine lv_aload_n hx hb dX3_house_216 rfl (lv_at hl 0 rfl) ?_
                      refine lv_aload_n hx hb dX3_house_217 rfl (lv_at hl 0 rfl) ?_
                      refine lv_iload_n hx hb dX3_house_218 rfl (lv_at hl 1 rfl) ?_
                      refine lv_iconst hx hb dX3_house_219 kc_i4 ?_
                      obtain ⟨v22, hv22, hf⟩ := ob_s hf
                      refine mc_X3_X3_of S hC hK hP hv22 hl.1 ⟨Nat.le_of_ble_eq_true rfl, Nat.le_of_ble_eq_true rfl⟩ (Nat.le_of_ble_eq_true rfl) ⟨Nat.zero_le _, Nat.zero_le _⟩ dX3_house_220 (fun _ => ?_)
                      obtain ⟨v23, hv23, hf⟩ := ob_s hf
                      refine mc_X3_X3_gives S hC hD hK hP hS hv23 hl.1 ⟨Nat.le_of_ble_eq_true rfl, Nat.le_of_ble_eq_true rfl⟩ (Nat.le_of_ble_eq_true rfl) ⟨Nat.zero_le _, Nat.zero_le _⟩ dX3_house_223 (fun H locs _ hP hS => ?_)
                      have hE := Option.some.inj hf
                      subst hE
                      exact gt_wi S hr hlocks trivial hP hS dX3_house_226
                    · replace hf := it_t c21 hf
                      refine lv_aload_n hx hb dX3_house_208 rfl (lv_at hl 0 rfl) ?_
                      refine lv_iconst hx hb dX3_house_209 kc_i5 ?_
                      obtain ⟨v24, hv24, hf⟩ := ob_s hf
                      refine mc_X3_X3_refuse S hC hD hK hP hS hv24 hl.1 ⟨Nat.le_of_ble_eq_true rfl, Nat.le_of_ble_eq_true rfl⟩ (Nat.le_of_ble_eq_true rfl) ⟨Nat.zero_le _, Nat.zero_le _⟩ dX3_house_210 (fun H locs _ hP hS => ?_)
                      refine lv_goto (tgt := 226) hx hb dX3_house_213 (by decide) ?_
                      have hE := Option.some.inj hf
                      subst hE
                      exact gt_wi S hr hlocks trivial hP hS dX3_house_226
                  · replace hf := it_f c19 hf
                    by_cases c25 : x2 = (nI 6)
                    · replace hf := it_t c25 hf
                      refine lv_tableIn (tgt := 227) (off := 140) hx hb dX3_house_87 (by rw [c25]; decide) (by rw [c25]; decide) (by rw [c25]; decide) (by decide) ?_
                      refine lv_aload_n hx hb dX3_house_227 rfl (lv_at hl 0 rfl) ?_
                      refine lv_aload_n hx hb dX3_house_228 rfl (lv_at hl 0 rfl) ?_
                      refine lv_iload_n hx hb dX3_house_229 rfl (lv_at hl 1 rfl) ?_
                      refine lv_iconst hx hb dX3_house_230 kc_i5 ?_
                      obtain ⟨v26, hv26, hf⟩ := ob_s hf
                      refine mc_X3_X3_of S hC hK hP hv26 hl.1 ⟨Nat.le_of_ble_eq_true rfl, Nat.le_of_ble_eq_true rfl⟩ (Nat.le_of_ble_eq_true rfl) ⟨Nat.zero_le _, Nat.zero_le _⟩ dX3_house_231 (fun _ => ?_)
                      obtain ⟨v27, hv27, hf⟩ := ob_s hf
                      refine mc_X3_X3_gives S hC hD hK hP hS hv27 hl.1 ⟨Nat.le_of_ble_eq_true rfl, Nat.le_of_ble_eq_true rfl⟩ (Nat.le_of_ble_eq_true rfl) ⟨Nat.zero_le _, Nat.zero_le _⟩ dX3_house_234 (fun H locs _ hP hS => ?_)
                      have hE := Option.some.inj hf
                      subst hE
                      exact gt_wi S hr hlocks trivial hP hS dX3_house_237
                    · replace hf := it_f c25 hf
                      by_cases c28 : x2 = (nI 7)
                      · replace hf := it_t c28 hf
                        refine lv_tableIn (tgt := 238) (off := 151) hx hb dX3_house_87 (by rw [c28]; decide) (by rw [c28]; decide) (by rw [c28]; decide) (by decide) ?_
                        refine lv_aload_n hx hb dX3_house_238 rfl (lv_at hl 0 rfl) ?_
                        refine lv_aload_n hx hb dX3_house_239 rfl (lv_at hl 0 rfl) ?_
                        refine lv_iload_n hx hb dX3_house_240 rfl (lv_at hl 1 rfl) ?_
                        refine lv_bipush hx hb dX3_house_241 kc_b6 ?_
                        obtain ⟨v29, hv29, hf⟩ := ob_s hf
                        refine mc_X3_X3_of S hC hK hP hv29 hl.1 ⟨Nat.le_of_ble_eq_true rfl, Nat.le_of_ble_eq_true rfl⟩ (Nat.le_of_ble_eq_true rfl) ⟨Nat.zero_le _, Nat.zero_le _⟩ dX3_house_243 (fun _ => ?_)
                        obtain ⟨v30, hv30, hf⟩ := ob_s hf
                        refine mc_X3_X3_gives S hC hD hK hP hS hv30 hl.1 ⟨Nat.le_of_ble_eq_true rfl, Nat.le_of_ble_eq_true rfl⟩ (Nat.le_of_ble_eq_true rfl) ⟨Nat.zero_le _, Nat.zero_le _⟩ dX3_house_246 (fun H locs _ hP hS => ?_)
                        have hE := Option.some.inj hf
                        subst hE
                        exact gt_wi S hr hlocks trivial hP hS dX3_house_249
                      · replace hf := it_f c28 hf
                        by_cases c31 : x2 = (nI 8)
                        · replace hf := it_t c31 hf
                          refine lv_tableIn (tgt := 250) (off := 163) hx hb dX3_house_87 (by rw [c31]; decide) (by rw [c31]; decide) (by rw [c31]; decide) (by decide) ?_
                          refine lv_aload_n hx hb dX3_house_250 rfl (lv_at hl 0 rfl) ?_
                          refine lv_aload_n hx hb dX3_house_251 rfl (lv_at hl 0 rfl) ?_
                          refine lv_iload_n hx hb dX3_house_252 rfl (lv_at hl 1 rfl) ?_
                          refine lv_bipush hx hb dX3_house_253 kc_b8 ?_
                          obtain ⟨v32, hv32, hf⟩ := ob_s hf
                          refine mc_X3_X3_of S hC hK hP hv32 hl.1 ⟨Nat.le_of_ble_eq_true rfl, Nat.le_of_ble_eq_true rfl⟩ (Nat.le_of_ble_eq_true rfl) ⟨Nat.zero_le _, Nat.zero_le _⟩ dX3_house_255 (fun _ => ?_)
                          obtain ⟨v33, hv33, hf⟩ := ob_s hf
                          refine mc_X3_X3_gives S hC hD hK hP hS hv33 hl.1 ⟨Nat.le_of_ble_eq_true rfl, Nat.le_of_ble_eq_true rfl⟩ (Nat.le_of_ble_eq_true rfl) ⟨Nat.zero_le _, Nat.zero_le _⟩ dX3_house_258 (fun H locs _ hP hS => ?_)
                          have hE := Option.some.inj hf
                          subst hE
                          exact gt_wi S hr hlocks trivial hP hS dX3_house_261
                        · replace hf := it_f c31 hf
                          by_cases c34 : x2 = (nI 9)
                          · replace hf := it_t c34 hf
                            refine lv_tableIn (tgt := 262) (off := 175) hx hb dX3_house_87 (by rw [c34]; decide) (by rw [c34]; decide) (by rw [c34]; decide) (by decide) ?_
                            refine lv_aload_n hx hb dX3_house_262 rfl (lv_at hl 0 rfl) ?_
                            refine lv_aload_n hx hb dX3_house_263 rfl (lv_at hl 0 rfl) ?_
                            refine lv_iload_n hx hb dX3_house_264 rfl (lv_at hl 1 rfl) ?_
                            refine lv_bipush hx hb dX3_house_265 kc_b10 ?_
                            obtain ⟨v35, hv35, hf⟩ := ob_s hf
                            refine mc_X3_X3_of S hC hK hP hv35 hl.1 ⟨Nat.le_of_ble_eq_true rfl, Nat.le_of_ble_eq_true rfl⟩ (Nat.le_of_ble_eq_true rfl) ⟨Nat.zero_le _, Nat.zero_le _⟩ dX3_house_267 (fun _ => ?_)
                            obtain ⟨v36, hv36, hf⟩ := ob_s hf
                            refine mc_X3_X3_bits S hK hv36 hl.1 ⟨Nat.le_of_ble_eq_true rfl, Nat.le_of_ble_eq_true rfl⟩ (Nat.le_of_ble_eq_true rfl) ⟨Nat.zero_le _, Nat.zero_le _⟩ dX3_house_270 (fun _ => ?_)
                            obtain ⟨v37, hv37, hf⟩ := ob_s hf
                            refine mc_X3_X3_gives S hC hD hK hP hS hv37 hl.1 ⟨Nat.le_of_ble_eq_true rfl, Nat.le_of_ble_eq_true rfl⟩ (Nat.le_of_ble_eq_true rfl) ⟨Nat.zero_le _, Nat.zero_le _⟩ dX3_house_273 (fun H locs _ hP hS => ?_)
                            have hE := Option.some.inj hf
                            subst hE
                            exact gt_wi S hr hlocks trivial hP hS dX3_house_276
                          · replace hf := it_f c34 hf
                            by_cases c38 : x2 = (nI 10)
                            · replace hf := it_t c38 hf
                              refine lv_tableIn (tgt := 277) (off := 190) hx hb dX3_house_87 (by rw [c38]; decide) (by rw [c38]; decide) (by rw [c38]; decide) (by decide) ?_
                              refine lv_aload_n hx hb dX3_house_277 rfl (lv_at hl 0 rfl) ?_
                              refine lv_aload_n hx hb dX3_house_278 rfl (lv_at hl 0 rfl) ?_
                              refine lv_iload_n hx hb dX3_house_279 rfl (lv_at hl 1 rfl) ?_
                              refine lv_bipush hx hb dX3_house_280 kc_b11 ?_
                              obtain ⟨v39, hv39, hf⟩ := ob_s hf
                              refine mc_X3_X3_of S hC hK hP hv39 hl.1 ⟨Nat.le_of_ble_eq_true rfl, Nat.le_of_ble_eq_true rfl⟩ (Nat.le_of_ble_eq_true rfl) ⟨Nat.zero_le _, Nat.zero_le _⟩ dX3_house_282 (fun _ => ?_)
                              obtain ⟨v40, hv40, hf⟩ := ob_s hf
                              refine mc_X3_X3_gives S hC hD hK hP hS hv40 hl.1 ⟨Nat.le_of_ble_eq_true rfl, Nat.le_of_ble_eq_true rfl⟩ (Nat.le_of_ble_eq_true rfl) ⟨Nat.zero_le _, Nat.zero_le _⟩ dX3_house_285 (fun H locs _ hP hS => ?_)
                              have hE := Option.some.inj hf
                              subst hE
                              exact gt_wi S hr hlocks trivial hP hS dX3_house_288
                            · replace hf := it_f c38 hf
                              refine lv_tableOut (tgt := 289) hx hb dX3_house_87 (by have n0 := lv_neT (a := 0) c4 (by decide); have n1 := lv_neT (a := 1) c7 (by decide); have n2 := lv_neT (a := 2) c10 (by decide); have n3 := lv_neT (a := 3) c13 (by decide); have n4 := lv_neT (a := 4) c16 (by decide); have n5 := lv_neT (a := 5) c19 (by decide); have n6 := lv_neT (a := 6) c25 (by decide); have n7 := lv_neT (a := 7) c28 (by decide); have n8 := lv_neT (a := 8) c31 (by decide); have n9 := lv_neT (a := 9) c34 (by decide); have n10 := lv_neT (a := 10) c38 (by decide); omega) (by decide) ?_
                              refine lv_aload_n hx hb dX3_house_289 rfl (lv_at hl 0 rfl) ?_
                              refine lv_aload_n hx hb dX3_house_290 rfl (lv_at hl 0 rfl) ?_
                              refine lv_iload_n hx hb dX3_house_291 rfl (lv_at hl 1 rfl) ?_
                              refine lv_bipush hx hb dX3_house_292 kc_b9 ?_
                              obtain ⟨v41, hv41, hf⟩ := ob_s hf
                              refine mc_X3_X3_of S hC hK hP hv41 hl.1 ⟨Nat.le_of_ble_eq_true rfl, Nat.le_of_ble_eq_true rfl⟩ (Nat.le_of_ble_eq_true rfl) ⟨Nat.zero_le _, Nat.zero_le _⟩ dX3_house_294 (fun _ => ?_)
                              obtain ⟨v42, hv42, hf⟩ := ob_s hf
                              refine mc_X3_X3_gives S hC hD hK hP hS hv42 hl.1 ⟨Nat.le_of_ble_eq_true rfl, Nat.le_of_ble_eq_true rfl⟩ (Nat.le_of_ble_eq_true rfl) ⟨Nat.zero_le _, Nat.zero_le _⟩ dX3_house_297 (fun H locs _ hP hS => ?_)
                              have hE := Option.some.inj hf
                              subst hE
                              exact gt_wi S hr hlocks trivial hP hS dX3_house_300
      · replace hf := it_f c3 hf
        refine lv_iload_n hx hb dX3_house_47 rfl (lv_at hl 2 rfl) ?_
        refine lv_bipush hx hb dX3_house_48 kc_b20 ?_
        refine lv_isub hx hb dX3_house_50 ?_
        refine lv_aload_n hx hb dX3_house_51 rfl (lv_at hl 0 rfl) ?_
        refine lv_iload_n hx hb dX3_house_52 rfl (lv_at hl 1 rfl) ?_
        refine lv_bipush hx hb dX3_house_53 kc_b11 ?_
        obtain ⟨v43, hv43, hf⟩ := ob_s hf
        refine mc_X3_X3_of S hC hK hP hv43 hl.1 ⟨Nat.le_of_ble_eq_true rfl, Nat.le_of_ble_eq_true rfl⟩ (Nat.le_of_ble_eq_true rfl) ⟨Nat.zero_le _, Nat.zero_le _⟩ dX3_house_55 (fun _ => ?_)
        refine lv_icmp_ge (tgt := 80) hx hb dX3_house_58 (by decide) (fun c44 => ?_) (fun c44 => ?_)
        · replace hf := it_t c44 hf
          refine lv_aload_n hx hb dX3_house_80 rfl (lv_at hl 0 rfl) ?_
          refine lv_iconst hx hb dX3_house_81 kc_i5 ?_
          obtain ⟨v45, hv45, hf⟩ := ob_s hf
          refine mc_X3_X3_refuse S hC hD hK hP hS hv45 hl.1 ⟨Nat.le_of_ble_eq_true rfl, Nat.le_of_ble_eq_true rfl⟩ (Nat.le_of_ble_eq_true rfl) ⟨Nat.zero_le _, Nat.zero_le _⟩ dX3_house_82 (fun H locs _ hP hS => ?_)
          have hE := Option.some.inj hf
          subst hE
          exact gt_wi S hr hlocks trivial hP hS dX3_house_85
        · replace hf := it_f c44 hf
          refine lv_aload_n hx hb dX3_house_61 rfl (lv_at hl 0 rfl) ?_
          refine lv_aload_n hx hb dX3_house_62 rfl (lv_at hl 0 rfl) ?_
          refine lv_iload_n hx hb dX3_house_63 rfl (lv_at hl 1 rfl) ?_
          refine lv_bipush hx hb dX3_house_64 kc_b12 ?_
          refine lv_iload_n hx hb dX3_house_66 rfl (lv_at hl 2 rfl) ?_
          refine lv_iadd hx hb dX3_house_67 ?_
          refine lv_bipush hx hb dX3_house_68 kc_b20 ?_
          refine lv_isub hx hb dX3_house_70 ?_
          obtain ⟨v46, hv46, hf⟩ := ob_s hf
          refine mc_X3_X3_of S hC hK hP hv46 hl.1 ⟨Nat.le_of_ble_eq_true rfl, Nat.le_of_ble_eq_true rfl⟩ (Nat.le_of_ble_eq_true rfl) ⟨Nat.zero_le _, Nat.zero_le _⟩ dX3_house_71 (fun _ => ?_)
          obtain ⟨v47, hv47, hf⟩ := ob_s hf
          refine mc_X3_X3_gives S hC hD hK hP hS hv47 hl.1 ⟨Nat.le_of_ble_eq_true rfl, Nat.le_of_ble_eq_true rfl⟩ (Nat.le_of_ble_eq_true rfl) ⟨Nat.zero_le _, Nat.zero_le _⟩ dX3_house_74 (fun H locs _ hP hS => ?_)
          refine lv_goto (tgt := 85) hx hb dX3_house_77 (by decide) ?_
          have hE := Option.some.inj hf
          subst hE
          exact gt_wi S hr hlocks trivial hP hS dX3_house_85
    · replace hf := it_t c2 hf
      refine lv_aload_n hx hb dX3_house_35 rfl (lv_at hl 0 rfl) ?_
      refine lv_iconst hx hb dX3_house_36 kc_i2 ?_
      obtain ⟨v48, hv48, hf⟩ := ob_s hf
      refine mc_X3_X3_refuse S hC hD hK hP hS hv48 hl.1 ⟨Nat.le_of_ble_eq_true rfl, Nat.le_of_ble_eq_true rfl⟩ (Nat.le_of_ble_eq_true rfl) ⟨Nat.zero_le _, Nat.zero_le _⟩ dX3_house_37 (fun H locs _ hP hS => ?_)
      have hE := Option.some.inj hf
      subst hE
      exact gt_wi S hr hlocks trivial hP hS dX3_house_40
  suffices hg : ∀ (H : Heap) (locs : List Loc), va_P D cl (mW mi cI cJ cB o ad th tp st fk fp ac si fr tt kd nu fa pl fo wd ci gr lm om nw rd aa kp ta nm rn gv gt rw rh lg lh ou) H → va_S (mA o ad) s.heap H locs → W p l e (rM 3 64) s m ([.ref o, .int a0, .int a1] : List Value).toArray below meth c H locs 0 0 (MQ below (gQ D cl (some (.int out.1)) True (mW mi cI cJ cB o ad out.2.1 tp out.2.2 fk fp ac si fr tt kd nu fa pl fo wd ci gr lm om nw rd aa kp ta nm rn gv gt rw rh lg lh ou) (mA o ad)) ([.ref o, .int a0, .int a1] : List Value).toArray s 0 0 (mA o ad)) (F0 m 0 ls []) from hg s.heap [] hP va_S.rf
  clear hP
  intro H locs hP hS
  rw [f_X3_house] at hf
  refine lv_iload_n hx hb dX3_house_0 rfl (lv_at hl 2 rfl) ?_
  refine lv_iconst hx hb dX3_house_1 kc_i0 ?_
  refine lv_bipush hx hb dX3_house_2 kc_b11 ?_
  obtain ⟨v1, hv1, hf⟩ := ob_s hf
  refine mc_X3_X3_isFrom S hK hv1 hl.1 ⟨Nat.le_of_ble_eq_true rfl, Nat.le_of_ble_eq_true rfl⟩ (Nat.le_of_ble_eq_true rfl) ⟨Nat.zero_le _, Nat.zero_le _⟩ dX3_house_4 (fun hnv1 => ?_)
  refine lv_if_ne (tgt := 27) hx hb dX3_house_7 (by decide) (fun c2 => ?_) (fun c2 => ?_)
  · replace hf := it_f c2 hf
    exact (w27) a0 a1 th st ls H locs hP hS hl hf
  · replace hf := it_t c2 hf
    refine lv_iload_n hx hb dX3_house_10 rfl (lv_at hl 2 rfl) ?_
    refine lv_bipush hx hb dX3_house_11 kc_b20 ?_
    refine lv_bipush hx hb dX3_house_13 kc_b25 ?_
    obtain ⟨v3, hv3, hf⟩ := ob_s hf
    refine mc_X3_X3_isFrom S hK hv3 hl.1 ⟨Nat.le_of_ble_eq_true rfl, Nat.le_of_ble_eq_true rfl⟩ (Nat.le_of_ble_eq_true rfl) ⟨Nat.zero_le _, Nat.zero_le _⟩ dX3_house_15 (fun hnv3 => ?_)
    refine lv_if_ne (tgt := 27) hx hb dX3_house_18 (by decide) (fun c4 => ?_) (fun c4 => ?_)
    · replace hf := it_f c4 hf
      exact (w27) a0 a1 th st ls H locs hP hS hl hf
    · replace hf := it_t c4 hf
      refine lv_aload_n hx hb dX3_house_21 rfl (lv_at hl 0 rfl) ?_
      refine lv_iconst hx hb dX3_house_22 kc_i1 ?_
      obtain ⟨v5, hv5, hf⟩ := ob_s hf
      refine mc_X3_X3_refuse S hC hD hK hP hS hv5 hl.1 ⟨Nat.le_of_ble_eq_true rfl, Nat.le_of_ble_eq_true rfl⟩ (Nat.le_of_ble_eq_true rfl) ⟨Nat.zero_le _, Nat.zero_le _⟩ dX3_house_23 (fun H locs _ hP hS => ?_)
      have hE := Option.some.inj hf
      subst hE
      exact gt_wi S hr hlocks trivial hP hS dX3_house_26
theorem hd_X3_rule : yX3_rule.cls = RX3 ∧ yX3_rule.cls ≠ "java/lang/invoke/MethodHandle" ∧ yX3_rule.cls ≠ "java/lang/invoke/VarHandle" ∧ (parseMethodDescriptor yX3_rule.desc).map (fun d => d.parameters.length) = some 1 := by decide +kernel
set_option maxHeartbeats 4000000 in
set_option maxRecDepth 100000 in
theorem mm_X3_rule {a0 : Int32} {out : Int32 × Int32 × Int32} (hC : mC cl tys mi cI cJ cB) (hD : mD o ad) (hf : f_X3_rule nw th st a0 = some out) : Met l yX3_rule (ws_ yX3_rule cX3_rule 2 (some .int)) (rM 1 22) (gPc D cl tys [.ref o, .int a0] (mW mi cI cJ cB o ad th tp st fk fp ac si fr tt kd nu fa pl fo wd ci gr lm om nw rd aa kp ta nm rn gv gt rw rh lg lh ou)) (gQ D cl (some (.int out.1)) True (mW mi cI cJ cB o ad out.2.1 tp out.2.2 fk fp ac si fr tt kd nu fa pl fo wd ci gr lm om nw rd aa kp ta nm rn gv gt rw rh lg lh ou) (mA o ad)) 0 0 (mA o ad) := by
  refine gGo (by decide +kernel) (Nat.le_of_ble_eq_true rfl) (fun p e s m below meth c ls S hr hlocks hK hP hl => ?_)
  have S : CallFix p m c cX3_rule 2 s _ lw_all RX3 := S
  obtain ⟨hx, hb, hml, hown, hts⟩ := id S
  have hl : lv_has ls 2 [(0, .ref o), (1, .int a0)] := hl
  suffices hg : ∀ (H : Heap) (locs : List Loc), va_P D cl (mW mi cI cJ cB o ad th tp st fk fp ac si fr tt kd nu fa pl fo wd ci gr lm om nw rd aa kp ta nm rn gv gt rw rh lg lh ou) H → va_S (mA o ad) s.heap H locs → W p l e (rM 1 22) s m ([.ref o, .int a0] : List Value).toArray below meth c H locs 0 0 (MQ below (gQ D cl (some (.int out.1)) True (mW mi cI cJ cB o ad out.2.1 tp out.2.2 fk fp ac si fr tt kd nu fa pl fo wd ci gr lm om nw rd aa kp ta nm rn gv gt rw rh lg lh ou) (mA o ad)) ([.ref o, .int a0] : List Value).toArray s 0 0 (mA o ad)) (F0 m 0 ls []) from hg s.heap [] hP va_S.rf
  clear hP
  intro H locs hP hS
  rw [f_X3_rule] at hf
  refine lv_iload_n hx hb dX3_rule_0 rfl (lv_at hl 1 rfl) ?_
  refine lv_iconst hx hb dX3_rule_1 kc_i0 ?_
  refine lv_iconst hx hb dX3_rule_2 kc_i5 ?_
  obtain ⟨v1, hv1, hf⟩ := ob_s hf
  refine mc_X3_X3_isFrom S hK hv1 hl.1 ⟨Nat.le_of_ble_eq_true rfl, Nat.le_of_ble_eq_true rfl⟩ (Nat.le_of_ble_eq_true rfl) ⟨Nat.zero_le _, Nat.zero_le _⟩ dX3_rule_3 (fun hnv1 => ?_)
  refine lv_if_eq (tgt := 26) hx hb dX3_rule_6 (by decide) (fun c2 => ?_) (fun c2 => ?_)
  · replace hf := it_t c2 hf
    refine lv_aload_n hx hb dX3_rule_26 rfl (lv_at hl 0 rfl) ?_
    refine lv_iconst hx hb dX3_rule_27 kc_i1 ?_
    obtain ⟨v3, hv3, hf⟩ := ob_s hf
    refine mc_X3_X3_refuse S hC hD hK hP hS hv3 hl.1 ⟨Nat.le_of_ble_eq_true rfl, Nat.le_of_ble_eq_true rfl⟩ (Nat.le_of_ble_eq_true rfl) ⟨Nat.zero_le _, Nat.zero_le _⟩ dX3_rule_28 (fun H locs _ hP hS => ?_)
    have hE := Option.some.inj hf
    subst hE
    exact gt_wi S hr hlocks trivial hP hS dX3_rule_31
  · replace hf := it_f c2 hf
    refine lv_aload_n hx hb dX3_rule_9 rfl (lv_at hl 0 rfl) ?_
    refine lv_aload_n hx hb dX3_rule_10 rfl (lv_at hl 0 rfl) ?_
    refine mg_1 S hC hK hP dX3_rule_11 ?_
    refine lv_sipush hx hb dX3_rule_14 kc_s224 ?_
    refine lv_iload_n hx hb dX3_rule_17 rfl (lv_at hl 1 rfl) ?_
    refine lv_iadd hx hb dX3_rule_18 ?_
    obtain ⟨g4, hf⟩ := gd_t hf
    refine ma_1 S hC hK hP (inR_vp g4) rfl dX3_rule_19 ?_
    obtain ⟨v5, hv5, hf⟩ := ob_s hf
    refine mc_X3_X3_gives S hC hD hK hP hS hv5 hl.1 ⟨Nat.le_of_ble_eq_true rfl, Nat.le_of_ble_eq_true rfl⟩ (Nat.le_of_ble_eq_true rfl) ⟨Nat.zero_le _, Nat.zero_le _⟩ dX3_rule_20 (fun H locs _ hP hS => ?_)
    refine lv_goto (tgt := 31) hx hb dX3_rule_23 (by decide) ?_
    have hE := Option.some.inj hf
    subst hE
    exact gt_wi S hr hlocks trivial hP hS dX3_rule_31
theorem hd_X3_areOnes : yX3_areOnes.cls = RX3 ∧ yX3_areOnes.cls ≠ "java/lang/invoke/MethodHandle" ∧ yX3_areOnes.cls ≠ "java/lang/invoke/VarHandle" ∧ (parseMethodDescriptor yX3_areOnes.desc).map (fun d => d.parameters.length) = some 2 := by decide +kernel
set_option maxHeartbeats 4000000 in
set_option maxRecDepth 100000 in
theorem mm_X3_areOnes {a0 : Int32} {a1 : Int32} {out : Int32} (hC : mC cl tys mi cI cJ cB) (hf : f_X3_areOnes nw a0 a1 = some out) : Met l yX3_areOnes (ws_ yX3_areOnes cX3_areOnes 3 (some .boolean)) (rM 2 43) (gPc D cl tys [.ref o, .int a0, .int a1] (mW mi cI cJ cB o ad th tp st fk fp ac si fr tt kd nu fa pl fo wd ci gr lm om nw rd aa kp ta nm rn gv gt rw rh lg lh ou)) (gR (some (.int out)) (narrow .boolean (.int out) = .int out)) 0 0 (fun _ => False) := by
  refine gGo (by decide +kernel) (Nat.le_of_ble_eq_true rfl) (fun p e s m below meth c ls S hr hlocks hK hP hl => ?_)
  have S : CallFix p m c cX3_areOnes 3 s _ lw_all RX3 := S
  obtain ⟨hx, hb, hml, hown, hts⟩ := id S
  have hl : lv_has ls 3 [(0, .ref o), (1, .int a0), (2, .int a1)] := hl
  rw [f_X3_areOnes] at hf
  refine lv_aload_n hx hb dX3_areOnes_0 rfl (lv_at hl 0 rfl) ?_
  refine lv_iload_n hx hb dX3_areOnes_1 rfl (lv_at hl 1 rfl) ?_
  obtain ⟨v1, hv1, hf⟩ := ob_s hf
  refine mc_X3_X3_isHouse S hC hK hP hv1 hl.1 ⟨Nat.le_of_ble_eq_true rfl, Nat.le_of_ble_eq_true rfl⟩ (Nat.le_of_ble_eq_true rfl) ⟨Nat.zero_le _, Nat.zero_le _⟩ dX3_areOnes_2 (fun hnv1 => ?_)
  refine lv_if_eq (tgt := 20) hx hb dX3_areOnes_5 (by decide) (fun c2 => ?_) (fun c2 => ?_)
  · replace hf := it_t c2 hf
    refine lv_iconst hx hb dX3_areOnes_20 kc_i0 ?_
    have hE := Option.some.inj hf
    subst hE
    exact gt_rz S hr hlocks nb0 dX3_areOnes_21
  · replace hf := it_f c2 hf
    refine lv_aload_n hx hb dX3_areOnes_8 rfl (lv_at hl 0 rfl) ?_
    refine lv_iload_n hx hb dX3_areOnes_9 rfl (lv_at hl 2 rfl) ?_
    obtain ⟨v3, hv3, hf⟩ := ob_s hf
    refine mc_X3_X3_isHome S hC hK hP hv3 hl.1 ⟨Nat.le_of_ble_eq_true rfl, Nat.le_of_ble_eq_true rfl⟩ (Nat.le_of_ble_eq_true rfl) ⟨Nat.zero_le _, Nat.zero_le _⟩ dX3_areOnes_10 (fun hnv3 => ?_)
    refine lv_if_eq (tgt := 20) hx hb dX3_areOnes_13 (by decide) (fun c4 => ?_) (fun c4 => ?_)
    · replace hf := it_t c4 hf
      refine lv_iconst hx hb dX3_areOnes_20 kc_i0 ?_
      have hE := Option.some.inj hf
      subst hE
      exact gt_rz S hr hlocks nb0 dX3_areOnes_21
    · replace hf := it_f c4 hf
      refine lv_iconst hx hb dX3_areOnes_16 kc_i1 ?_
      refine lv_goto (tgt := 21) hx hb dX3_areOnes_17 (by decide) ?_
      have hE := Option.some.inj hf
      subst hE
      exact gt_rz S hr hlocks nb1 dX3_areOnes_21
set_option maxRecDepth 100000 in
theorem mc_X3_X3_areOnes {a0 : Int32} {a1 : Int32} {out : Int32} (S : CallFix p m c cc nL s args lw_all RX3) (hC : mC cl tys mi cI cJ cB) (hK : va_K D cl tys s) (hP : va_P D cl (mW mi cI cJ cB o ad th tp st fk fp ac si fr tt kd nu fa pl fo wd ci gr lm om nw rd aa kp ta nm rn gv gt rw rh lg lh ou) H) (hf : f_X3_areOnes nw a0 a1 = some out) (hsz : ls.size = nL) (hR : 2 + 1 ≤ R.frames ∧ 8 + (3 + 11) + 43 ≤ R.locals) (hW : (rest.map fun v => v.category).sum ≤ 8) (hcs : cells ≤ R.cells ∧ slots ≤ R.slots) (hdg : decode cc pc = .ok (.invokevirtual 253, 3)) (kk : (narrow .boolean (.int out) = .int out) → W p l e R s m args below meth c H locs cells slots Q (F0 m (pc + 3) ls (.int out :: rest))) : W p l e R s m args below meth c H locs cells slots Q (F0 m pc ls (.int a1 :: .int a0 :: .ref o :: rest)) :=
  gc_Vr (As := [.int a0, .int a1]) S (mm_X3_areOnes hC hf) (cwV 2 S.2.2.2.2 (lw_V q2295 q2297 qs124 q189 q2298) rfl rfl rfl hd_X3_areOnes hR) (gPreV hK hP hC.1 (q0 := 0) rfl) rfl hsz rfl hW hdg hcs kk
theorem hd_X3_doesFit : yX3_doesFit.cls = RX3 ∧ yX3_doesFit.cls ≠ "java/lang/invoke/MethodHandle" ∧ yX3_doesFit.cls ≠ "java/lang/invoke/VarHandle" ∧ (parseMethodDescriptor yX3_doesFit.desc).map (fun d => d.parameters.length) = some 2 := by decide +kernel
set_option maxHeartbeats 4000000 in
set_option maxRecDepth 100000 in
theorem mm_X3_doesFit {a0 : Int32} {a1 : Int32} {out : Int32} (hC : mC cl tys mi cI cJ cB) (hf : f_X3_doesFit nw a0 a1 = some out) : Met l yX3_doesFit (ws_ yX3_doesFit cX3_doesFit 3 (some .boolean)) (rM 2 43) (gPc D cl tys [.ref o, .int a0, .int a1] (mW mi cI cJ cB o ad th tp st fk fp ac si fr tt kd nu fa pl fo wd ci gr lm om nw rd aa kp ta nm rn gv gt rw rh lg lh ou)) (gR (some (.int out)) (narrow .boolean (.int out) = .int out)) 0 0 (fun _ => False) := by
  refine gGo (by decide +kernel) (Nat.le_of_ble_eq_true rfl) (fun p e s m below meth c ls S hr hlocks hK hP hl => ?_)
  have S : CallFix p m c cX3_doesFit 3 s _ lw_all RX3 := S
  obtain ⟨hx, hb, hml, hown, hts⟩ := id S
  have hl : lv_has ls 3 [(0, .ref o), (1, .int a0), (2, .int a1)] := hl
  rw [f_X3_doesFit] at hf
  refine lv_aload_n hx hb dX3_doesFit_0 rfl (lv_at hl 0 rfl) ?_
  refine lv_iload_n hx hb dX3_doesFit_1 rfl (lv_at hl 2 rfl) ?_
  refine lv_iconst hx hb dX3_doesFit_2 kc_i0 ?_
  obtain ⟨v1, hv1, hf⟩ := ob_s hf
  refine mc_X3_X3_home0 S hC hK hP hv1 hl.1 ⟨Nat.le_of_ble_eq_true rfl, Nat.le_of_ble_eq_true rfl⟩ (Nat.le_of_ble_eq_true rfl) ⟨Nat.zero_le _, Nat.zero_le _⟩ dX3_doesFit_3 (fun _ => ?_)
  refine lv_aload_n hx hb dX3_doesFit_6 rfl (lv_at hl 0 rfl) ?_
  refine lv_iload_n hx hb dX3_doesFit_7 rfl (lv_at hl 1 rfl) ?_
  refine lv_iconst hx hb dX3_doesFit_8 kc_i1 ?_
  obtain ⟨v2, hv2, hf⟩ := ob_s hf
  refine mc_X3_X3_of S hC hK hP hv2 hl.1 ⟨Nat.le_of_ble_eq_true rfl, Nat.le_of_ble_eq_true rfl⟩ (Nat.le_of_ble_eq_true rfl) ⟨Nat.zero_le _, Nat.zero_le _⟩ dX3_doesFit_9 (fun _ => ?_)
  refine lv_isub hx hb dX3_doesFit_12 ?_
  refine lv_iconst hx hb dX3_doesFit_13 kc_i0 ?_
  refine lv_iconst hx hb dX3_doesFit_14 kc_i1 ?_
  obtain ⟨v3, hv3, hf⟩ := ob_s hf
  refine mc_X3_X3_isFrom S hK hv3 hl.1 ⟨Nat.le_of_ble_eq_true rfl, Nat.le_of_ble_eq_true rfl⟩ (Nat.le_of_ble_eq_true rfl) ⟨Nat.zero_le _, Nat.zero_le _⟩ dX3_doesFit_15 (fun hnv3 => ?_)
  have hE := Option.some.inj hf
  subst hE
  exact gt_rz S hr hlocks hnv3 dX3_doesFit_18
set_option maxRecDepth 100000 in
theorem mc_X3_X3_doesFit {a0 : Int32} {a1 : Int32} {out : Int32} (S : CallFix p m c cc nL s args lw_all RX3) (hC : mC cl tys mi cI cJ cB) (hK : va_K D cl tys s) (hP : va_P D cl (mW mi cI cJ cB o ad th tp st fk fp ac si fr tt kd nu fa pl fo wd ci gr lm om nw rd aa kp ta nm rn gv gt rw rh lg lh ou) H) (hf : f_X3_doesFit nw a0 a1 = some out) (hsz : ls.size = nL) (hR : 2 + 1 ≤ R.frames ∧ 8 + (3 + 11) + 43 ≤ R.locals) (hW : (rest.map fun v => v.category).sum ≤ 8) (hcs : cells ≤ R.cells ∧ slots ≤ R.slots) (hdg : decode cc pc = .ok (.invokevirtual 250, 3)) (kk : (narrow .boolean (.int out) = .int out) → W p l e R s m args below meth c H locs cells slots Q (F0 m (pc + 3) ls (.int out :: rest))) : W p l e R s m args below meth c H locs cells slots Q (F0 m pc ls (.int a1 :: .int a0 :: .ref o :: rest)) :=
  gc_Vr (As := [.int a0, .int a1]) S (mm_X3_doesFit hC hf) (cwV 2 S.2.2.2.2 (lw_V q2303 q2305 qs126 q189 q2306) rfl rfl rfl hd_X3_doesFit hR) (gPreV hK hP hC.1 (q0 := 0) rfl) rfl hsz rfl hW hdg hcs kk
theorem hd_X3_whyNot : yX3_whyNot.cls = RX3 ∧ yX3_whyNot.cls ≠ "java/lang/invoke/MethodHandle" ∧ yX3_whyNot.cls ≠ "java/lang/invoke/VarHandle" ∧ (parseMethodDescriptor yX3_whyNot.desc).map (fun d => d.parameters.length) = some 2 := by decide +kernel
set_option maxHeartbeats 4000000 in
set_option maxRecDepth 100000 in
theorem mm_X3_whyNot {a0 : Int32} {a1 : Int32} {out : Int32} (hC : mC cl tys mi cI cJ cB) (hf : f_X3_whyNot nw a0 a1 = some out) : Met l yX3_whyNot (ws_ yX3_whyNot cX3_whyNot 3 (some .int)) (rM 3 65) (gPc D cl tys [.ref o, .int a0, .int a1] (mW mi cI cJ cB o ad th tp st fk fp ac si fr tt kd nu fa pl fo wd ci gr lm om nw rd aa kp ta nm rn gv gt rw rh lg lh ou)) (gR (some (.int out)) True) 0 0 (fun _ => False) := by
  refine gGo (by decide +kernel) (Nat.le_of_ble_eq_true rfl) (fun p e s m below meth c ls S hr hlocks hK hP hl => ?_)
  have S : CallFix p m c cX3_whyNot 3 s _ lw_all RX3 := S
  obtain ⟨hx, hb, hml, hown, hts⟩ := id S
  have hl : lv_has ls 3 [(0, .ref o), (1, .int a0), (2, .int a1)] := hl
  rw [f_X3_whyNot] at hf
  refine lv_aload_n hx hb dX3_whyNot_0 rfl (lv_at hl 0 rfl) ?_
  refine lv_iload_n hx hb dX3_whyNot_1 rfl (lv_at hl 1 rfl) ?_
  obtain ⟨v1, hv1, hf⟩ := ob_s hf
  refine mc_X3_X3_isIn S hC hK hP hv1 hl.1 ⟨Nat.le_of_ble_eq_true rfl, Nat.le_of_ble_eq_true rfl⟩ (Nat.le_of_ble_eq_true rfl) ⟨Nat.zero_le _, Nat.zero_le _⟩ dX3_whyNot_2 (fun hnv1 => ?_)
  refine lv_if_ne (tgt := 10) hx hb dX3_whyNot_5 (by decide) (fun c2 => ?_) (fun c2 => ?_)
  · replace hf := it_f c2 hf
    refine lv_aload_n hx hb dX3_whyNot_10 rfl (lv_at hl 0 rfl) ?_
    refine lv_iload_n hx hb dX3_whyNot_11 rfl (lv_at hl 1 rfl) ?_
    refine lv_bipush hx hb dX3_whyNot_12 kc_b6 ?_
    obtain ⟨v3, hv3, hf⟩ := ob_s hf
    refine mc_X3_X3_of S hC hK hP hv3 hl.1 ⟨Nat.le_of_ble_eq_true rfl, Nat.le_of_ble_eq_true rfl⟩ (Nat.le_of_ble_eq_true rfl) ⟨Nat.zero_le _, Nat.zero_le _⟩ dX3_whyNot_14 (fun _ => ?_)
    refine lv_if_le (tgt := 22) hx hb dX3_whyNot_17 (by decide) (fun c4 => ?_) (fun c4 => ?_)
    · replace hf := it_t c4 hf
      refine lv_aload_n hx hb dX3_whyNot_22 rfl (lv_at hl 0 rfl) ?_
      refine lv_iload_n hx hb dX3_whyNot_23 rfl (lv_at hl 2 rfl) ?_
      obtain ⟨v5, hv5, hf⟩ := ob_s hf
      refine mc_X3_X3_isFree S hC hK hP hv5 hl.1 ⟨Nat.le_of_ble_eq_true rfl, Nat.le_of_ble_eq_true rfl⟩ (Nat.le_of_ble_eq_true rfl) ⟨Nat.zero_le _, Nat.zero_le _⟩ dX3_whyNot_24 (fun hnv5 => ?_)
      refine lv_if_ne (tgt := 32) hx hb dX3_whyNot_27 (by decide) (fun c6 => ?_) (fun c6 => ?_)
      · replace hf := it_f c6 hf
        refine lv_aload_n hx hb dX3_whyNot_32 rfl (lv_at hl 0 rfl) ?_
        refine lv_iload_n hx hb dX3_whyNot_33 rfl (lv_at hl 1 rfl) ?_
        refine lv_iload_n hx hb dX3_whyNot_34 rfl (lv_at hl 2 rfl) ?_
        obtain ⟨v7, hv7, hf⟩ := ob_s hf
        refine mc_X3_X3_doesFit S hC hK hP hv7 hl.1 ⟨Nat.le_of_ble_eq_true rfl, Nat.le_of_ble_eq_true rfl⟩ (Nat.le_of_ble_eq_true rfl) ⟨Nat.zero_le _, Nat.zero_le _⟩ dX3_whyNot_35 (fun hnv7 => ?_)
        refine lv_if_ne (tgt := 43) hx hb dX3_whyNot_38 (by decide) (fun c8 => ?_) (fun c8 => ?_)
        · replace hf := it_f c8 hf
          refine lv_aload_n hx hb dX3_whyNot_43 rfl (lv_at hl 0 rfl) ?_
          refine lv_iload_n hx hb dX3_whyNot_44 rfl (lv_at hl 1 rfl) ?_
          refine lv_iload_n hx hb dX3_whyNot_45 rfl (lv_at hl 2 rfl) ?_
          obtain ⟨v9, hv9, hf⟩ := ob_s hf
          refine mc_X3_X3_isBid S hC hK hP hv9 hl.1 ⟨Nat.le_of_ble_eq_true rfl, Nat.le_of_ble_eq_true rfl⟩ (Nat.le_of_ble_eq_true rfl) ⟨Nat.zero_le _, Nat.zero_le _⟩ dX3_whyNot_46 (fun hnv9 => ?_)
          refine lv_if_eq (tgt := 56) hx hb dX3_whyNot_49 (by decide) (fun c10 => ?_) (fun c10 => ?_)
          · replace hf := it_t c10 hf
            refine lv_aload_n hx hb dX3_whyNot_56 rfl (lv_at hl 0 rfl) ?_
            refine lv_iload_n hx hb dX3_whyNot_57 rfl (lv_at hl 1 rfl) ?_
            refine lv_bipush hx hb dX3_whyNot_58 kc_b10 ?_
            obtain ⟨v11, hv11, hf⟩ := ob_s hf
            refine mc_X3_X3_of S hC hK hP hv11 hl.1 ⟨Nat.le_of_ble_eq_true rfl, Nat.le_of_ble_eq_true rfl⟩ (Nat.le_of_ble_eq_true rfl) ⟨Nat.zero_le _, Nat.zero_le _⟩ dX3_whyNot_60 (fun _ => ?_)
            obtain ⟨v12, hv12, hf⟩ := ob_s hf
            refine mc_X3_X3_bits S hK hv12 hl.1 ⟨Nat.le_of_ble_eq_true rfl, Nat.le_of_ble_eq_true rfl⟩ (Nat.le_of_ble_eq_true rfl) ⟨Nat.zero_le _, Nat.zero_le _⟩ dX3_whyNot_63 (fun _ => ?_)
            refine lv_aload_n hx hb dX3_whyNot_66 rfl (lv_at hl 0 rfl) ?_
            refine mg_1 S hC hK hP dX3_whyNot_67 ?_
            refine lv_sipush hx hb dX3_whyNot_70 kc_s229 ?_
            refine ma_1 S hC hK hP kv_229_390 kn_229 dX3_whyNot_73 ?_
            refine lv_icmp_lt (tgt := 82) hx hb dX3_whyNot_74 (by decide) (fun c13 => ?_) (fun c13 => ?_)
            · replace hf := it_t c13 hf
              refine lv_iconst hx hb dX3_whyNot_82 kc_i0 ?_
              have hE := Option.some.inj hf
              subst hE
              exact gt_ri S hr hlocks trivial dX3_whyNot_83
            · replace hf := it_f c13 hf
              refine lv_bipush hx hb dX3_whyNot_77 kc_b6 ?_
              refine lv_goto (tgt := 83) hx hb dX3_whyNot_79 (by decide) ?_
              have hE := Option.some.inj hf
              subst hE
              exact gt_ri S hr hlocks trivial dX3_whyNot_83
          · replace hf := it_f c10 hf
            refine lv_iconst hx hb dX3_whyNot_52 kc_i5 ?_
            refine lv_goto (tgt := 83) hx hb dX3_whyNot_53 (by decide) ?_
            have hE := Option.some.inj hf
            subst hE
            exact gt_ri S hr hlocks trivial dX3_whyNot_83
        · replace hf := it_t c8 hf
          refine lv_iconst hx hb dX3_whyNot_41 kc_i4 ?_
          have hE := Option.some.inj hf
          subst hE
          exact gt_ri S hr hlocks trivial dX3_whyNot_42
      · replace hf := it_t c6 hf
        refine lv_iconst hx hb dX3_whyNot_30 kc_i3 ?_
        have hE := Option.some.inj hf
        subst hE
        exact gt_ri S hr hlocks trivial dX3_whyNot_31
    · replace hf := it_f c4 hf
      refine lv_iconst hx hb dX3_whyNot_20 kc_i2 ?_
      have hE := Option.some.inj hf
      subst hE
      exact gt_ri S hr hlocks trivial dX3_whyNot_21
  · replace hf := it_t c2 hf
    refine lv_iconst hx hb dX3_whyNot_8 kc_i1 ?_
    have hE := Option.some.inj hf
    subst hE
    exact gt_ri S hr hlocks trivial dX3_whyNot_9
set_option maxRecDepth 100000 in
theorem mc_X3_X3_whyNot {a0 : Int32} {a1 : Int32} {out : Int32} (S : CallFix p m c cc nL s args lw_all RX3) (hC : mC cl tys mi cI cJ cB) (hK : va_K D cl tys s) (hP : va_P D cl (mW mi cI cJ cB o ad th tp st fk fp ac si fr tt kd nu fa pl fo wd ci gr lm om nw rd aa kp ta nm rn gv gt rw rh lg lh ou) H) (hf : f_X3_whyNot nw a0 a1 = some out) (hsz : ls.size = nL) (hR : 3 + 1 ≤ R.frames ∧ 8 + (3 + 11) + 65 ≤ R.locals) (hW : (rest.map fun v => v.category).sum ≤ 8) (hcs : cells ≤ R.cells ∧ slots ≤ R.slots) (hdg : decode cc pc = .ok (.invokevirtual 256, 3)) (kk : True → W p l e R s m args below meth c H locs cells slots Q (F0 m (pc + 3) ls (.int out :: rest))) : W p l e R s m args below meth c H locs cells slots Q (F0 m pc ls (.int a1 :: .int a0 :: .ref o :: rest)) :=
  gc_Vr (As := [.int a0, .int a1]) S (mm_X3_whyNot hC hf) (cwV 2 S.2.2.2.2 (lw_V q2299 q2301 qs125 q189 q2302) rfl rfl rfl hd_X3_whyNot hR) (gPreV hK hP hC.1 (q0 := 0) rfl) rfl hsz rfl hW hdg hcs kk
theorem hd_X3_why : yX3_why.cls = RX3 ∧ yX3_why.cls ≠ "java/lang/invoke/MethodHandle" ∧ yX3_why.cls ≠ "java/lang/invoke/VarHandle" ∧ (parseMethodDescriptor yX3_why.desc).map (fun d => d.parameters.length) = some 2 := by decide +kernel
set_option maxHeartbeats 4000000 in
set_option maxRecDepth 100000 in
theorem mm_X3_why {a0 : Int32} {a1 : Int32} {out : Int32 × Int32 × Int32} (hC : mC cl tys mi cI cJ cB) (hD : mD o ad) (hf : f_X3_why nw th st a0 a1 = some out) : Met l yX3_why (ws_ yX3_why cX3_why 3 (some .int)) (rM 4 87) (gPc D cl tys [.ref o, .int a0, .int a1] (mW mi cI cJ cB o ad th tp st fk fp ac si fr tt kd nu fa pl fo wd ci gr lm om nw rd aa kp ta nm rn gv gt rw rh lg lh ou)) (gQ D cl (some (.int out.1)) True (mW mi cI cJ cB o ad out.2.1 tp out.2.2 fk fp ac si fr tt kd nu fa pl fo wd ci gr lm om nw rd aa kp ta nm rn gv gt rw rh lg lh ou) (mA o ad)) 0 0 (mA o ad) := by
  refine gGo (by decide +kernel) (Nat.le_of_ble_eq_true rfl) (fun p e s m below meth c ls S hr hlocks hK hP hl => ?_)
  have S : CallFix p m c cX3_why 3 s _ lw_all RX3 := S
  obtain ⟨hx, hb, hml, hown, hts⟩ := id S
  have hl : lv_has ls 3 [(0, .ref o), (1, .int a0), (2, .int a1)] := hl
  suffices hg : ∀ (H : Heap) (locs : List Loc), va_P D cl (mW mi cI cJ cB o ad th tp st fk fp ac si fr tt kd nu fa pl fo wd ci gr lm om nw rd aa kp ta nm rn gv gt rw rh lg lh ou) H → va_S (mA o ad) s.heap H locs → W p l e (rM 4 87) s m ([.ref o, .int a0, .int a1] : List Value).toArray below meth c H locs 0 0 (MQ below (gQ D cl (some (.int out.1)) True (mW mi cI cJ cB o ad out.2.1 tp out.2.2 fk fp ac si fr tt kd nu fa pl fo wd ci gr lm om nw rd aa kp ta nm rn gv gt rw rh lg lh ou) (mA o ad)) ([.ref o, .int a0, .int a1] : List Value).toArray s 0 0 (mA o ad)) (F0 m 0 ls []) from hg s.heap [] hP va_S.rf
  clear hP
  intro H locs hP hS
  rw [f_X3_why] at hf
  refine lv_aload_n hx hb dX3_why_0 rfl (lv_at hl 0 rfl) ?_
  refine lv_iload_n hx hb dX3_why_1 rfl (lv_at hl 1 rfl) ?_
  refine lv_iload_n hx hb dX3_why_2 rfl (lv_at hl 2 rfl) ?_
  obtain ⟨v1, hv1, hf⟩ := ob_s hf
  refine mc_X3_X3_areOnes S hC hK hP hv1 hl.1 ⟨Nat.le_of_ble_eq_true rfl, Nat.le_of_ble_eq_true rfl⟩ (Nat.le_of_ble_eq_true rfl) ⟨Nat.zero_le _, Nat.zero_le _⟩ dX3_why_3 (fun hnv1 => ?_)
  refine lv_if_eq (tgt := 22) hx hb dX3_why_6 (by decide) (fun c2 => ?_) (fun c2 => ?_)
  · replace hf := it_t c2 hf
    refine lv_aload_n hx hb dX3_why_22 rfl (lv_at hl 0 rfl) ?_
    refine lv_iconst hx hb dX3_why_23 kc_i2 ?_
    obtain ⟨v3, hv3, hf⟩ := ob_s hf
    refine mc_X3_X3_refuse S hC hD hK hP hS hv3 hl.1 ⟨Nat.le_of_ble_eq_true rfl, Nat.le_of_ble_eq_true rfl⟩ (Nat.le_of_ble_eq_true rfl) ⟨Nat.zero_le _, Nat.zero_le _⟩ dX3_why_24 (fun H locs _ hP hS => ?_)
    have hE := Option.some.inj hf
    subst hE
    exact gt_wi S hr hlocks trivial hP hS dX3_why_27
  · replace hf := it_f c2 hf
    refine lv_aload_n hx hb dX3_why_9 rfl (lv_at hl 0 rfl) ?_
    refine lv_aload_n hx hb dX3_why_10 rfl (lv_at hl 0 rfl) ?_
    refine lv_iload_n hx hb dX3_why_11 rfl (lv_at hl 1 rfl) ?_
    refine lv_iload_n hx hb dX3_why_12 rfl (lv_at hl 2 rfl) ?_
    obtain ⟨v4, hv4, hf⟩ := ob_s hf
    refine mc_X3_X3_whyNot S hC hK hP hv4 hl.1 ⟨Nat.le_of_ble_eq_true rfl, Nat.le_of_ble_eq_true rfl⟩ (Nat.le_of_ble_eq_true rfl) ⟨Nat.zero_le _, Nat.zero_le _⟩ dX3_why_13 (fun _ => ?_)
    obtain ⟨v5, hv5, hf⟩ := ob_s hf
    refine mc_X3_X3_gives S hC hD hK hP hS hv5 hl.1 ⟨Nat.le_of_ble_eq_true rfl, Nat.le_of_ble_eq_true rfl⟩ (Nat.le_of_ble_eq_true rfl) ⟨Nat.zero_le _, Nat.zero_le _⟩ dX3_why_16 (fun H locs _ hP hS => ?_)
    refine lv_goto (tgt := 27) hx hb dX3_why_19 (by decide) ?_
    have hE := Option.some.inj hf
    subst hE
    exact gt_wi S hr hlocks trivial hP hS dX3_why_27
theorem hd_X3_bids : yX3_bids.cls = RX3 ∧ yX3_bids.cls ≠ "java/lang/invoke/MethodHandle" ∧ yX3_bids.cls ≠ "java/lang/invoke/VarHandle" ∧ (parseMethodDescriptor yX3_bids.desc).map (fun d => d.parameters.length) = some 2 := by decide +kernel
set_option maxHeartbeats 4000000 in
set_option maxRecDepth 100000 in
theorem mm_X3_bids {a0 : Int32} {a1 : Int32} {out : Int32 × Int32 × Int32} (hC : mC cl tys mi cI cJ cB) (hD : mD o ad) (hf : f_X3_bids nw th st a0 a1 = some out) : Met l yX3_bids (ws_ yX3_bids cX3_bids 3 (some .int)) (rM 3 65) (gPc D cl tys [.ref o, .int a0, .int a1] (mW mi cI cJ cB o ad th tp st fk fp ac si fr tt kd nu fa pl fo wd ci gr lm om nw rd aa kp ta nm rn gv gt rw rh lg lh ou)) (gQ D cl (some (.int out.1)) True (mW mi cI cJ cB o ad out.2.1 tp out.2.2 fk fp ac si fr tt kd nu fa pl fo wd ci gr lm om nw rd aa kp ta nm rn gv gt rw rh lg lh ou) (mA o ad)) 0 0 (mA o ad) := by
  refine gGo (by decide +kernel) (Nat.le_of_ble_eq_true rfl) (fun p e s m below meth c ls S hr hlocks hK hP hl => ?_)
  have S : CallFix p m c cX3_bids 3 s _ lw_all RX3 := S
  obtain ⟨hx, hb, hml, hown, hts⟩ := id S
  have hl : lv_has ls 3 [(0, .ref o), (1, .int a0), (2, .int a1)] := hl
  have w24 : ∀ (y1 : Int32) (th : Int32) (st : Int32) (ls : Array Slot) (H : Heap) (locs : List Loc), va_P D cl (mW mi cI cJ cB o ad th tp st fk fp ac si fr tt kd nu fa pl fo wd ci gr lm om nw rd aa kp ta nm rn gv gt rw rh lg lh ou) H → va_S (mA o ad) s.heap H locs → lv_has ls 3 [] → f_X3_bids_24 nw y1 th st = some out → W p l e (rM 3 65) s m ([.ref o, .int a0, .int a1] : List Value).toArray below meth c H locs 0 0 (MQ below (gQ D cl (some (.int out.1)) True (mW mi cI cJ cB o ad out.2.1 tp out.2.2 fk fp ac si fr tt kd nu fa pl fo wd ci gr lm om nw rd aa kp ta nm rn gv gt rw rh lg lh ou) (mA o ad)) ([.ref o, .int a0, .int a1] : List Value).toArray s 0 0 (mA o ad)) (F0 m 24 ls [.int y1, .ref o]) := by
    intro y1 th st ls H locs hP hS hl hf
    rw [f_X3_bids_24] at hf
    obtain ⟨v1, hv1, hf⟩ := ob_s hf
    refine mc_X3_X3_gives S hC hD hK hP hS hv1 hl.1 ⟨Nat.le_of_ble_eq_true rfl, Nat.le_of_ble_eq_true rfl⟩ (Nat.le_of_ble_eq_true rfl) ⟨Nat.zero_le _, Nat.zero_le _⟩ dX3_bids_24 (fun H locs _ hP hS => ?_)
    refine lv_goto (tgt := 35) hx hb dX3_bids_27 (by decide) ?_
    have hE := Option.some.inj hf
    subst hE
    exact gt_wi S hr hlocks trivial hP hS dX3_bids_35
  suffices hg : ∀ (H : Heap) (locs : List Loc), va_P D cl (mW mi cI cJ cB o ad th tp st fk fp ac si fr tt kd nu fa pl fo wd ci gr lm om nw rd aa kp ta nm rn gv gt rw rh lg lh ou) H → va_S (mA o ad) s.heap H locs → W p l e (rM 3 65) s m ([.ref o, .int a0, .int a1] : List Value).toArray below meth c H locs 0 0 (MQ below (gQ D cl (some (.int out.1)) True (mW mi cI cJ cB o ad out.2.1 tp out.2.2 fk fp ac si fr tt kd nu fa pl fo wd ci gr lm om nw rd aa kp ta nm rn gv gt rw rh lg lh ou) (mA o ad)) ([.ref o, .int a0, .int a1] : List Value).toArray s 0 0 (mA o ad)) (F0 m 0 ls []) from hg s.heap [] hP va_S.rf
  clear hP
  intro H locs hP hS
  rw [f_X3_bids] at hf
  refine lv_aload_n hx hb dX3_bids_0 rfl (lv_at hl 0 rfl) ?_
  refine lv_iload_n hx hb dX3_bids_1 rfl (lv_at hl 1 rfl) ?_
  refine lv_iload_n hx hb dX3_bids_2 rfl (lv_at hl 2 rfl) ?_
  obtain ⟨v1, hv1, hf⟩ := ob_s hf
  refine mc_X3_X3_areOnes S hC hK hP hv1 hl.1 ⟨Nat.le_of_ble_eq_true rfl, Nat.le_of_ble_eq_true rfl⟩ (Nat.le_of_ble_eq_true rfl) ⟨Nat.zero_le _, Nat.zero_le _⟩ dX3_bids_3 (fun hnv1 => ?_)
  refine lv_if_eq (tgt := 30) hx hb dX3_bids_6 (by decide) (fun c2 => ?_) (fun c2 => ?_)
  · replace hf := it_t c2 hf
    refine lv_aload_n hx hb dX3_bids_30 rfl (lv_at hl 0 rfl) ?_
    refine lv_iconst hx hb dX3_bids_31 kc_i2 ?_
    obtain ⟨v3, hv3, hf⟩ := ob_s hf
    refine mc_X3_X3_refuse S hC hD hK hP hS hv3 hl.1 ⟨Nat.le_of_ble_eq_true rfl, Nat.le_of_ble_eq_true rfl⟩ (Nat.le_of_ble_eq_true rfl) ⟨Nat.zero_le _, Nat.zero_le _⟩ dX3_bids_32 (fun H locs _ hP hS => ?_)
    have hE := Option.some.inj hf
    subst hE
    exact gt_wi S hr hlocks trivial hP hS dX3_bids_35
  · replace hf := it_f c2 hf
    refine lv_aload_n hx hb dX3_bids_9 rfl (lv_at hl 0 rfl) ?_
    refine lv_aload_n hx hb dX3_bids_10 rfl (lv_at hl 0 rfl) ?_
    refine lv_iload_n hx hb dX3_bids_11 rfl (lv_at hl 1 rfl) ?_
    refine lv_iload_n hx hb dX3_bids_12 rfl (lv_at hl 2 rfl) ?_
    obtain ⟨v4, hv4, hf⟩ := ob_s hf
    refine mc_X3_X3_isBid S hC hK hP hv4 hl.1 ⟨Nat.le_of_ble_eq_true rfl, Nat.le_of_ble_eq_true rfl⟩ (Nat.le_of_ble_eq_true rfl) ⟨Nat.zero_le _, Nat.zero_le _⟩ dX3_bids_13 (fun hnv4 => ?_)
    refine lv_if_eq (tgt := 23) hx hb dX3_bids_16 (by decide) (fun c5 => ?_) (fun c5 => ?_)
    · replace hf := it_t c5 hf
      refine lv_iconst hx hb dX3_bids_23 kc_i0 ?_
      exact (w24) 0 th st ls H locs hP hS (lv_sub (l' := []) hl [] rfl) hf
    · replace hf := it_f c5 hf
      refine lv_iconst hx hb dX3_bids_19 kc_i1 ?_
      refine lv_goto (tgt := 24) hx hb dX3_bids_20 (by decide) ?_
      exact (w24) 1 th st ls H locs hP hS (lv_sub (l' := []) hl [] rfl) hf
theorem hd_X3_biddersOf : yX3_biddersOf.cls = RX3 ∧ yX3_biddersOf.cls ≠ "java/lang/invoke/MethodHandle" ∧ yX3_biddersOf.cls ≠ "java/lang/invoke/VarHandle" ∧ (parseMethodDescriptor yX3_biddersOf.desc).map (fun d => d.parameters.length) = some 1 := by decide +kernel
set_option maxHeartbeats 4000000 in
set_option maxRecDepth 100000 in
theorem mm_X3_biddersOf {a0 : Int32} {out : Int32} (hC : mC cl tys mi cI cJ cB) (hf : f_X3_biddersOf nw a0 = some out) : Met l yX3_biddersOf (ws_ yX3_biddersOf cX3_biddersOf 4 (some .int)) (rM 3 65) (gPc D cl tys [.ref o, .int a0] (mW mi cI cJ cB o ad th tp st fk fp ac si fr tt kd nu fa pl fo wd ci gr lm om nw rd aa kp ta nm rn gv gt rw rh lg lh ou)) (gR (some (.int out)) True) 0 0 (fun _ => False) := by
  refine gGo (by decide +kernel) (Nat.le_of_ble_eq_true rfl) (fun p e s m below meth c ls S hr hlocks hK hP hl => ?_)
  have S : CallFix p m c cX3_biddersOf 4 s _ lw_all RX3 := S
  obtain ⟨hx, hb, hml, hown, hts⟩ := id S
  have hl : lv_has ls 4 [(0, .ref o), (1, .int a0)] := hl
  have w4 : ∀ (n : Nat) , ∀ (x1 : Int32) (x2 : Int32) (x3 : Int32) (ls : Array Slot), lv_has ls 4 [(0, .ref o), (1, .int x1), (2, .int x2), (3, .int x3)] → f_X3_biddersOf_4 n nw x1 x2 x3 = some out → W p l e (rM 3 65) s m ([.ref o, .int a0] : List Value).toArray below meth c s.heap [] 0 0 (MQ below (gR (some (.int out)) True) ([.ref o, .int a0] : List Value).toArray s 0 0 (fun _ => False)) (F0 m 4 ls []) := by
    intro n
    induction n with
    | zero =>
      intro x1 x2 x3 ls hl hf
      exact absurd hf (by rw [f_X3_biddersOf_4]; exact nofun)
    | succ n ih =>
      intro x1 x2 x3 ls hl hf
      rw [f_X3_biddersOf_4] at hf
      refine lv_iload_n hx hb dX3_biddersOf_4 rfl (lv_at hl 3 rfl) ?_
      refine lv_aload_n hx hb dX3_biddersOf_5 rfl (lv_at hl 0 rfl) ?_
      refine mg_1 S hC hK hP dX3_biddersOf_6 ?_
      refine lv_sipush hx hb dX3_biddersOf_9 kc_s231 ?_
      refine ma_1 S hC hK hP kv_231_390 kn_231 dX3_biddersOf_12 ?_
      refine lv_icmp_ge (tgt := 41) hx hb dX3_biddersOf_13 (by decide) (fun c1 => ?_) (fun c1 => ?_)
      · replace hf := it_t c1 hf
        refine lv_iload_n hx hb dX3_biddersOf_41 rfl (lv_at hl 2 rfl) ?_
        have hE := Option.some.inj hf
        subst hE
        exact gt_ri S hr hlocks trivial dX3_biddersOf_42
      · replace hf := it_f c1 hf
        refine lv_iload_n hx hb dX3_biddersOf_16 rfl (lv_at hl 2 rfl) ?_
        refine lv_aload_n hx hb dX3_biddersOf_17 rfl (lv_at hl 0 rfl) ?_
        refine lv_iload_n hx hb dX3_biddersOf_18 rfl (lv_at hl 3 rfl) ?_
        refine lv_iload_n hx hb dX3_biddersOf_19 rfl (lv_at hl 1 rfl) ?_
        obtain ⟨v2, hv2, hf⟩ := ob_s hf
        refine mc_X3_X3_isBid S hC hK hP hv2 hl.1 ⟨Nat.le_of_ble_eq_true rfl, Nat.le_of_ble_eq_true rfl⟩ (Nat.le_of_ble_eq_true rfl) ⟨Nat.zero_le _, Nat.zero_le _⟩ dX3_biddersOf_20 (fun hnv2 => ?_)
        refine lv_if_eq (tgt := 32) hx hb dX3_biddersOf_23 (by decide) (fun c3 => ?_) (fun c3 => ?_)
        · replace hf := it_t c3 hf
          refine lv_iconst hx hb dX3_biddersOf_32 kc_i0 ?_
          refine lv_ior hx hb dX3_biddersOf_33 ?_
          refine lv_istore_n (i := 2) (lv' := [(2, .int (x2 ||| 0)), (0, .ref o), (1, .int x1), (3, .int x3)]) hx hb dX3_biddersOf_34 rfl hl (by decide) rfl (fun ls hl => ?_)
          refine lv_iinc (v := (x3 + 1)) (lv' := [(3, .int (x3 + 1)), (2, .int (x2 ||| 0)), (0, .ref o), (1, .int x1)]) hx hb dX3_biddersOf_35 hl (k := 3) rfl rfl (by decide) rfl (fun ls hl => ?_)
          refine lv_goto (tgt := 4) hx hb dX3_biddersOf_38 (by decide) ?_
          exact (ih) x1 (x2 ||| 0) (x3 + 1) ls (lv_sub (l' := [(0, .ref o), (1, .int x1), (2, .int (x2 ||| 0)), (3, .int (x3 + 1))]) hl [2, 3, 1, 0] rfl) hf
        · replace hf := it_f c3 hf
          refine lv_iconst hx hb dX3_biddersOf_26 kc_i1 ?_
          refine lv_iload_n hx hb dX3_biddersOf_27 rfl (lv_at hl 3 rfl) ?_
          refine lv_ishl hx hb dX3_biddersOf_28 ?_
          refine lv_goto (tgt := 33) hx hb dX3_biddersOf_29 (by decide) ?_
          refine lv_ior hx hb dX3_biddersOf_33 ?_
          refine lv_istore_n (i := 2) (lv' := [(2, .int (x2 ||| (1 <<< (x3 &&& 31)))), (0, .ref o), (1, .int x1), (3, .int x3)]) hx hb dX3_biddersOf_34 rfl hl (by decide) rfl (fun ls hl => ?_)
          refine lv_iinc (v := (x3 + 1)) (lv' := [(3, .int (x3 + 1)), (2, .int (x2 ||| (1 <<< (x3 &&& 31)))), (0, .ref o), (1, .int x1)]) hx hb dX3_biddersOf_35 hl (k := 3) rfl rfl (by decide) rfl (fun ls hl => ?_)
          refine lv_goto (tgt := 4) hx hb dX3_biddersOf_38 (by decide) ?_
          exact (ih) x1 (x2 ||| (1 <<< (x3 &&& 31))) (x3 + 1) ls (lv_sub (l' := [(0, .ref o), (1, .int x1), (2, .int (x2 ||| (1 <<< (x3 &&& 31)))), (3, .int (x3 + 1))]) hl [2, 3, 1, 0] rfl) hf
  rw [f_X3_biddersOf] at hf
  refine lv_iconst hx hb dX3_biddersOf_0 kc_i0 ?_
  refine lv_istore_n (i := 2) (lv' := [(2, .int 0), (0, .ref o), (1, .int a0)]) hx hb dX3_biddersOf_1 rfl hl (by decide) rfl (fun ls hl => ?_)
  refine lv_iconst hx hb dX3_biddersOf_2 kc_i0 ?_
  refine lv_istore_n (i := 3) (lv' := [(3, .int 0), (2, .int 0), (0, .ref o), (1, .int a0)]) hx hb dX3_biddersOf_3 rfl hl (by decide) rfl (fun ls hl => ?_)
  exact (w4 FU) a0 0 0 ls (lv_sub (l' := [(0, .ref o), (1, .int a0), (2, .int 0), (3, .int 0)]) hl [2, 3, 1, 0] rfl) hf
set_option maxRecDepth 100000 in
theorem mc_X3_X3_biddersOf {a0 : Int32} {out : Int32} (S : CallFix p m c cc nL s args lw_all RX3) (hC : mC cl tys mi cI cJ cB) (hK : va_K D cl tys s) (hP : va_P D cl (mW mi cI cJ cB o ad th tp st fk fp ac si fr tt kd nu fa pl fo wd ci gr lm om nw rd aa kp ta nm rn gv gt rw rh lg lh ou) H) (hf : f_X3_biddersOf nw a0 = some out) (hsz : ls.size = nL) (hR : 3 + 1 ≤ R.frames ∧ 8 + (4 + 11) + 65 ≤ R.locals) (hW : (rest.map fun v => v.category).sum ≤ 8) (hcs : cells ≤ R.cells ∧ slots ≤ R.slots) (hdg : decode cc pc = .ok (.invokevirtual 277, 3)) (kk : True → W p l e R s m args below meth c H locs cells slots Q (F0 m (pc + 3) ls (.int out :: rest))) : W p l e R s m args below meth c H locs cells slots Q (F0 m pc ls (.int a0 :: .ref o :: rest)) :=
  gc_Vr (As := [.int a0]) S (mm_X3_biddersOf hC hf) (cwV 1 S.2.2.2.2 (lw_V q2315 q2317 qs127 q189 q2318) rfl rfl rfl hd_X3_biddersOf hR) (gPreV hK hP hC.1 (q0 := 0) rfl) rfl hsz rfl hW hdg hcs kk
end
