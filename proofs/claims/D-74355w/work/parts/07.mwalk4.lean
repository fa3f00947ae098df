section
variable {l : Launch} {D : va_G} {cl : List vw_C} {tys : List (ClassId × FieldType)} {mi : Nat} {cI cJ cB : ClassId} {o : Nat} {ad : Nat → Nat} {th : Int32} {tp : Int32} {st : Int32} {fk : Int32} {fp : Int32} {ac : Int32} {si : Int32} {fr : Int32} {tt : Int32} {kd : Int32} {nu : Int32} {fa : Int32} {pl : Int32} {fo : Int32} {wd : Int64} {ci : Int32} {gr : Int32} {lm : Int32} {om : Int32} {nw : (Nat → Int32)} {rd : (Nat → Int32)} {aa : (Nat → Int32)} {kp : (Nat → Int32)} {ta : (Nat → Int32)} {nm : (Nat → Int64)} {rn : (Nat → Int64)} {gv : (Nat → Int32)} {gt : (Nat → Int32)} {rw : (Nat → Int32)} {rh : (Nat → Int32)} {lg : (Nat → Int32)} {lh : (Nat → Int32)} {ou : (Nat → Int32)}
variable {p : Program} {e : Env} {R : Room} {s : State} {m : MethodId} {args : Array Value} {below : List Frame} {meth : Method} {c : Code} {H H0 : Heap} {locs : List Loc} {cells slots : Nat} {Q : State → Prop} {cc : ByteArray} {nL pc : Nat} {ls : Array Slot} {rest : List Value}
theorem hd_X3_refuses : yX3_refuses.cls = RX3 ∧ yX3_refuses.cls ≠ "java/lang/invoke/MethodHandle" ∧ yX3_refuses.cls ≠ "java/lang/invoke/VarHandle" ∧ (parseMethodDescriptor yX3_refuses.desc).map (fun d => d.parameters.length) = some 1 := by decide +kernel
set_option maxHeartbeats 4000000 in
set_option maxRecDepth 100000 in
theorem mm_X3_refuses {a0 : Int32} {out : (Nat → Int32)} (hC : mC cl tys mi cI cJ cB) (hD : mD o ad) (hf : f_X3_refuses nw a0 = some out) : Met l yX3_refuses (ws_ yX3_refuses cX3_refuses 2 none) (rM 2 44) (gPc D cl tys [.ref o, .int a0] (mW mi cI cJ cB o ad th tp st fk fp ac si fr tt kd nu fa pl fo wd ci gr lm om nw rd aa kp ta nm rn gv gt rw rh lg lh ou)) (gQ D cl none True (mW mi cI cJ cB o ad th tp st fk fp ac si fr tt kd nu fa pl fo wd ci gr lm om out rd aa kp ta nm rn gv gt rw rh lg lh ou) (mA o ad)) 0 0 (mA o ad) := by
  refine gGo (by decide +kernel) (Nat.le_of_ble_eq_true rfl) (fun p e s m below meth c ls S hr hlocks hK hP hl => ?_)
  have S : CallFix p m c cX3_refuses 2 s _ lw_all RX3 := S
  obtain ⟨hx, hb, hml, hown, hts⟩ := id S
  have hl : lv_has ls 2 [(0, .ref o), (1, .int a0)] := hl
  suffices hg : ∀ (H : Heap) (locs : List Loc), va_P D cl (mW mi cI cJ cB o ad th tp st fk fp ac si fr tt kd nu fa pl fo wd ci gr lm om nw rd aa kp ta nm rn gv gt rw rh lg lh ou) H → va_S (mA o ad) s.heap H locs → W p l e (rM 2 44) s m ([.ref o, .int a0] : List Value).toArray below meth c H locs 0 0 (MQ below (gQ D cl none True (mW mi cI cJ cB o ad th tp st fk fp ac si fr tt kd nu fa pl fo wd ci gr lm om out rd aa kp ta nm rn gv gt rw rh lg lh ou) (mA o ad)) ([.ref o, .int a0] : List Value).toArray s 0 0 (mA o ad)) (F0 m 0 ls []) from hg s.heap [] hP va_S.rf
  clear hP
  intro H locs hP hS
  rw [f_X3_refuses] at hf
  refine lv_aload_n hx hb dX3_refuses_0 rfl (lv_at hl 0 rfl) ?_
  refine lv_iload_n hx hb dX3_refuses_1 rfl (lv_at hl 1 rfl) ?_
  refine lv_iconst hx hb dX3_refuses_2 kc_i5 ?_
  refine lv_aload_n hx hb dX3_refuses_3 rfl (lv_at hl 0 rfl) ?_
  refine lv_iload_n hx hb dX3_refuses_4 rfl (lv_at hl 1 rfl) ?_
  refine lv_iconst hx hb dX3_refuses_5 kc_i5 ?_
  obtain ⟨v1, hv1, hf⟩ := ob_s hf
  refine mc_X3_X3_of S hC hK hP hv1 hl.1 ⟨Nat.le_of_ble_eq_true rfl, Nat.le_of_ble_eq_true rfl⟩ (Nat.le_of_ble_eq_true rfl) ⟨Nat.zero_le _, Nat.zero_le _⟩ dX3_refuses_6 (fun _ => ?_)
  refine lv_iconst hx hb dX3_refuses_9 kc_i1 ?_
  refine lv_iadd hx hb dX3_refuses_10 ?_
  obtain ⟨v2, hv2, hf⟩ := ob_s hf
  refine mc_X3_X3_puts S hC hD hK hP hS hv2 hl.1 ⟨Nat.le_of_ble_eq_true rfl, Nat.le_of_ble_eq_true rfl⟩ (Nat.le_of_ble_eq_true rfl) ⟨Nat.zero_le _, Nat.zero_le _⟩ dX3_refuses_11 (fun H locs _ hP hS => ?_)
  refine lv_aload_n hx hb dX3_refuses_14 rfl (lv_at hl 0 rfl) ?_
  refine mg_1 S hC hK hP dX3_refuses_15 ?_
  refine lv_sipush hx hb dX3_refuses_18 kc_s298 ?_
  refine lv_dup2_11 hx hb dX3_refuses_21 rfl rfl ?_
  refine ma_1 S hC hK hP kv_298_390 kn_298 dX3_refuses_22 ?_
  refine lv_iconst hx hb dX3_refuses_23 kc_i1 ?_
  refine lv_iadd hx hb dX3_refuses_24 ?_
  refine ms_1 S hC hD hK hP hS kv_298_390 kn_298 dX3_refuses_25 (fun H locs hP hS => ?_)
  refine lv_aload_n hx hb dX3_refuses_26 rfl (lv_at hl 0 rfl) ?_
  refine lv_iload_n hx hb dX3_refuses_27 rfl (lv_at hl 1 rfl) ?_
  refine lv_iconst hx hb dX3_refuses_28 kc_i5 ?_
  obtain ⟨v3, hv3, hf⟩ := ob_s hf
  refine mc_X3_X3_of S hC hK hP hv3 hl.1 ⟨Nat.le_of_ble_eq_true rfl, Nat.le_of_ble_eq_true rfl⟩ (Nat.le_of_ble_eq_true rfl) ⟨Nat.zero_le _, Nat.zero_le _⟩ dX3_refuses_29 (fun _ => ?_)
  refine lv_aload_n hx hb dX3_refuses_32 rfl (lv_at hl 0 rfl) ?_
  refine mg_1 S hC hK hP dX3_refuses_33 ?_
  refine lv_sipush hx hb dX3_refuses_36 kc_s224 ?_
  refine ma_1 S hC hK hP kv_224_390 kn_224 dX3_refuses_39 ?_
  refine lv_icmp_ge (tgt := 44) hx hb dX3_refuses_40 (by decide) (fun c4 => ?_) (fun c4 => ?_)
  · replace hf := it_t c4 hf
    refine lv_aload_n hx hb dX3_refuses_44 rfl (lv_at hl 0 rfl) ?_
    refine lv_iload_n hx hb dX3_refuses_45 rfl (lv_at hl 1 rfl) ?_
    refine lv_iconst hx hb dX3_refuses_46 kc_i5 ?_
    refine lv_iconst hx hb dX3_refuses_47 kc_i0 ?_
    obtain ⟨v5, hv5, hf⟩ := ob_s hf
    refine mc_X3_X3_puts S hC hD hK hP hS hv5 hl.1 ⟨Nat.le_of_ble_eq_true rfl, Nat.le_of_ble_eq_true rfl⟩ (Nat.le_of_ble_eq_true rfl) ⟨Nat.zero_le _, Nat.zero_le _⟩ dX3_refuses_48 (fun H locs _ hP hS => ?_)
    refine lv_aload_n hx hb dX3_refuses_51 rfl (lv_at hl 0 rfl) ?_
    refine lv_iload_n hx hb dX3_refuses_52 rfl (lv_at hl 1 rfl) ?_
    refine lv_bipush hx hb dX3_refuses_53 kc_b6 ?_
    refine lv_aload_n hx hb dX3_refuses_55 rfl (lv_at hl 0 rfl) ?_
    refine mg_1 S hC hK hP dX3_refuses_56 ?_
    refine lv_sipush hx hb dX3_refuses_59 kc_s225 ?_
    refine ma_1 S hC hK hP kv_225_390 kn_225 dX3_refuses_62 ?_
    obtain ⟨v6, hv6, hf⟩ := ob_s hf
    refine mc_X3_X3_puts S hC hD hK hP hS hv6 hl.1 ⟨Nat.le_of_ble_eq_true rfl, Nat.le_of_ble_eq_true rfl⟩ (Nat.le_of_ble_eq_true rfl) ⟨Nat.zero_le _, Nat.zero_le _⟩ dX3_refuses_63 (fun H locs _ hP hS => ?_)
    refine lv_aload_n hx hb dX3_refuses_66 rfl (lv_at hl 0 rfl) ?_
    refine lv_iload_n hx hb dX3_refuses_67 rfl (lv_at hl 1 rfl) ?_
    refine lv_bipush hx hb dX3_refuses_68 kc_b7 ?_
    refine lv_iconst hx hb dX3_refuses_70 kc_i1 ?_
    obtain ⟨v7, hv7, hf⟩ := ob_s hf
    refine mc_X3_X3_puts S hC hD hK hP hS hv7 hl.1 ⟨Nat.le_of_ble_eq_true rfl, Nat.le_of_ble_eq_true rfl⟩ (Nat.le_of_ble_eq_true rfl) ⟨Nat.zero_le _, Nat.zero_le _⟩ dX3_refuses_71 (fun H locs _ hP hS => ?_)
    have hE := Option.some.inj hf
    subst hE
    exact gt_wv S hr hlocks trivial hP hS dX3_refuses_74
  · replace hf := it_f c4 hf
    have hE := Option.some.inj hf
    subst hE
    exact gt_wv S hr hlocks trivial hP hS dX3_refuses_43
set_option maxRecDepth 100000 in
theorem mc_X3_X3_refuses {a0 : Int32} {out : (Nat → Int32)} (S : CallFix p m c cc nL s args lw_all RX3) (hC : mC cl tys mi cI cJ cB) (hD : mD o ad) (hK : va_K D cl tys s) (hP : va_P D cl (mW mi cI cJ cB o ad th tp st fk fp ac si fr tt kd nu fa pl fo wd ci gr lm om nw rd aa kp ta nm rn gv gt rw rh lg lh ou) H) (hS : va_S (mA o ad) H0 H locs) (hf : f_X3_refuses nw a0 = some out) (hsz : ls.size = nL) (hR : 2 + 1 ≤ R.frames ∧ 8 + (2 + 11) + 44 ≤ R.locals) (hW : (rest.map fun v => v.category).sum ≤ 8) (hcs : cells ≤ R.cells ∧ slots ≤ R.slots) (hdg : decode cc pc = .ok (.invokevirtual 310, 3)) (kk : ∀ (H1 : Heap) (locs1 : List Loc), True → va_P D cl (mW mi cI cJ cB o ad th tp st fk fp ac si fr tt kd nu fa pl fo wd ci gr lm om out rd aa kp ta nm rn gv gt rw rh lg lh ou) H1 → va_S (mA o ad) H0 H1 locs1 → W p l e R s m args below meth c H1 locs1 cells slots Q (F0 m (pc + 3) ls (rest))) : W p l e R s m args below meth c H locs cells slots Q (F0 m pc ls (.int a0 :: .ref o :: rest)) :=
  gc_Vv (As := [.int a0]) S (mm_X3_refuses hC hD hf) (cwV 1 S.2.2.2.2 (lw_V q2443 q2445 qs151 q189 q2446) rfl rfl rfl hd_X3_refuses hR) (gPreV hK hP hC.1 (q0 := 0) rfl) rfl hsz rfl hW hdg hcs hS kk
theorem hd_X3_putsHome : yX3_putsHome.cls = RX3 ∧ yX3_putsHome.cls ≠ "java/lang/invoke/MethodHandle" ∧ yX3_putsHome.cls ≠ "java/lang/invoke/VarHandle" ∧ (parseMethodDescriptor yX3_putsHome.desc).map (fun d => d.parameters.length) = some 3 := by decide +kernel
set_option maxHeartbeats 4000000 in
set_option maxRecDepth 100000 in
theorem mm_X3_putsHome {a0 : Int32} {a1 : Int32} {a2 : Int32} {out : (Nat → Int32)} (hC : mC cl tys mi cI cJ cB) (hD : mD o ad) (hf : f_X3_putsHome nw a0 a1 a2 = some out) : Met l yX3_putsHome (ws_ yX3_putsHome cX3_putsHome 4 none) (rM 0 0) (gPc D cl tys [.ref o, .int a0, .int a1, .int a2] (mW mi cI cJ cB o ad th tp st fk fp ac si fr tt kd nu fa pl fo wd ci gr lm om nw rd aa kp ta nm rn gv gt rw rh lg lh ou)) (gQ D cl none True (mW mi cI cJ cB o ad th tp st fk fp ac si fr tt kd nu fa pl fo wd ci gr lm om out rd aa kp ta nm rn gv gt rw rh lg lh ou) (mA o ad)) 0 0 (mA o ad) := by
  refine gGo (by decide +kernel) (Nat.le_of_ble_eq_true rfl) (fun p e s m below meth c ls S hr hlocks hK hP hl => ?_)
  have S : CallFix p m c cX3_putsHome 4 s _ lw_all RX3 := S
  obtain ⟨hx, hb, hml, hown, hts⟩ := id S
  have hl : lv_has ls 4 [(0, .ref o), (1, .int a0), (2, .int a1), (3, .int a2)] := hl
  suffices hg : ∀ (H : Heap) (locs : List Loc), va_P D cl (mW mi cI cJ cB o ad th tp st fk fp ac si fr tt kd nu fa pl fo wd ci gr lm om nw rd aa kp ta nm rn gv gt rw rh lg lh ou) H → va_S (mA o ad) s.heap H locs → W p l e (rM 0 0) s m ([.ref o, .int a0, .int a1, .int a2] : List Value).toArray below meth c H locs 0 0 (MQ below (gQ D cl none True (mW mi cI cJ cB o ad th tp st fk fp ac si fr tt kd nu fa pl fo wd ci gr lm om out rd aa kp ta nm rn gv gt rw rh lg lh ou) (mA o ad)) ([.ref o, .int a0, .int a1, .int a2] : List Value).toArray s 0 0 (mA o ad)) (F0 m 0 ls []) from hg s.heap [] hP va_S.rf
  clear hP
  intro H locs hP hS
  rw [f_X3_putsHome] at hf
  refine lv_aload_n hx hb dX3_putsHome_0 rfl (lv_at hl 0 rfl) ?_
  refine mg_1 S hC hK hP dX3_putsHome_1 ?_
  refine lv_bipush hx hb dX3_putsHome_4 kc_b8 ?_
  refine lv_iload_n hx hb dX3_putsHome_6 rfl (lv_at hl 1 rfl) ?_
  refine lv_imul hx hb dX3_putsHome_7 ?_
  refine lv_iload_n hx hb dX3_putsHome_8 rfl (lv_at hl 2 rfl) ?_
  refine lv_iadd hx hb dX3_putsHome_9 ?_
  refine lv_iload_n hx hb dX3_putsHome_10 rfl (lv_at hl 3 rfl) ?_
  obtain ⟨g1, hf⟩ := gd_t hf
  refine ms_1 S hC hD hK hP hS (inR_vp g1) rfl dX3_putsHome_11 (fun H locs hP hS => ?_)
  have hE := Option.some.inj hf
  subst hE
  exact gt_wv S hr hlocks trivial hP hS dX3_putsHome_12
set_option maxRecDepth 100000 in
theorem mc_X3_X3_putsHome {a0 : Int32} {a1 : Int32} {a2 : Int32} {out : (Nat → Int32)} (S : CallFix p m c cc nL s args lw_all RX3) (hC : mC cl tys mi cI cJ cB) (hD : mD o ad) (hK : va_K D cl tys s) (hP : va_P D cl (mW mi cI cJ cB o ad th tp st fk fp ac si fr tt kd nu fa pl fo wd ci gr lm om nw rd aa kp ta nm rn gv gt rw rh lg lh ou) H) (hS : va_S (mA o ad) H0 H locs) (hf : f_X3_putsHome nw a0 a1 a2 = some out) (hsz : ls.size = nL) (hR : 0 + 1 ≤ R.frames ∧ 8 + (4 + 11) + 0 ≤ R.locals) (hW : (rest.map fun v => v.category).sum ≤ 8) (hcs : cells ≤ R.cells ∧ slots ≤ R.slots) (hdg : decode cc pc = .ok (.invokevirtual 293, 3)) (kk : ∀ (H1 : Heap) (locs1 : List Loc), True → va_P D cl (mW mi cI cJ cB o ad th tp st fk fp ac si fr tt kd nu fa pl fo wd ci gr lm om out rd aa kp ta nm rn gv gt rw rh lg lh ou) H1 → va_S (mA o ad) H0 H1 locs1 → W p l e R s m args below meth c H1 locs1 cells slots Q (F0 m (pc + 3) ls (rest))) : W p l e R s m args below meth c H locs cells slots Q (F0 m pc ls (.int a2 :: .int a1 :: .int a0 :: .ref o :: rest)) :=
  gc_Vv (As := [.int a0, .int a1, .int a2]) S (mm_X3_putsHome hC hD hf) (cwV 3 S.2.2.2.2 (lw_V q2435 q2437 qs149 q189 q2438) rfl rfl rfl hd_X3_putsHome hR) (gPreV hK hP hC.1 (q0 := 0) rfl) rfl hsz rfl hW hdg hcs hS kk
theorem hd_X3_leaves : yX3_leaves.cls = RX3 ∧ yX3_leaves.cls ≠ "java/lang/invoke/MethodHandle" ∧ yX3_leaves.cls ≠ "java/lang/invoke/VarHandle" ∧ (parseMethodDescriptor yX3_leaves.desc).map (fun d => d.parameters.length) = some 2 := by decide +kernel
set_option maxHeartbeats 4000000 in
set_option maxRecDepth 100000 in
theorem mm_X3_leaves {a0 : Int32} {a1 : Int32} {out : (Nat → Int32)} (hC : mC cl tys mi cI cJ cB) (hD : mD o ad) (hf : f_X3_leaves nw a0 a1 = some out) : Met l yX3_leaves (ws_ yX3_leaves cX3_leaves 3 none) (rM 1 23) (gPc D cl tys [.ref o, .int a0, .int a1] (mW mi cI cJ cB o ad th tp st fk fp ac si fr tt kd nu fa pl fo wd ci gr lm om nw rd aa kp ta nm rn gv gt rw rh lg lh ou)) (gQ D cl none True (mW mi cI cJ cB o ad th tp st fk fp ac si fr tt kd nu fa pl fo wd ci gr lm om out rd aa kp ta nm rn gv gt rw rh lg lh ou) (mA o ad)) 0 0 (mA o ad) := by
  refine gGo (by decide +kernel) (Nat.le_of_ble_eq_true rfl) (fun p e s m below meth c ls S hr hlocks hK hP hl => ?_)
  have S : CallFix p m c cX3_leaves 3 s _ lw_all RX3 := S
  obtain ⟨hx, hb, hml, hown, hts⟩ := id S
  have hl : lv_has ls 3 [(0, .ref o), (1, .int a0), (2, .int a1)] := hl
  suffices hg : ∀ (H : Heap) (locs : List Loc), va_P D cl (mW mi cI cJ cB o ad th tp st fk fp ac si fr tt kd nu fa pl fo wd ci gr lm om nw rd aa kp ta nm rn gv gt rw rh lg lh ou) H → va_S (mA o ad) s.heap H locs → W p l e (rM 1 23) s m ([.ref o, .int a0, .int a1] : List Value).toArray below meth c H locs 0 0 (MQ below (gQ D cl none True (mW mi cI cJ cB o ad th tp st fk fp ac si fr tt kd nu fa pl fo wd ci gr lm om out rd aa kp ta nm rn gv gt rw rh lg lh ou) (mA o ad)) ([.ref o, .int a0, .int a1] : List Value).toArray s 0 0 (mA o ad)) (F0 m 0 ls []) from hg s.heap [] hP va_S.rf
  clear hP
  intro H locs hP hS
  rw [f_X3_leaves] at hf
  refine lv_aload_n hx hb dX3_leaves_0 rfl (lv_at hl 0 rfl) ?_
  refine lv_iload_n hx hb dX3_leaves_1 rfl (lv_at hl 1 rfl) ?_
  refine lv_iconst hx hb dX3_leaves_2 kc_i2 ?_
  refine lv_iconst hx hb dX3_leaves_3 kc_im1 ?_
  obtain ⟨v1, hv1, hf⟩ := ob_s hf
  refine mc_X3_X3_putsHome S hC hD hK hP hS hv1 hl.1 ⟨Nat.le_of_ble_eq_true rfl, Nat.le_of_ble_eq_true rfl⟩ (Nat.le_of_ble_eq_true rfl) ⟨Nat.zero_le _, Nat.zero_le _⟩ dX3_leaves_4 (fun H locs _ hP hS => ?_)
  refine lv_aload_n hx hb dX3_leaves_7 rfl (lv_at hl 0 rfl) ?_
  refine lv_iload_n hx hb dX3_leaves_8 rfl (lv_at hl 1 rfl) ?_
  refine lv_iconst hx hb dX3_leaves_9 kc_i3 ?_
  refine lv_iconst hx hb dX3_leaves_10 kc_i1 ?_
  obtain ⟨v2, hv2, hf⟩ := ob_s hf
  refine mc_X3_X3_putsHome S hC hD hK hP hS hv2 hl.1 ⟨Nat.le_of_ble_eq_true rfl, Nat.le_of_ble_eq_true rfl⟩ (Nat.le_of_ble_eq_true rfl) ⟨Nat.zero_le _, Nat.zero_le _⟩ dX3_leaves_11 (fun H locs _ hP hS => ?_)
  refine lv_aload_n hx hb dX3_leaves_14 rfl (lv_at hl 0 rfl) ?_
  refine lv_iload_n hx hb dX3_leaves_15 rfl (lv_at hl 1 rfl) ?_
  refine lv_iconst hx hb dX3_leaves_16 kc_i5 ?_
  refine lv_iload_n hx hb dX3_leaves_17 rfl (lv_at hl 2 rfl) ?_
  obtain ⟨v3, hv3, hf⟩ := ob_s hf
  refine mc_X3_X3_putsHome S hC hD hK hP hS hv3 hl.1 ⟨Nat.le_of_ble_eq_true rfl, Nat.le_of_ble_eq_true rfl⟩ (Nat.le_of_ble_eq_true rfl) ⟨Nat.zero_le _, Nat.zero_le _⟩ dX3_leaves_18 (fun H locs _ hP hS => ?_)
  have hE := Option.some.inj hf
  subst hE
  exact gt_wv S hr hlocks trivial hP hS dX3_leaves_21
set_option maxRecDepth 100000 in
theorem mc_X3_X3_leaves {a0 : Int32} {a1 : Int32} {out : (Nat → Int32)} (S : CallFix p m c cc nL s args lw_all RX3) (hC : mC cl tys mi cI cJ cB) (hD : mD o ad) (hK : va_K D cl tys s) (hP : va_P D cl (mW mi cI cJ cB o ad th tp st fk fp ac si fr tt kd nu fa pl fo wd ci gr lm om nw rd aa kp ta nm rn gv gt rw rh lg lh ou) H) (hS : va_S (mA o ad) H0 H locs) (hf : f_X3_leaves nw a0 a1 = some out) (hsz : ls.size = nL) (hR : 1 + 1 ≤ R.frames ∧ 8 + (3 + 11) + 23 ≤ R.locals) (hW : (rest.map fun v => v.category).sum ≤ 8) (hcs : cells ≤ R.cells ∧ slots ≤ R.slots) (hdg : decode cc pc = .ok (.invokevirtual 296, 3)) (kk : ∀ (H1 : Heap) (locs1 : List Loc), True → va_P D cl (mW mi cI cJ cB o ad th tp st fk fp ac si fr tt kd nu fa pl fo wd ci gr lm om out rd aa kp ta nm rn gv gt rw rh lg lh ou) H1 → va_S (mA o ad) H0 H1 locs1 → W p l e R s m args below meth c H1 locs1 cells slots Q (F0 m (pc + 3) ls (rest))) : W p l e R s m args below meth c H locs cells slots Q (F0 m pc ls (.int a1 :: .int a0 :: .ref o :: rest)) :=
  gc_Vv (As := [.int a0, .int a1]) S (mm_X3_leaves hC hD hf) (cwV 2 S.2.2.2.2 (lw_V q2439 q2441 qs150 q189 q2442) rfl rfl rfl hd_X3_leaves hR) (gPreV hK hP hC.1 (q0 := 0) rfl) rfl hsz rfl hW hdg hcs hS kk
theorem hd_X3_takes : yX3_takes.cls = RX3 ∧ yX3_takes.cls ≠ "java/lang/invoke/MethodHandle" ∧ yX3_takes.cls ≠ "java/lang/invoke/VarHandle" ∧ (parseMethodDescriptor yX3_takes.desc).map (fun d => d.parameters.length) = some 3 := by decide +kernel
set_option maxHeartbeats 4000000 in
set_option maxRecDepth 100000 in
theorem mm_X3_takes {a0 : Int32} {a1 : Int32} {a2 : Int32} {out : (Nat → Int32)} (hC : mC cl tys mi cI cJ cB) (hD : mD o ad) (hf : f_X3_takes nw a0 a1 a2 = some out) : Met l yX3_takes (ws_ yX3_takes cX3_takes 8 none) (rM 4 85) (gPc D cl tys [.ref o, .int a0, .int a1, .int a2] (mW mi cI cJ cB o ad th tp st fk fp ac si fr tt kd nu fa pl fo wd ci gr lm om nw rd aa kp ta nm rn gv gt rw rh lg lh ou)) (gQ D cl none True (mW mi cI cJ cB o ad th tp st fk fp ac si fr tt kd nu fa pl fo wd ci gr lm om out rd aa kp ta nm rn gv gt rw rh lg lh ou) (mA o ad)) 0 0 (mA o ad) := by
  refine gGo (by decide +kernel) (Nat.le_of_ble_eq_true rfl) (fun p e s m below meth c ls S hr hlocks hK hP hl => ?_)
  have S : CallFix p m c cX3_takes 8 s _ lw_all RX3 := S
  obtain ⟨hx, hb, hml, hown, hts⟩ := id S
  have hl : lv_has ls 8 [(0, .ref o), (1, .int a0), (2, .int a1), (3, .int a2)] := hl
  have w165 : ∀ (n : Nat) , ∀ (x1 : Int32) (x2 : Int32) (x4 : Int32) (x5 : Int32) (x6 : Int32) (x7 : Int32) (nw : (Nat → Int32)) (ls : Array Slot) (H : Heap) (locs : List Loc), va_P D cl (mW mi cI cJ cB o ad th tp st fk fp ac si fr tt kd nu fa pl fo wd ci gr lm om nw rd aa kp ta nm rn gv gt rw rh lg lh ou) H → va_S (mA o ad) s.heap H locs → lv_has ls 8 [(0, .ref o), (1, .int x1), (2, .int x2), (4, .int x4), (5, .int x5), (6, .int x6), (7, .int x7)] → f_X3_takes_165 n x1 x2 x4 x5 x6 x7 nw = some out → W p l e (rM 4 85) s m ([.ref o, .int a0, .int a1, .int a2] : List Value).toArray below meth c H locs 0 0 (MQ below (gQ D cl none True (mW mi cI cJ cB o ad th tp st fk fp ac si fr tt kd nu fa pl fo wd ci gr lm om out rd aa kp ta nm rn gv gt rw rh lg lh ou) (mA o ad)) ([.ref o, .int a0, .int a1, .int a2] : List Value).toArray s 0 0 (mA o ad)) (F0 m 165 ls []) := by
    intro n
    induction n with
    | zero =>
      intro x1 x2 x4 x5 x6 x7 nw ls H locs hP hS hl hf
      exact absurd hf (by rw [f_X3_takes_165]; exact nofun)
    | succ n ih =>
      intro x1 x2 x4 x5 x6 x7 nw ls H locs hP hS hl hf
      rw [f_X3_takes_165] at hf
      refine lv_iload hx hb dX3_takes_165 (lv_at hl 6 rfl) ?_
      refine lv_aload_n hx hb dX3_takes_167 rfl (lv_at hl 0 rfl) ?_
      refine mg_1 S hC hK hP dX3_takes_168 ?_
      refine lv_sipush hx hb dX3_takes_171 kc_s231 ?_
      refine ma_1 S hC hK hP kv_231_390 kn_231 dX3_takes_174 ?_
      refine lv_icmp_ge (tgt := 232) hx hb dX3_takes_175 (by decide) (fun c1 => ?_) (fun c1 => ?_)
      · replace hf := it_t c1 hf
        refine lv_aload_n hx hb dX3_takes_232 rfl (lv_at hl 0 rfl) ?_
        refine mg_1 S hC hK hP dX3_takes_233 ?_
        refine lv_sipush hx hb dX3_takes_236 kc_s233 ?_
        refine lv_dup2_11 hx hb dX3_takes_239 rfl rfl ?_
        refine ma_1 S hC hK hP kv_233_390 kn_233 dX3_takes_240 ?_
        refine lv_iconst hx hb dX3_takes_241 kc_i1 ?_
        refine lv_iadd hx hb dX3_takes_242 ?_
        refine ms_1 S hC hD hK hP hS kv_233_390 kn_233 dX3_takes_243 (fun H locs hP hS => ?_)
        refine lv_aload_n hx hb dX3_takes_244 rfl (lv_at hl 0 rfl) ?_
        refine lv_iload_n hx hb dX3_takes_245 rfl (lv_at hl 1 rfl) ?_
        refine lv_bipush hx hb dX3_takes_246 kc_b8 ?_
        refine lv_iconst hx hb dX3_takes_248 kc_i1 ?_
        obtain ⟨v2, hv2, hf⟩ := ob_s hf
        refine mc_X3_X3_puts S hC hD hK hP hS hv2 hl.1 ⟨Nat.le_of_ble_eq_true rfl, Nat.le_of_ble_eq_true rfl⟩ (Nat.le_of_ble_eq_true rfl) ⟨Nat.zero_le _, Nat.zero_le _⟩ dX3_takes_249 (fun H locs _ hP hS => ?_)
        refine lv_aload_n hx hb dX3_takes_252 rfl (lv_at hl 0 rfl) ?_
        refine lv_iload_n hx hb dX3_takes_253 rfl (lv_at hl 1 rfl) ?_
        refine lv_iconst hx hb dX3_takes_254 kc_i4 ?_
        refine lv_iload_n hx hb dX3_takes_255 rfl (lv_at hl 2 rfl) ?_
        obtain ⟨v3, hv3, hf⟩ := ob_s hf
        refine mc_X3_X3_puts S hC hD hK hP hS hv3 hl.1 ⟨Nat.le_of_ble_eq_true rfl, Nat.le_of_ble_eq_true rfl⟩ (Nat.le_of_ble_eq_true rfl) ⟨Nat.zero_le _, Nat.zero_le _⟩ dX3_takes_256 (fun H locs _ hP hS => ?_)
        refine lv_aload_n hx hb dX3_takes_259 rfl (lv_at hl 0 rfl) ?_
        refine lv_iload_n hx hb dX3_takes_260 rfl (lv_at hl 2 rfl) ?_
        refine lv_iconst hx hb dX3_takes_261 kc_i2 ?_
        refine lv_iload_n hx hb dX3_takes_262 rfl (lv_at hl 1 rfl) ?_
        obtain ⟨v4, hv4, hf⟩ := ob_s hf
        refine mc_X3_X3_putsHome S hC hD hK hP hS hv4 hl.1 ⟨Nat.le_of_ble_eq_true rfl, Nat.le_of_ble_eq_true rfl⟩ (Nat.le_of_ble_eq_true rfl) ⟨Nat.zero_le _, Nat.zero_le _⟩ dX3_takes_263 (fun H locs _ hP hS => ?_)
        refine lv_aload_n hx hb dX3_takes_266 rfl (lv_at hl 0 rfl) ?_
        refine lv_iload_n hx hb dX3_takes_267 rfl (lv_at hl 2 rfl) ?_
        refine lv_iconst hx hb dX3_takes_268 kc_i4 ?_
        refine lv_aload_n hx hb dX3_takes_269 rfl (lv_at hl 0 rfl) ?_
        refine lv_iload_n hx hb dX3_takes_270 rfl (lv_at hl 2 rfl) ?_
        refine lv_iconst hx hb dX3_takes_271 kc_i4 ?_
        obtain ⟨v5, hv5, hf⟩ := ob_s hf
        refine mc_X3_X3_home0 S hC hK hP hv5 hl.1 ⟨Nat.le_of_ble_eq_true rfl, Nat.le_of_ble_eq_true rfl⟩ (Nat.le_of_ble_eq_true rfl) ⟨Nat.zero_le _, Nat.zero_le _⟩ dX3_takes_272 (fun _ => ?_)
        refine lv_iconst hx hb dX3_takes_275 kc_i1 ?_
        refine lv_iadd hx hb dX3_takes_276 ?_
        obtain ⟨v6, hv6, hf⟩ := ob_s hf
        refine mc_X3_X3_putsHome S hC hD hK hP hS hv6 hl.1 ⟨Nat.le_of_ble_eq_true rfl, Nat.le_of_ble_eq_true rfl⟩ (Nat.le_of_ble_eq_true rfl) ⟨Nat.zero_le _, Nat.zero_le _⟩ dX3_takes_277 (fun H locs _ hP hS => ?_)
        refine lv_iload hx hb dX3_takes_280 (lv_at hl 5 rfl) ?_
        refine lv_iconst hx hb dX3_takes_282 kc_im1 ?_
        refine lv_icmp_eq (tgt := 301) hx hb dX3_takes_283 (by decide) (fun c7 => ?_) (fun c7 => ?_)
        · replace hf := it_t c7 hf
          have hE := Option.some.inj hf
          subst hE
          exact gt_wv S hr hlocks trivial hP hS dX3_takes_301
        · replace hf := it_f c7 hf
          refine lv_aload_n hx hb dX3_takes_286 rfl (lv_at hl 0 rfl) ?_
          refine lv_iload hx hb dX3_takes_287 (lv_at hl 5 rfl) ?_
          refine lv_aload_n hx hb dX3_takes_289 rfl (lv_at hl 0 rfl) ?_
          refine mg_1 S hC hK hP dX3_takes_290 ?_
          refine lv_iload hx hb dX3_takes_293 (lv_at hl 3 rfl) ?_
          refine lv_iconst hx hb dX3_takes_295 kc_i3 ?_
          refine lv_iadd hx hb dX3_takes_296 ?_
          obtain ⟨g8, hf⟩ := gd_t hf
          refine ma_1 S hC hK hP (inR_vp g8) rfl dX3_takes_297 ?_
          obtain ⟨v9, hv9, hf⟩ := ob_s hf
          refine mc_X3_X3_leaves S hC hD hK hP hS hv9 hl.1 ⟨Nat.le_of_ble_eq_true rfl, Nat.le_of_ble_eq_true rfl⟩ (Nat.le_of_ble_eq_true rfl) ⟨Nat.zero_le _, Nat.zero_le _⟩ dX3_takes_298 (fun H locs _ hP hS => ?_)
          have hE := Option.some.inj hf
          subst hE
          exact gt_wv S hr hlocks trivial hP hS dX3_takes_301
      · replace hf := it_f c1 hf
        refine lv_aload_n hx hb dX3_takes_178 rfl (lv_at hl 0 rfl) ?_
        refine lv_iload hx hb dX3_takes_179 (lv_at hl 6 rfl) ?_
        refine lv_iload_n hx hb dX3_takes_181 rfl (lv_at hl 2 rfl) ?_
        obtain ⟨v10, hv10, hf⟩ := ob_s hf
        refine mc_X3_X3_isBid S hC hK hP hv10 hl.1 ⟨Nat.le_of_ble_eq_true rfl, Nat.le_of_ble_eq_true rfl⟩ (Nat.le_of_ble_eq_true rfl) ⟨Nat.zero_le _, Nat.zero_le _⟩ dX3_takes_182 (fun hnv10 => ?_)
        refine lv_if_eq (tgt := 226) hx hb dX3_takes_185 (by decide) (fun c11 => ?_) (fun c11 => ?_)
        · replace hf := it_t c11 hf
          refine lv_iinc (v := (x7 + 1)) (lv' := [(7, .int (x7 + 1)), (0, .ref o), (1, .int x1), (2, .int x2), (4, .int x4), (5, .int x5), (6, .int x6)]) hx hb dX3_takes_226 hl (k := 6) rfl rfl (by decide) rfl (fun ls hl => ?_)
          refine lv_goto (tgt := 165) hx hb dX3_takes_229 (by decide) ?_
          exact (ih) x1 x2 x4 x5 x6 (x7 + 1) nw ls H locs hP hS (lv_sub (l' := [(0, .ref o), (1, .int x1), (2, .int x2), (4, .int x4), (5, .int x5), (6, .int x6), (7, .int (x7 + 1))]) hl [1, 2, 3, 4, 5, 6, 0] rfl) hf
        · replace hf := it_f c11 hf
          refine lv_aload_n hx hb dX3_takes_188 rfl (lv_at hl 0 rfl) ?_
          refine lv_iload hx hb dX3_takes_189 (lv_at hl 6 rfl) ?_
          obtain ⟨v12, hv12, hf⟩ := ob_s hf
          refine mc_X3_X3_mayHope S hC hK hP hv12 hl.1 ⟨Nat.le_of_ble_eq_true rfl, Nat.le_of_ble_eq_true rfl⟩ (Nat.le_of_ble_eq_true rfl) ⟨Nat.zero_le _, Nat.zero_le _⟩ dX3_takes_191 (fun hnv12 => ?_)
          refine lv_if_eq (tgt := 226) hx hb dX3_takes_194 (by decide) (fun c13 => ?_) (fun c13 => ?_)
          · replace hf := it_t c13 hf
            refine lv_iinc (v := (x7 + 1)) (lv' := [(7, .int (x7 + 1)), (0, .ref o), (1, .int x1), (2, .int x2), (4, .int x4), (5, .int x5), (6, .int x6)]) hx hb dX3_takes_226 hl (k := 6) rfl rfl (by decide) rfl (fun ls hl => ?_)
            refine lv_goto (tgt := 165) hx hb dX3_takes_229 (by decide) ?_
            exact (ih) x1 x2 x4 x5 x6 (x7 + 1) nw ls H locs hP hS (lv_sub (l' := [(0, .ref o), (1, .int x1), (2, .int x2), (4, .int x4), (5, .int x5), (6, .int x6), (7, .int (x7 + 1))]) hl [1, 2, 3, 4, 5, 6, 0] rfl) hf
          · replace hf := it_f c13 hf
            refine lv_aload_n hx hb dX3_takes_197 rfl (lv_at hl 0 rfl) ?_
            refine lv_iload hx hb dX3_takes_198 (lv_at hl 6 rfl) ?_
            obtain ⟨v14, hv14, hf⟩ := ob_s hf
            refine mc_X3_X3_bandNow S hC hK hP hv14 hl.1 ⟨Nat.le_of_ble_eq_true rfl, Nat.le_of_ble_eq_true rfl⟩ (Nat.le_of_ble_eq_true rfl) ⟨Nat.zero_le _, Nat.zero_le _⟩ dX3_takes_200 (fun _ => ?_)
            refine lv_iload hx hb dX3_takes_203 (lv_at hl 4 rfl) ?_
            refine lv_icmp_ge (tgt := 226) hx hb dX3_takes_205 (by decide) (fun c15 => ?_) (fun c15 => ?_)
            · replace hf := it_t c15 hf
              refine lv_iinc (v := (x7 + 1)) (lv' := [(7, .int (x7 + 1)), (0, .ref o), (1, .int x1), (2, .int x2), (4, .int x4), (5, .int x5), (6, .int x6)]) hx hb dX3_takes_226 hl (k := 6) rfl rfl (by decide) rfl (fun ls hl => ?_)
              refine lv_goto (tgt := 165) hx hb dX3_takes_229 (by decide) ?_
              exact (ih) x1 x2 x4 x5 x6 (x7 + 1) nw ls H locs hP hS (lv_sub (l' := [(0, .ref o), (1, .int x1), (2, .int x2), (4, .int x4), (5, .int x5), (6, .int x6), (7, .int (x7 + 1))]) hl [1, 2, 3, 4, 5, 6, 0] rfl) hf
            · replace hf := it_f c15 hf
              refine lv_aload_n hx hb dX3_takes_208 rfl (lv_at hl 0 rfl) ?_
              refine lv_iload hx hb dX3_takes_209 (lv_at hl 6 rfl) ?_
              refine lv_bipush hx hb dX3_takes_211 kc_b9 ?_
              refine lv_aload_n hx hb dX3_takes_213 rfl (lv_at hl 0 rfl) ?_
              refine lv_iload hx hb dX3_takes_214 (lv_at hl 6 rfl) ?_
              refine lv_bipush hx hb dX3_takes_216 kc_b9 ?_
              obtain ⟨v16, hv16, hf⟩ := ob_s hf
              refine mc_X3_X3_of S hC hK hP hv16 hl.1 ⟨Nat.le_of_ble_eq_true rfl, Nat.le_of_ble_eq_true rfl⟩ (Nat.le_of_ble_eq_true rfl) ⟨Nat.zero_le _, Nat.zero_le _⟩ dX3_takes_218 (fun _ => ?_)
              refine lv_iconst hx hb dX3_takes_221 kc_i1 ?_
              refine lv_iadd hx hb dX3_takes_222 ?_
              obtain ⟨v17, hv17, hf⟩ := ob_s hf
              refine mc_X3_X3_puts S hC hD hK hP hS hv17 hl.1 ⟨Nat.le_of_ble_eq_true rfl, Nat.le_of_ble_eq_true rfl⟩ (Nat.le_of_ble_eq_true rfl) ⟨Nat.zero_le _, Nat.zero_le _⟩ dX3_takes_223 (fun H locs _ hP hS => ?_)
              refine lv_iinc (v := (x7 + 1)) (lv' := [(7, .int (x7 + 1)), (0, .ref o), (1, .int x1), (2, .int x2), (4, .int x4), (5, .int x5), (6, .int x6)]) hx hb dX3_takes_226 hl (k := 6) rfl rfl (by decide) rfl (fun ls hl => ?_)
              refine lv_goto (tgt := 165) hx hb dX3_takes_229 (by decide) ?_
              exact (ih) x1 x2 x4 x5 x6 (x7 + 1) v17 ls H locs hP hS (lv_sub (l' := [(0, .ref o), (1, .int x1), (2, .int x2), (4, .int x4), (5, .int x5), (6, .int x6), (7, .int (x7 + 1))]) hl [1, 2, 3, 4, 5, 6, 0] rfl) hf
  have w137 : ∀ (x1 : Int32) (x2 : Int32) (x3 : Int32) (x4 : Int32) (x5 : Int32) (x6 : Int32) (y1 : Int32) (y2 : Int32) (y3 : Int32) (nw : (Nat → Int32)) (ls : Array Slot) (H : Heap) (locs : List Loc), va_P D cl (mW mi cI cJ cB o ad th tp st fk fp ac si fr tt kd nu fa pl fo wd ci gr lm om nw rd aa kp ta nm rn gv gt rw rh lg lh ou) H → va_S (mA o ad) s.heap H locs → lv_has ls 8 [(0, .ref o), (1, .int x1), (2, .int x2), (3, .int x3), (4, .int x4), (5, .int x5), (6, .int x6)] → f_X3_takes_137 x1 x2 x3 x4 x5 x6 y1 y2 y3 nw = some out → W p l e (rM 4 85) s m ([.ref o, .int a0, .int a1, .int a2] : List Value).toArray below meth c H locs 0 0 (MQ below (gQ D cl none True (mW mi cI cJ cB o ad th tp st fk fp ac si fr tt kd nu fa pl fo wd ci gr lm om out rd aa kp ta nm rn gv gt rw rh lg lh ou) (mA o ad)) ([.ref o, .int a0, .int a1, .int a2] : List Value).toArray s 0 0 (mA o ad)) (F0 m 137 ls [.int y3, .int y2, .int y1, .ref (ad 1)]) := by
    intro x1 x2 x3 x4 x5 x6 y1 y2 y3 nw ls H locs hP hS hl hf
    rw [f_X3_takes_137] at hf
    refine lv_iadd hx hb dX3_takes_137 ?_
    obtain ⟨g1, hf⟩ := gd_t hf
    refine ms_1 S hC hD hK hP hS (inR_vp g1) rfl dX3_takes_138 (fun H locs hP hS => ?_)
    refine lv_aload_n hx hb dX3_takes_139 rfl (lv_at hl 0 rfl) ?_
    refine mg_1 S hC hK hP dX3_takes_140 ?_
    refine lv_iload hx hb dX3_takes_143 (lv_at hl 4 rfl) ?_
    refine lv_bipush hx hb dX3_takes_145 kc_b6 ?_
    refine lv_iadd hx hb dX3_takes_147 ?_
    refine lv_iload_n hx hb dX3_takes_148 rfl (lv_at hl 3 rfl) ?_
    obtain ⟨g2, hf⟩ := gd_t hf
    refine ms_1 S hC hD hK hP hS (inR_vp g2) rfl dX3_takes_149 (fun H locs hP hS => ?_)
    refine lv_aload_n hx hb dX3_takes_150 rfl (lv_at hl 0 rfl) ?_
    refine mg_1 S hC hK hP dX3_takes_151 ?_
    refine lv_iload hx hb dX3_takes_154 (lv_at hl 4 rfl) ?_
    refine lv_bipush hx hb dX3_takes_156 kc_b7 ?_
    refine lv_iadd hx hb dX3_takes_158 ?_
    refine lv_iload hx hb dX3_takes_159 (lv_at hl 5 rfl) ?_
    obtain ⟨g3, hf⟩ := gd_t hf
    refine ms_1 S hC hD hK hP hS (inR_vp g3) rfl dX3_takes_161 (fun H locs hP hS => ?_)
    obtain ⟨m4, em4⟩ : ∃ z, z = (upd (upd (upd nw y1.toNatClampNeg (y2 + y3)) (x4 + (nI 6)).toNatClampNeg x3) (x4 + (nI 7)).toNatClampNeg x5) := ⟨_, rfl⟩
    replace hf := bd_e em4 hf
    rw [← em4] at hP
    refine lv_iconst hx hb dX3_takes_162 kc_i0 ?_
    refine lv_istore (lv' := [(7, .int 0), (0, .ref o), (1, .int x1), (2, .int x2), (3, .int x3), (4, .int x4), (5, .int x5), (6, .int x6)]) hx hb dX3_takes_163 hl (by decide) rfl (fun ls hl => ?_)
    exact (w165 FU) x1 x2 x4 x5 x6 0 m4 ls H locs hP hS (lv_sub (l' := [(0, .ref o), (1, .int x1), (2, .int x2), (4, .int x4), (5, .int x5), (6, .int x6), (7, .int 0)]) hl [1, 2, 3, 5, 6, 7, 0] rfl) hf
  have w126 : ∀ (x1 : Int32) (x2 : Int32) (x3 : Int32) (x4 : Int32) (x5 : Int32) (x6 : Int32) (y1 : Int32) (y2 : Int32) (nw : (Nat → Int32)) (ls : Array Slot) (H : Heap) (locs : List Loc), va_P D cl (mW mi cI cJ cB o ad th tp st fk fp ac si fr tt kd nu fa pl fo wd ci gr lm om nw rd aa kp ta nm rn gv gt rw rh lg lh ou) H → va_S (mA o ad) s.heap H locs → lv_has ls 8 [(0, .ref o), (1, .int x1), (2, .int x2), (3, .int x3), (4, .int x4), (5, .int x5), (6, .int x6)] → f_X3_takes_126 x1 x2 x3 x4 x5 x6 y1 y2 nw = some out → W p l e (rM 4 85) s m ([.ref o, .int a0, .int a1, .int a2] : List Value).toArray below meth c H locs 0 0 (MQ below (gQ D cl none True (mW mi cI cJ cB o ad th tp st fk fp ac si fr tt kd nu fa pl fo wd ci gr lm om out rd aa kp ta nm rn gv gt rw rh lg lh ou) (mA o ad)) ([.ref o, .int a0, .int a1, .int a2] : List Value).toArray s 0 0 (mA o ad)) (F0 m 126 ls [.int y2, .int y1, .ref (ad 1)]) := by
    intro x1 x2 x3 x4 x5 x6 y1 y2 nw ls H locs hP hS hl hf
    rw [f_X3_takes_126] at hf
    refine lv_iload hx hb dX3_takes_126 (lv_at hl 6 rfl) ?_
    refine lv_iconst hx hb dX3_takes_128 kc_im1 ?_
    refine lv_icmp_ne (tgt := 136) hx hb dX3_takes_129 (by decide) (fun c1 => ?_) (fun c1 => ?_)
    · replace hf := it_f c1 hf
      refine lv_iconst hx hb dX3_takes_136 kc_i2 ?_
      exact (w137) x1 x2 x3 x4 x5 x6 y1 y2 (nI 2) nw ls H locs hP hS hl hf
    · replace hf := it_t c1 hf
      refine lv_iconst hx hb dX3_takes_132 kc_i0 ?_
      refine lv_goto (tgt := 137) hx hb dX3_takes_133 (by decide) ?_
      exact (w137) x1 x2 x3 x4 x5 x6 y1 y2 0 nw ls H locs hP hS hl hf
  have w105 : ∀ (x1 : Int32) (x2 : Int32) (x3 : Int32) (x4 : Int32) (x5 : Int32) (x6 : Int32) (y1 : Int32) (y2 : Int32) (nw : (Nat → Int32)) (ls : Array Slot) (H : Heap) (locs : List Loc), va_P D cl (mW mi cI cJ cB o ad th tp st fk fp ac si fr tt kd nu fa pl fo wd ci gr lm om nw rd aa kp ta nm rn gv gt rw rh lg lh ou) H → va_S (mA o ad) s.heap H locs → lv_has ls 8 [(0, .ref o), (1, .int x1), (2, .int x2), (3, .int x3), (4, .int x4), (5, .int x5), (6, .int x6)] → f_X3_takes_105 x1 x2 x3 x4 x5 x6 y1 y2 nw = some out → W p l e (rM 4 85) s m ([.ref o, .int a0, .int a1, .int a2] : List Value).toArray below meth c H locs 0 0 (MQ below (gQ D cl none True (mW mi cI cJ cB o ad th tp st fk fp ac si fr tt kd nu fa pl fo wd ci gr lm om out rd aa kp ta nm rn gv gt rw rh lg lh ou) (mA o ad)) ([.ref o, .int a0, .int a1, .int a2] : List Value).toArray s 0 0 (mA o ad)) (F0 m 105 ls [.int y2, .int y1, .ref (ad 1)]) := by
    intro x1 x2 x3 x4 x5 x6 y1 y2 nw ls H locs hP hS hl hf
    rw [f_X3_takes_105] at hf
    obtain ⟨g1, hf⟩ := gd_t hf
    refine ms_1 S hC hD hK hP hS (inR_vp g1) rfl dX3_takes_105 (fun H locs hP hS => ?_)
    refine lv_aload_n hx hb dX3_takes_106 rfl (lv_at hl 0 rfl) ?_
    refine mg_1 S hC hK hP dX3_takes_107 ?_
    refine lv_iload hx hb dX3_takes_110 (lv_at hl 4 rfl) ?_
    refine lv_iconst hx hb dX3_takes_112 kc_i5 ?_
    refine lv_iadd hx hb dX3_takes_113 ?_
    refine lv_aload_n hx hb dX3_takes_114 rfl (lv_at hl 0 rfl) ?_
    obtain ⟨v2, hv2, hf⟩ := ob_s hf
    refine mc_X3_X3_isQuota S hC hK hP hv2 hl.1 ⟨Nat.le_of_ble_eq_true rfl, Nat.le_of_ble_eq_true rfl⟩ (Nat.le_of_ble_eq_true rfl) ⟨Nat.zero_le _, Nat.zero_le _⟩ dX3_takes_115 (fun hnv2 => ?_)
    refine lv_if_eq (tgt := 125) hx hb dX3_takes_118 (by decide) (fun c3 => ?_) (fun c3 => ?_)
    · replace hf := it_t c3 hf
      refine lv_iconst hx hb dX3_takes_125 kc_i0 ?_
      exact (w126) x1 x2 x3 x4 x5 x6 (x4 + (nI 5)) 0 (upd nw y1.toNatClampNeg y2) ls H locs hP hS hl hf
    · replace hf := it_f c3 hf
      refine lv_iconst hx hb dX3_takes_121 kc_i1 ?_
      refine lv_goto (tgt := 126) hx hb dX3_takes_122 (by decide) ?_
      exact (w126) x1 x2 x3 x4 x5 x6 (x4 + (nI 5)) 1 (upd nw y1.toNatClampNeg y2) ls H locs hP hS hl hf
  suffices hg : ∀ (H : Heap) (locs : List Loc), va_P D cl (mW mi cI cJ cB o ad th tp st fk fp ac si fr tt kd nu fa pl fo wd ci gr lm om nw rd aa kp ta nm rn gv gt rw rh lg lh ou) H → va_S (mA o ad) s.heap H locs → W p l e (rM 4 85) s m ([.ref o, .int a0, .int a1, .int a2] : List Value).toArray below meth c H locs 0 0 (MQ below (gQ D cl none True (mW mi cI cJ cB o ad th tp st fk fp ac si fr tt kd nu fa pl fo wd ci gr lm om out rd aa kp ta nm rn gv gt rw rh lg lh ou) (mA o ad)) ([.ref o, .int a0, .int a1, .int a2] : List Value).toArray s 0 0 (mA o ad)) (F0 m 0 ls []) from hg s.heap [] hP va_S.rf
  clear hP
  intro H locs hP hS
  rw [f_X3_takes] at hf
  refine lv_sipush hx hb dX3_takes_0 kc_s234 ?_
  refine lv_bipush hx hb dX3_takes_3 kc_b8 ?_
  refine lv_aload_n hx hb dX3_takes_5 rfl (lv_at hl 0 rfl) ?_
  refine mg_1 S hC hK hP dX3_takes_6 ?_
  refine lv_sipush hx hb dX3_takes_9 kc_s233 ?_
  refine ma_1 S hC hK hP kv_233_390 kn_233 dX3_takes_12 ?_
  refine lv_imul hx hb dX3_takes_13 ?_
  refine lv_iadd hx hb dX3_takes_14 ?_
  refine lv_istore (lv' := [(4, .int ((nI 234) + ((nI 8) * (nw 233)))), (0, .ref o), (1, .int a0), (2, .int a1), (3, .int a2)]) hx hb dX3_takes_15 hl (by decide) rfl (fun ls hl => ?_)
  refine lv_aload_n hx hb dX3_takes_17 rfl (lv_at hl 1 rfl) ?_
  refine lv_iload_n hx hb dX3_takes_18 rfl (lv_at hl 2 rfl) ?_
  obtain ⟨v1, hv1, hf⟩ := ob_s hf
  refine mc_X3_X3_bandNow S hC hK hP hv1 hl.1 ⟨Nat.le_of_ble_eq_true rfl, Nat.le_of_ble_eq_true rfl⟩ (Nat.le_of_ble_eq_true rfl) ⟨Nat.zero_le _, Nat.zero_le _⟩ dX3_takes_19 (fun _ => ?_)
  refine lv_istore (lv' := [(5, .int v1), (4, .int ((nI 234) + ((nI 8) * (nw 233)))), (0, .ref o), (1, .int a0), (2, .int a1), (3, .int a2)]) hx hb dX3_takes_22 hl (by decide) rfl (fun ls hl => ?_)
  refine lv_aload_n hx hb dX3_takes_24 rfl (lv_at hl 2 rfl) ?_
  refine lv_iload_n hx hb dX3_takes_25 rfl (lv_at hl 3 rfl) ?_
  refine lv_iconst hx hb dX3_takes_26 kc_i4 ?_
  obtain ⟨v2, hv2, hf⟩ := ob_s hf
  refine mc_X3_X3_of S hC hK hP hv2 hl.1 ⟨Nat.le_of_ble_eq_true rfl, Nat.le_of_ble_eq_true rfl⟩ (Nat.le_of_ble_eq_true rfl) ⟨Nat.zero_le _, Nat.zero_le _⟩ dX3_takes_27 (fun _ => ?_)
  refine lv_istore (lv' := [(6, .int v2), (5, .int v1), (4, .int ((nI 234) + ((nI 8) * (nw 233)))), (0, .ref o), (1, .int a0), (2, .int a1), (3, .int a2)]) hx hb dX3_takes_30 hl (by decide) rfl (fun ls hl => ?_)
  refine lv_aload_n hx hb dX3_takes_32 rfl (lv_at hl 3 rfl) ?_
  refine mg_1 S hC hK hP dX3_takes_33 ?_
  refine lv_iload hx hb dX3_takes_36 (lv_at hl 2 rfl) ?_
  refine lv_iload_n hx hb dX3_takes_38 rfl (lv_at hl 4 rfl) ?_
  obtain ⟨g3, hf⟩ := gd_t hf
  refine ms_1 S hC hD hK hP hS (inR_vp g3) rfl dX3_takes_39 (fun H locs hP hS => ?_)
  refine lv_aload_n hx hb dX3_takes_40 rfl (lv_at hl 3 rfl) ?_
  refine mg_1 S hC hK hP dX3_takes_41 ?_
  refine lv_iload hx hb dX3_takes_44 (lv_at hl 2 rfl) ?_
  refine lv_iconst hx hb dX3_takes_46 kc_i1 ?_
  refine lv_iadd hx hb dX3_takes_47 ?_
  refine lv_iload_n hx hb dX3_takes_48 rfl (lv_at hl 5 rfl) ?_
  obtain ⟨g4, hf⟩ := gd_t hf
  refine ms_1 S hC hD hK hP hS (inR_vp g4) rfl dX3_takes_49 (fun H locs hP hS => ?_)
  obtain ⟨m5, em5⟩ : ∃ z, z = (upd (upd nw ((nI 234) + ((nI 8) * (nw 233))).toNatClampNeg a0) (((nI 234) + ((nI 8) * (nw 233))) + 1).toNatClampNeg a1) := ⟨_, rfl⟩
  replace hf := bd_e em5 hf
  rw [← em5] at hP
  refine lv_aload_n hx hb dX3_takes_50 rfl (lv_at hl 3 rfl) ?_
  refine mg_1 S hC hK hP dX3_takes_51 ?_
  refine lv_iload hx hb dX3_takes_54 (lv_at hl 2 rfl) ?_
  refine lv_iconst hx hb dX3_takes_56 kc_i2 ?_
  refine lv_iadd hx hb dX3_takes_57 ?_
  refine lv_aload_n hx hb dX3_takes_58 rfl (lv_at hl 3 rfl) ?_
  refine mg_1 S hC hK hP dX3_takes_59 ?_
  refine lv_sipush hx hb dX3_takes_62 kc_s232 ?_
  refine ma_1 S hC hK hP kv_232_390 kn_232 dX3_takes_65 ?_
  obtain ⟨g6, hf⟩ := gd_t hf
  refine ms_1 S hC hD hK hP hS (inR_vp g6) rfl dX3_takes_66 (fun H locs hP hS => ?_)
  refine lv_aload_n hx hb dX3_takes_67 rfl (lv_at hl 3 rfl) ?_
  refine mg_1 S hC hK hP dX3_takes_68 ?_
  refine lv_iload hx hb dX3_takes_71 (lv_at hl 2 rfl) ?_
  refine lv_iconst hx hb dX3_takes_73 kc_i3 ?_
  refine lv_iadd hx hb dX3_takes_74 ?_
  refine lv_aload_n hx hb dX3_takes_75 rfl (lv_at hl 3 rfl) ?_
  refine lv_iload_n hx hb dX3_takes_76 rfl (lv_at hl 5 rfl) ?_
  refine lv_iconst hx hb dX3_takes_77 kc_i5 ?_
  obtain ⟨v7, hv7, hf⟩ := ob_s hf
  refine mc_X3_X3_home0 S hC hK hP hv7 hl.1 ⟨Nat.le_of_ble_eq_true rfl, Nat.le_of_ble_eq_true rfl⟩ (Nat.le_of_ble_eq_true rfl) ⟨Nat.zero_le _, Nat.zero_le _⟩ dX3_takes_78 (fun _ => ?_)
  refine lv_iconst hx hb dX3_takes_81 kc_i1 ?_
  refine lv_iadd hx hb dX3_takes_82 ?_
  obtain ⟨g8, hf⟩ := gd_t hf
  refine ms_1 S hC hD hK hP hS (inR_vp g8) rfl dX3_takes_83 (fun H locs hP hS => ?_)
  obtain ⟨m9, em9⟩ : ∃ z, z = (upd (upd m5 (((nI 234) + ((nI 8) * (nw 233))) + (nI 2)).toNatClampNeg (m5 232)) (((nI 234) + ((nI 8) * (nw 233))) + (nI 3)).toNatClampNeg (v7 + 1)) := ⟨_, rfl⟩
  replace hf := bd_e em9 hf
  rw [← em9] at hP
  refine lv_aload_n hx hb dX3_takes_84 rfl (lv_at hl 3 rfl) ?_
  refine mg_1 S hC hK hP dX3_takes_85 ?_
  refine lv_iload hx hb dX3_takes_88 (lv_at hl 2 rfl) ?_
  refine lv_iconst hx hb dX3_takes_90 kc_i4 ?_
  refine lv_iadd hx hb dX3_takes_91 ?_
  refine lv_aload_n hx hb dX3_takes_92 rfl (lv_at hl 3 rfl) ?_
  refine lv_iload_n hx hb dX3_takes_93 rfl (lv_at hl 5 rfl) ?_
  obtain ⟨v10, hv10, hf⟩ := ob_s hf
  refine mc_X3_X3_isLocal S hC hK hP hv10 hl.1 ⟨Nat.le_of_ble_eq_true rfl, Nat.le_of_ble_eq_true rfl⟩ (Nat.le_of_ble_eq_true rfl) ⟨Nat.zero_le _, Nat.zero_le _⟩ dX3_takes_94 (fun hnv10 => ?_)
  refine lv_if_eq (tgt := 104) hx hb dX3_takes_97 (by decide) (fun c11 => ?_) (fun c11 => ?_)
  · replace hf := it_t c11 hf
    refine lv_iconst hx hb dX3_takes_104 kc_i0 ?_
    exact (w105) a0 a1 a2 ((nI 234) + ((nI 8) * (nw 233))) v1 v2 (((nI 234) + ((nI 8) * (nw 233))) + (nI 4)) 0 m9 ls H locs hP hS (lv_sub (l' := [(0, .ref o), (1, .int a0), (2, .int a1), (3, .int a2), (4, .int ((nI 234) + ((nI 8) * (nw 233)))), (5, .int v1), (6, .int v2)]) hl [3, 4, 5, 6, 2, 1, 0] rfl) hf
  · replace hf := it_f c11 hf
    refine lv_iconst hx hb dX3_takes_100 kc_i1 ?_
    refine lv_goto (tgt := 105) hx hb dX3_takes_101 (by decide) ?_
    exact (w105) a0 a1 a2 ((nI 234) + ((nI 8) * (nw 233))) v1 v2 (((nI 234) + ((nI 8) * (nw 233))) + (nI 4)) 1 m9 ls H locs hP hS (lv_sub (l' := [(0, .ref o), (1, .int a0), (2, .int a1), (3, .int a2), (4, .int ((nI 234) + ((nI 8) * (nw 233)))), (5, .int v1), (6, .int v2)]) hl [3, 4, 5, 6, 2, 1, 0] rfl) hf
set_option maxRecDepth 100000 in
theorem mc_X3_X3_takes {a0 : Int32} {a1 : Int32} {a2 : Int32} {out : (Nat → Int32)} (S : CallFix p m c cc nL s args lw_all RX3) (hC : mC cl tys mi cI cJ cB) (hD : mD o ad) (hK : va_K D cl tys s) (hP : va_P D cl (mW mi cI cJ cB o ad th tp st fk fp ac si fr tt kd nu fa pl fo wd ci gr lm om nw rd aa kp ta nm rn gv gt rw rh lg lh ou) H) (hS : va_S (mA o ad) H0 H locs) (hf : f_X3_takes nw a0 a1 a2 = some out) (hsz : ls.size = nL) (hR : 4 + 1 ≤ R.frames ∧ 8 + (8 + 11) + 85 ≤ R.locals) (hW : (rest.map fun v => v.category).sum ≤ 8) (hcs : cells ≤ R.cells ∧ slots ≤ R.slots) (hdg : decode cc pc = .ok (.invokevirtual 307, 3)) (kk : ∀ (H1 : Heap) (locs1 : List Loc), True → va_P D cl (mW mi cI cJ cB o ad th tp st fk fp ac si fr tt kd nu fa pl fo wd ci gr lm om out rd aa kp ta nm rn gv gt rw rh lg lh ou) H1 → va_S (mA o ad) H0 H1 locs1 → W p l e R s m args below meth c H1 locs1 cells slots Q (F0 m (pc + 3) ls (rest))) : W p l e R s m args below meth c H locs cells slots Q (F0 m pc ls (.int a2 :: .int a1 :: .int a0 :: .ref o :: rest)) :=
  gc_Vv (As := [.int a0, .int a1, .int a2]) S (mm_X3_takes hC hD hf) (cwV 3 S.2.2.2.2 (lw_V q2431 q2433 qs148 q189 q2434) rfl rfl rfl hd_X3_takes hR) (gPreV hK hP hC.1 (q0 := 0) rfl) rfl hsz rfl hW hdg hcs hS kk
theorem hd_X3_lets : yX3_lets.cls = RX3 ∧ yX3_lets.cls ≠ "java/lang/invoke/MethodHandle" ∧ yX3_lets.cls ≠ "java/lang/invoke/VarHandle" ∧ (parseMethodDescriptor yX3_lets.desc).map (fun d => d.parameters.length) = some 1 := by decide +kernel
set_option maxHeartbeats 4000000 in
set_option maxRecDepth 100000 in
theorem mm_X3_lets {a0 : Int32} {out : (Nat → Int32)} (hC : mC cl tys mi cI cJ cB) (hD : mD o ad) (hf : f_X3_lets nw a0 = some out) : Met l yX3_lets (ws_ yX3_lets cX3_lets 6 none) (rM 6 135) (gPc D cl tys [.ref o, .int a0] (mW mi cI cJ cB o ad th tp st fk fp ac si fr tt kd nu fa pl fo wd ci gr lm om nw rd aa kp ta nm rn gv gt rw rh lg lh ou)) (gQ D cl none True (mW mi cI cJ cB o ad th tp st fk fp ac si fr tt kd nu fa pl fo wd ci gr lm om out rd aa kp ta nm rn gv gt rw rh lg lh ou) (mA o ad)) 0 0 (mA o ad) := by
  refine gGo (by decide +kernel) (Nat.le_of_ble_eq_true rfl) (fun p e s m below meth c ls S hr hlocks hK hP hl => ?_)
  have S : CallFix p m c cX3_lets 6 s _ lw_all RX3 := S
  obtain ⟨hx, hb, hml, hown, hts⟩ := id S
  have hl : lv_has ls 6 [(0, .ref o), (1, .int a0)] := hl
  have w8 : ∀ (n : Nat) , ∀ (x1 : Int32) (x2 : Int32) (x3 : Int32) (nw : (Nat → Int32)) (ls : Array Slot) (H : Heap) (locs : List Loc), va_P D cl (mW mi cI cJ cB o ad th tp st fk fp ac si fr tt kd nu fa pl fo wd ci gr lm om nw rd aa kp ta nm rn gv gt rw rh lg lh ou) H → va_S (mA o ad) s.heap H locs → lv_has ls 6 [(0, .ref o), (1, .int x1), (2, .int x2), (3, .int x3)] → f_X3_lets_8 n x1 x2 x3 nw = some out → W p l e (rM 6 135) s m ([.ref o, .int a0] : List Value).toArray below meth c H locs 0 0 (MQ below (gQ D cl none True (mW mi cI cJ cB o ad th tp st fk fp ac si fr tt kd nu fa pl fo wd ci gr lm om out rd aa kp ta nm rn gv gt rw rh lg lh ou) (mA o ad)) ([.ref o, .int a0] : List Value).toArray s 0 0 (mA o ad)) (F0 m 8 ls []) := by
    intro n
    induction n with
    | zero =>
      intro x1 x2 x3 nw ls H locs hP hS hl hf
      exact absurd hf (by rw [f_X3_lets_8]; exact nofun)
    | succ n ih =>
      intro x1 x2 x3 nw ls H locs hP hS hl hf
      rw [f_X3_lets_8] at hf
      refine lv_iload_n hx hb dX3_lets_8 rfl (lv_at hl 2 rfl) ?_
      refine lv_if_eq (tgt := 90) hx hb dX3_lets_9 (by decide) (fun c1 => ?_) (fun c1 => ?_)
      · replace hf := it_t c1 hf
        have hE := Option.some.inj hf
        subst hE
        exact gt_wv S hr hlocks trivial hP hS dX3_lets_90
      · replace hf := it_f c1 hf
        refine lv_iload_n hx hb dX3_lets_12 rfl (lv_at hl 3 rfl) ?_
        refine lv_iconst hx hb dX3_lets_13 kc_i3 ?_
        refine lv_icmp_ge (tgt := 90) hx hb dX3_lets_14 (by decide) (fun c2 => ?_) (fun c2 => ?_)
        · replace hf := it_t c2 hf
          have hE := Option.some.inj hf
          subst hE
          exact gt_wv S hr hlocks trivial hP hS dX3_lets_90
        · replace hf := it_f c2 hf
          refine lv_aload_n hx hb dX3_lets_17 rfl (lv_at hl 0 rfl) ?_
          refine lv_iload_n hx hb dX3_lets_18 rfl (lv_at hl 2 rfl) ?_
          refine lv_iload_n hx hb dX3_lets_19 rfl (lv_at hl 1 rfl) ?_
          obtain ⟨v3, hv3, hf⟩ := ob_s hf
          refine mc_X3_X3_firstOf S hC hK hP hv3 hl.1 ⟨Nat.le_of_ble_eq_true rfl, Nat.le_of_ble_eq_true rfl⟩ (Nat.le_of_ble_eq_true rfl) ⟨Nat.zero_le _, Nat.zero_le _⟩ dX3_lets_20 (fun _ => ?_)
          refine lv_istore (lv' := [(4, .int v3), (0, .ref o), (1, .int x1), (2, .int x2), (3, .int x3)]) hx hb dX3_lets_23 hl (by decide) rfl (fun ls hl => ?_)
          refine lv_iload_n hx hb dX3_lets_25 rfl (lv_at hl 3 rfl) ?_
          refine lv_iconst hx hb dX3_lets_26 kc_i1 ?_
          refine lv_iload hx hb dX3_lets_27 (lv_at hl 0 rfl) ?_
          refine lv_ishl hx hb dX3_lets_29 ?_
          refine lv_iconst hx hb dX3_lets_30 kc_im1 ?_
          refine lv_ixor hx hb dX3_lets_31 ?_
          refine lv_iand hx hb dX3_lets_32 ?_
          refine lv_istore_n (i := 2) (lv' := [(2, .int (x2 &&& ((1 <<< (v3 &&& 31)) ^^^ (-1)))), (4, .int v3), (0, .ref o), (1, .int x1), (3, .int x3)]) hx hb dX3_lets_33 rfl hl (by decide) rfl (fun ls hl => ?_)
          refine lv_aload_n hx hb dX3_lets_34 rfl (lv_at hl 2 rfl) ?_
          refine lv_iload hx hb dX3_lets_35 (lv_at hl 1 rfl) ?_
          obtain ⟨v4, hv4, hf⟩ := ob_s hf
          refine mc_X3_X3_mayHope S hC hK hP hv4 hl.1 ⟨Nat.le_of_ble_eq_true rfl, Nat.le_of_ble_eq_true rfl⟩ (Nat.le_of_ble_eq_true rfl) ⟨Nat.zero_le _, Nat.zero_le _⟩ dX3_lets_37 (fun hnv4 => ?_)
          refine lv_if_ne (tgt := 46) hx hb dX3_lets_40 (by decide) (fun c5 => ?_) (fun c5 => ?_)
          · replace hf := it_f c5 hf
            refine lv_iinc (v := (x3 + 1)) (lv' := [(3, .int (x3 + 1)), (2, .int (x2 &&& ((1 <<< (v3 &&& 31)) ^^^ (-1)))), (4, .int v3), (0, .ref o), (1, .int x1)]) hx hb dX3_lets_46 hl (k := 4) rfl rfl (by decide) rfl (fun ls hl => ?_)
            refine lv_aload_n hx hb dX3_lets_49 rfl (lv_at hl 3 rfl) ?_
            refine lv_iload hx hb dX3_lets_50 (lv_at hl 2 rfl) ?_
            refine lv_iload_n hx hb dX3_lets_52 rfl (lv_at hl 4 rfl) ?_
            obtain ⟨v6, hv6, hf⟩ := ob_s hf
            refine mc_X3_X3_wouldTake S hC hK hP hv6 hl.1 ⟨Nat.le_of_ble_eq_true rfl, Nat.le_of_ble_eq_true rfl⟩ (Nat.le_of_ble_eq_true rfl) ⟨Nat.zero_le _, Nat.zero_le _⟩ dX3_lets_53 (fun hnv6 => ?_)
            refine lv_istore (lv' := [(5, .int v6), (3, .int (x3 + 1)), (2, .int (x2 &&& ((1 <<< (v3 &&& 31)) ^^^ (-1)))), (4, .int v3), (0, .ref o), (1, .int x1)]) hx hb dX3_lets_56 hl (by decide) rfl (fun ls hl => ?_)
            refine lv_aload_n hx hb dX3_lets_58 rfl (lv_at hl 4 rfl) ?_
            refine lv_iload hx hb dX3_lets_59 (lv_at hl 3 rfl) ?_
            refine lv_iload_n hx hb dX3_lets_61 rfl (lv_at hl 5 rfl) ?_
            refine lv_iload hx hb dX3_lets_62 (lv_at hl 0 rfl) ?_
            obtain ⟨v7, hv7, hf⟩ := ob_s hf
            refine mc_X3_X3_offered S hC hD hK hP hS hv7 hl.1 ⟨Nat.le_of_ble_eq_true rfl, Nat.le_of_ble_eq_true rfl⟩ (Nat.le_of_ble_eq_true rfl) ⟨Nat.zero_le _, Nat.zero_le _⟩ dX3_lets_64 (fun H locs _ hP hS => ?_)
            refine lv_iload hx hb dX3_lets_67 (lv_at hl 0 rfl) ?_
            refine lv_if_eq (tgt := 81) hx hb dX3_lets_69 (by decide) (fun c8 => ?_) (fun c8 => ?_)
            · replace hf := it_t c8 hf
              refine lv_aload_n hx hb dX3_lets_81 rfl (lv_at hl 4 rfl) ?_
              refine lv_iload hx hb dX3_lets_82 (lv_at hl 3 rfl) ?_
              obtain ⟨v9, hv9, hf⟩ := ob_s hf
              refine mc_X3_X3_refuses S hC hD hK hP hS hv9 hl.1 ⟨Nat.le_of_ble_eq_true rfl, Nat.le_of_ble_eq_true rfl⟩ (Nat.le_of_ble_eq_true rfl) ⟨Nat.zero_le _, Nat.zero_le _⟩ dX3_lets_84 (fun H locs _ hP hS => ?_)
              refine lv_goto (tgt := 8) hx hb dX3_lets_87 (by decide) ?_
              exact (ih) x1 (x2 &&& ((1 <<< (v3 &&& 31)) ^^^ (-1))) (x3 + 1) v9 ls H locs hP hS (lv_sub (l' := [(0, .ref o), (1, .int x1), (2, .int (x2 &&& ((1 <<< (v3 &&& 31)) ^^^ (-1)))), (3, .int (x3 + 1))]) hl [4, 5, 2, 1] rfl) hf
            · replace hf := it_f c8 hf
              refine lv_aload_n hx hb dX3_lets_72 rfl (lv_at hl 4 rfl) ?_
              refine lv_iload hx hb dX3_lets_73 (lv_at hl 3 rfl) ?_
              refine lv_iload_n hx hb dX3_lets_75 rfl (lv_at hl 5 rfl) ?_
              refine lv_iload_n hx hb dX3_lets_76 rfl (lv_at hl 1 rfl) ?_
              obtain ⟨v10, hv10, hf⟩ := ob_s hf
              refine mc_X3_X3_takes S hC hD hK hP hS hv10 hl.1 ⟨Nat.le_of_ble_eq_true rfl, Nat.le_of_ble_eq_true rfl⟩ (Nat.le_of_ble_eq_true rfl) ⟨Nat.zero_le _, Nat.zero_le _⟩ dX3_lets_77 (fun H locs _ hP hS => ?_)
              have hE := Option.some.inj hf
              subst hE
              exact gt_wv S hr hlocks trivial hP hS dX3_lets_80
          · replace hf := it_t c5 hf
            refine lv_goto (tgt := 8) hx hb dX3_lets_43 (by decide) ?_
            exact (ih) x1 (x2 &&& ((1 <<< (v3 &&& 31)) ^^^ (-1))) x3 nw ls H locs hP hS (lv_sub (l' := [(0, .ref o), (1, .int x1), (2, .int (x2 &&& ((1 <<< (v3 &&& 31)) ^^^ (-1)))), (3, .int x3)]) hl [2, 3, 0, 4] rfl) hf
  suffices hg : ∀ (H : Heap) (locs : List Loc), va_P D cl (mW mi cI cJ cB o ad th tp st fk fp ac si fr tt kd nu fa pl fo wd ci gr lm om nw rd aa kp ta nm rn gv gt rw rh lg lh ou) H → va_S (mA o ad) s.heap H locs → W p l e (rM 6 135) s m ([.ref o, .int a0] : List Value).toArray below meth c H locs 0 0 (MQ below (gQ D cl none True (mW mi cI cJ cB o ad th tp st fk fp ac si fr tt kd nu fa pl fo wd ci gr lm om out rd aa kp ta nm rn gv gt rw rh lg lh ou) (mA o ad)) ([.ref o, .int a0] : List Value).toArray s 0 0 (mA o ad)) (F0 m 0 ls []) from hg s.heap [] hP va_S.rf
  clear hP
  intro H locs hP hS
  rw [f_X3_lets] at hf
  refine lv_aload_n hx hb dX3_lets_0 rfl (lv_at hl 0 rfl) ?_
  refine lv_iload_n hx hb dX3_lets_1 rfl (lv_at hl 1 rfl) ?_
  obtain ⟨v1, hv1, hf⟩ := ob_s hf
  refine mc_X3_X3_biddersOf S hC hK hP hv1 hl.1 ⟨Nat.le_of_ble_eq_true rfl, Nat.le_of_ble_eq_true rfl⟩ (Nat.le_of_ble_eq_true rfl) ⟨Nat.zero_le _, Nat.zero_le _⟩ dX3_lets_2 (fun _ => ?_)
  refine lv_istore_n (i := 2) (lv' := [(2, .int v1), (0, .ref o), (1, .int a0)]) hx hb dX3_lets_5 rfl hl (by decide) rfl (fun ls hl => ?_)
  refine lv_iconst hx hb dX3_lets_6 kc_i0 ?_
  refine lv_istore_n (i := 3) (lv' := [(3, .int 0), (2, .int v1), (0, .ref o), (1, .int a0)]) hx hb dX3_lets_7 rfl hl (by decide) rfl (fun ls hl => ?_)
  exact (w8 FU) a0 v1 0 nw ls H locs hP hS (lv_sub (l' := [(0, .ref o), (1, .int a0), (2, .int v1), (3, .int 0)]) hl [2, 3, 1, 0] rfl) hf
set_option maxRecDepth 100000 in
theorem mc_X3_X3_lets {a0 : Int32} {out : (Nat → Int32)} (S : CallFix p m c cc nL s args lw_all RX3) (hC : mC cl tys mi cI cJ cB) (hD : mD o ad) (hK : va_K D cl tys s) (hP : va_P D cl (mW mi cI cJ cB o ad th tp st fk fp ac si fr tt kd nu fa pl fo wd ci gr lm om nw rd aa kp ta nm rn gv gt rw rh lg lh ou) H) (hS : va_S (mA o ad) H0 H locs) (hf : f_X3_lets nw a0 = some out) (hsz : ls.size = nL) (hR : 6 + 1 ≤ R.frames ∧ 8 + (6 + 11) + 135 ≤ R.locals) (hW : (rest.map fun v => v.category).sum ≤ 8) (hcs : cells ≤ R.cells ∧ slots ≤ R.slots) (hdg : decode cc pc = .ok (.invokevirtual 313, 3)) (kk : ∀ (H1 : Heap) (locs1 : List Loc), True → va_P D cl (mW mi cI cJ cB o ad th tp st fk fp ac si fr tt kd nu fa pl fo wd ci gr lm om out rd aa kp ta nm rn gv gt rw rh lg lh ou) H1 → va_S (mA o ad) H0 H1 locs1 → W p l e R s m args below meth c H1 locs1 cells slots Q (F0 m (pc + 3) ls (rest))) : W p l e R s m args below meth c H locs cells slots Q (F0 m pc ls (.int a0 :: .ref o :: rest)) :=
  gc_Vv (As := [.int a0]) S (mm_X3_lets hC hD hf) (cwV 1 S.2.2.2.2 (lw_V q2415 q2417 qs144 q189 q2418) rfl rfl rfl hd_X3_lets hR) (gPreV hK hP hC.1 (q0 := 0) rfl) rfl hsz rfl hW hdg hcs hS kk
theorem hd_X3_weekEnds : yX3_weekEnds.cls = RX3 ∧ yX3_weekEnds.cls ≠ "java/lang/invoke/MethodHandle" ∧ yX3_weekEnds.cls ≠ "java/lang/invoke/VarHandle" ∧ (parseMethodDescriptor yX3_weekEnds.desc).map (fun d => d.parameters.length) = some 0 := by decide +kernel
set_option maxHeartbeats 4000000 in
set_option maxRecDepth 100000 in
theorem mm_X3_weekEnds  {out : Int32 × (Nat → Int32)} (hC : mC cl tys mi cI cJ cB) (hD : mD o ad) (hf : f_X3_weekEnds nw = some out) : Met l yX3_weekEnds (ws_ yX3_weekEnds cX3_weekEnds 4 (some .int)) (rM 7 160) (gPc D cl tys [.ref o] (mW mi cI cJ cB o ad th tp st fk fp ac si fr tt kd nu fa pl fo wd ci gr lm om nw rd aa kp ta nm rn gv gt rw rh lg lh ou)) (gQ D cl (some (.int out.1)) True (mW mi cI cJ cB o ad th tp st fk fp ac si fr tt kd nu fa pl fo wd ci gr lm om out.2 rd aa kp ta nm rn gv gt rw rh lg lh ou) (mA o ad)) 0 0 (mA o ad) := by
  refine gGo (by decide +kernel) (Nat.le_of_ble_eq_true rfl) (fun p e s m below meth c ls S hr hlocks hK hP hl => ?_)
  have S : CallFix p m c cX3_weekEnds 4 s _ lw_all RX3 := S
  obtain ⟨hx, hb, hml, hown, hts⟩ := id S
  have hl : lv_has ls 4 [(0, .ref o)] := hl
  have w114 : ∀ (k60 : Int32 → Int32 → Int32 → (Nat → Int32) → Option (Int32 × (Nat → Int32))), (∀ (b0 : Int32) (b1 : Int32) (b2 : Int32) (b3 : (Nat → Int32)) (ls : Array Slot) (H : Heap) (locs : List Loc), va_P D cl (mW mi cI cJ cB o ad th tp st fk fp ac si fr tt kd nu fa pl fo wd ci gr lm om b3 rd aa kp ta nm rn gv gt rw rh lg lh ou) H → va_S (mA o ad) s.heap H locs → lv_has ls 4 [(0, .ref o), (1, .int b0), (2, .int b1), (3, .int b2)] → k60 b0 b1 b2 b3 = some out → W p l e (rM 7 160) s m ([.ref o] : List Value).toArray below meth c H locs 0 0 (MQ below (gQ D cl (some (.int out.1)) True (mW mi cI cJ cB o ad th tp st fk fp ac si fr tt kd nu fa pl fo wd ci gr lm om out.2 rd aa kp ta nm rn gv gt rw rh lg lh ou) (mA o ad)) ([.ref o] : List Value).toArray s 0 0 (mA o ad)) (F0 m 60 ls [])) → ∀ (x1 : Int32) (x2 : Int32) (x3 : Int32) (y1 : Int32) (y2 : Int32) (y3 : Int32) (y4 : Int32) (nw : (Nat → Int32)) (ls : Array Slot) (H : Heap) (locs : List Loc), va_P D cl (mW mi cI cJ cB o ad th tp st fk fp ac si fr tt kd nu fa pl fo wd ci gr lm om nw rd aa kp ta nm rn gv gt rw rh lg lh ou) H → va_S (mA o ad) s.heap H locs → lv_has ls 4 [(0, .ref o), (1, .int x1), (2, .int x2), (3, .int x3)] → f_X3_weekEnds_114 k60 x1 x2 x3 y1 y2 y3 y4 nw = some out → W p l e (rM 7 160) s m ([.ref o] : List Value).toArray below meth c H locs 0 0 (MQ below (gQ D cl (some (.int out.1)) True (mW mi cI cJ cB o ad th tp st fk fp ac si fr tt kd nu fa pl fo wd ci gr lm om out.2 rd aa kp ta nm rn gv gt rw rh lg lh ou) (mA o ad)) ([.ref o] : List Value).toArray s 0 0 (mA o ad)) (F0 m 114 ls [.int y4, .int y3, .int y2, .int y1, .ref o]) := by
    intro k60 hk60 x1 x2 x3 y1 y2 y3 y4 nw ls H locs hP hS hl hf
    rw [f_X3_weekEnds_114] at hf
    refine lv_iadd hx hb dX3_weekEnds_114 ?_
    obtain ⟨v1, hv1, hf⟩ := ob_s hf
    refine mc_X3_X3_putsHome S hC hD hK hP hS hv1 hl.1 ⟨Nat.le_of_ble_eq_true rfl, Nat.le_of_ble_eq_true rfl⟩ (Nat.le_of_ble_eq_true rfl) ⟨Nat.zero_le _, Nat.zero_le _⟩ dX3_weekEnds_115 (fun H locs _ hP hS => ?_)
    refine lv_iinc (v := (x3 + 1)) (lv' := [(3, .int (x3 + 1)), (0, .ref o), (1, .int x1), (2, .int x2)]) hx hb dX3_weekEnds_118 hl (k := 3) rfl rfl (by decide) rfl (fun ls hl => ?_)
    refine lv_goto (tgt := 60) hx hb dX3_weekEnds_121 (by decide) ?_
    exact hk60 x1 x2 (x3 + 1) v1 ls H locs hP hS (lv_sub (l' := [(0, .ref o), (1, .int x1), (2, .int x2), (3, .int (x3 + 1))]) hl [1, 2, 3, 0] rfl) hf
  have w203 : ∀ (k153 : Int32 → Int32 → (Nat → Int32) → Option (Int32 × (Nat → Int32))), (∀ (b0 : Int32) (b1 : Int32) (b2 : (Nat → Int32)) (ls : Array Slot) (H : Heap) (locs : List Loc), va_P D cl (mW mi cI cJ cB o ad th tp st fk fp ac si fr tt kd nu fa pl fo wd ci gr lm om b2 rd aa kp ta nm rn gv gt rw rh lg lh ou) H → va_S (mA o ad) s.heap H locs → lv_has ls 4 [(0, .ref o), (1, .int b0), (3, .int b1)] → k153 b0 b1 b2 = some out → W p l e (rM 7 160) s m ([.ref o] : List Value).toArray below meth c H locs 0 0 (MQ below (gQ D cl (some (.int out.1)) True (mW mi cI cJ cB o ad th tp st fk fp ac si fr tt kd nu fa pl fo wd ci gr lm om out.2 rd aa kp ta nm rn gv gt rw rh lg lh ou) (mA o ad)) ([.ref o] : List Value).toArray s 0 0 (mA o ad)) (F0 m 153 ls [])) → ∀ (x1 : Int32) (x3 : Int32) (nw : (Nat → Int32)) (ls : Array Slot) (H : Heap) (locs : List Loc), va_P D cl (mW mi cI cJ cB o ad th tp st fk fp ac si fr tt kd nu fa pl fo wd ci gr lm om nw rd aa kp ta nm rn gv gt rw rh lg lh ou) H → va_S (mA o ad) s.heap H locs → lv_has ls 4 [(0, .ref o), (1, .int x1), (3, .int x3)] → f_X3_weekEnds_203 k153 x1 x3 nw = some out → W p l e (rM 7 160) s m ([.ref o] : List Value).toArray below meth c H locs 0 0 (MQ below (gQ D cl (some (.int out.1)) True (mW mi cI cJ cB o ad th tp st fk fp ac si fr tt kd nu fa pl fo wd ci gr lm om out.2 rd aa kp ta nm rn gv gt rw rh lg lh ou) (mA o ad)) ([.ref o] : List Value).toArray s 0 0 (mA o ad)) (F0 m 203 ls []) := by
    intro k153 hk153 x1 x3 nw ls H locs hP hS hl hf
    rw [f_X3_weekEnds_203] at hf
    refine lv_aload_n hx hb dX3_weekEnds_203 rfl (lv_at hl 0 rfl) ?_
    refine lv_iload_n hx hb dX3_weekEnds_204 rfl (lv_at hl 2 rfl) ?_
    refine lv_bipush hx hb dX3_weekEnds_205 kc_b7 ?_
    refine lv_iconst hx hb dX3_weekEnds_207 kc_i0 ?_
    obtain ⟨v1, hv1, hf⟩ := ob_s hf
    refine mc_X3_X3_puts S hC hD hK hP hS hv1 hl.1 ⟨Nat.le_of_ble_eq_true rfl, Nat.le_of_ble_eq_true rfl⟩ (Nat.le_of_ble_eq_true rfl) ⟨Nat.zero_le _, Nat.zero_le _⟩ dX3_weekEnds_208 (fun H locs _ hP hS => ?_)
    refine lv_iinc (v := (x3 + 1)) (lv' := [(3, .int (x3 + 1)), (0, .ref o), (1, .int x1)]) hx hb dX3_weekEnds_211 hl (k := 2) rfl rfl (by decide) rfl (fun ls hl => ?_)
    refine lv_goto (tgt := 153) hx hb dX3_weekEnds_214 (by decide) ?_
    exact hk153 x1 (x3 + 1) v1 ls H locs hP hS (lv_sub (l' := [(0, .ref o), (1, .int x1), (3, .int (x3 + 1))]) hl [1, 2, 0] rfl) hf
  have w153 : ∀ (n : Nat) , ∀ (x1 : Int32) (x3 : Int32) (nw : (Nat → Int32)) (ls : Array Slot) (H : Heap) (locs : List Loc), va_P D cl (mW mi cI cJ cB o ad th tp st fk fp ac si fr tt kd nu fa pl fo wd ci gr lm om nw rd aa kp ta nm rn gv gt rw rh lg lh ou) H → va_S (mA o ad) s.heap H locs → lv_has ls 4 [(0, .ref o), (1, .int x1), (3, .int x3)] → f_X3_weekEnds_153 n x1 x3 nw = some out → W p l e (rM 7 160) s m ([.ref o] : List Value).toArray below meth c H locs 0 0 (MQ below (gQ D cl (some (.int out.1)) True (mW mi cI cJ cB o ad th tp st fk fp ac si fr tt kd nu fa pl fo wd ci gr lm om out.2 rd aa kp ta nm rn gv gt rw rh lg lh ou) (mA o ad)) ([.ref o] : List Value).toArray s 0 0 (mA o ad)) (F0 m 153 ls []) := by
    intro n
    induction n with
    | zero =>
      intro x1 x3 nw ls H locs hP hS hl hf
      exact absurd hf (by rw [f_X3_weekEnds_153]; exact nofun)
    | succ n ih =>
      intro x1 x3 nw ls H locs hP hS hl hf
      rw [f_X3_weekEnds_153] at hf
      refine lv_iload_n hx hb dX3_weekEnds_153 rfl (lv_at hl 2 rfl) ?_
      refine lv_aload_n hx hb dX3_weekEnds_154 rfl (lv_at hl 0 rfl) ?_
      refine mg_1 S hC hK hP dX3_weekEnds_155 ?_
      refine lv_sipush hx hb dX3_weekEnds_158 kc_s231 ?_
      refine ma_1 S hC hK hP kv_231_390 kn_231 dX3_weekEnds_161 ?_
      refine lv_icmp_ge (tgt := 217) hx hb dX3_weekEnds_162 (by decide) (fun c1 => ?_) (fun c1 => ?_)
      · replace hf := it_t c1 hf
        refine lv_aload_n hx hb dX3_weekEnds_217 rfl (lv_at hl 0 rfl) ?_
        refine mg_1 S hC hK hP dX3_weekEnds_218 ?_
        refine lv_sipush hx hb dX3_weekEnds_221 kc_s232 ?_
        refine lv_dup2_11 hx hb dX3_weekEnds_224 rfl rfl ?_
        refine ma_1 S hC hK hP kv_232_390 kn_232 dX3_weekEnds_225 ?_
        refine lv_iconst hx hb dX3_weekEnds_226 kc_i1 ?_
        refine lv_iadd hx hb dX3_weekEnds_227 ?_
        refine ms_1 S hC hD hK hP hS kv_232_390 kn_232 dX3_weekEnds_228 (fun H locs hP hS => ?_)
        refine lv_aload_n hx hb dX3_weekEnds_229 rfl (lv_at hl 0 rfl) ?_
        refine mg_1 S hC hK hP dX3_weekEnds_230 ?_
        refine lv_sipush hx hb dX3_weekEnds_233 kc_s233 ?_
        refine ma_1 S hC hK hP kv_233_390 kn_233 dX3_weekEnds_236 ?_
        refine lv_iload_n hx hb dX3_weekEnds_237 rfl (lv_at hl 1 rfl) ?_
        refine lv_isub hx hb dX3_weekEnds_238 ?_
        have hE := Option.some.inj hf
        subst hE
        exact gt_wi S hr hlocks trivial hP hS dX3_weekEnds_239
      · replace hf := it_f c1 hf
        refine lv_aload_n hx hb dX3_weekEnds_165 rfl (lv_at hl 0 rfl) ?_
        refine lv_iload_n hx hb dX3_weekEnds_166 rfl (lv_at hl 2 rfl) ?_
        refine lv_bipush hx hb dX3_weekEnds_167 kc_b10 ?_
        refine lv_iconst hx hb dX3_weekEnds_169 kc_i0 ?_
        obtain ⟨v2, hv2, hf⟩ := ob_s hf
        refine mc_X3_X3_puts S hC hD hK hP hS hv2 hl.1 ⟨Nat.le_of_ble_eq_true rfl, Nat.le_of_ble_eq_true rfl⟩ (Nat.le_of_ble_eq_true rfl) ⟨Nat.zero_le _, Nat.zero_le _⟩ dX3_weekEnds_170 (fun H locs _ hP hS => ?_)
        refine lv_aload_n hx hb dX3_weekEnds_173 rfl (lv_at hl 0 rfl) ?_
        refine lv_iload_n hx hb dX3_weekEnds_174 rfl (lv_at hl 2 rfl) ?_
        refine lv_bipush hx hb dX3_weekEnds_175 kc_b7 ?_
        obtain ⟨v3, hv3, hf⟩ := ob_s hf
        refine mc_X3_X3_of S hC hK hP hv3 hl.1 ⟨Nat.le_of_ble_eq_true rfl, Nat.le_of_ble_eq_true rfl⟩ (Nat.le_of_ble_eq_true rfl) ⟨Nat.zero_le _, Nat.zero_le _⟩ dX3_weekEnds_177 (fun _ => ?_)
        refine lv_if_ne (tgt := 203) hx hb dX3_weekEnds_180 (by decide) (fun c4 => ?_) (fun c4 => ?_)
        · replace hf := it_f c4 hf
          exact (w203 (f_X3_weekEnds_153 n) (ih)) x1 x3 v2 ls H locs hP hS hl hf
        · replace hf := it_t c4 hf
          refine lv_aload_n hx hb dX3_weekEnds_183 rfl (lv_at hl 0 rfl) ?_
          refine lv_iload_n hx hb dX3_weekEnds_184 rfl (lv_at hl 2 rfl) ?_
          refine lv_bipush hx hb dX3_weekEnds_185 kc_b6 ?_
          refine lv_iconst hx hb dX3_weekEnds_187 kc_i0 ?_
          refine lv_aload_n hx hb dX3_weekEnds_188 rfl (lv_at hl 0 rfl) ?_
          refine lv_iload_n hx hb dX3_weekEnds_189 rfl (lv_at hl 2 rfl) ?_
          refine lv_bipush hx hb dX3_weekEnds_190 kc_b6 ?_
          obtain ⟨v5, hv5, hf⟩ := ob_s hf
          refine mc_X3_X3_of S hC hK hP hv5 hl.1 ⟨Nat.le_of_ble_eq_true rfl, Nat.le_of_ble_eq_true rfl⟩ (Nat.le_of_ble_eq_true rfl) ⟨Nat.zero_le _, Nat.zero_le _⟩ dX3_weekEnds_192 (fun _ => ?_)
          refine lv_iconst hx hb dX3_weekEnds_195 kc_i1 ?_
          refine lv_isub hx hb dX3_weekEnds_196 ?_
          obtain ⟨v6, hv6, hf⟩ := ob_s hf
          refine mc_X3_J6_max S hK hv6 hl.1 ⟨Nat.le_of_ble_eq_true rfl, Nat.le_of_ble_eq_true rfl⟩ (Nat.le_of_ble_eq_true rfl) ⟨Nat.zero_le _, Nat.zero_le _⟩ dX3_weekEnds_197 (fun _ => ?_)
          obtain ⟨v7, hv7, hf⟩ := ob_s hf
          refine mc_X3_X3_puts S hC hD hK hP hS hv7 hl.1 ⟨Nat.le_of_ble_eq_true rfl, Nat.le_of_ble_eq_true rfl⟩ (Nat.le_of_ble_eq_true rfl) ⟨Nat.zero_le _, Nat.zero_le _⟩ dX3_weekEnds_200 (fun H locs _ hP hS => ?_)
          exact (w203 (f_X3_weekEnds_153 n) (ih)) x1 x3 v7 ls H locs hP hS hl hf
  have w126 : ∀ (n : Nat) , ∀ (x1 : Int32) (x3 : Int32) (nw : (Nat → Int32)) (ls : Array Slot) (H : Heap) (locs : List Loc), va_P D cl (mW mi cI cJ cB o ad th tp st fk fp ac si fr tt kd nu fa pl fo wd ci gr lm om nw rd aa kp ta nm rn gv gt rw rh lg lh ou) H → va_S (mA o ad) s.heap H locs → lv_has ls 4 [(0, .ref o), (1, .int x1), (3, .int x3)] → f_X3_weekEnds_126 n x1 x3 nw = some out → W p l e (rM 7 160) s m ([.ref o] : List Value).toArray below meth c H locs 0 0 (MQ below (gQ D cl (some (.int out.1)) True (mW mi cI cJ cB o ad th tp st fk fp ac si fr tt kd nu fa pl fo wd ci gr lm om out.2 rd aa kp ta nm rn gv gt rw rh lg lh ou) (mA o ad)) ([.ref o] : List Value).toArray s 0 0 (mA o ad)) (F0 m 126 ls []) := by
    intro n
    induction n with
    | zero =>
      intro x1 x3 nw ls H locs hP hS hl hf
      exact absurd hf (by rw [f_X3_weekEnds_126]; exact nofun)
    | succ n ih =>
      intro x1 x3 nw ls H locs hP hS hl hf
      rw [f_X3_weekEnds_126] at hf
      refine lv_iload_n hx hb dX3_weekEnds_126 rfl (lv_at hl 2 rfl) ?_
      refine lv_aload_n hx hb dX3_weekEnds_127 rfl (lv_at hl 0 rfl) ?_
      refine mg_1 S hC hK hP dX3_weekEnds_128 ?_
      refine lv_sipush hx hb dX3_weekEnds_131 kc_s230 ?_
      refine ma_1 S hC hK hP kv_230_390 kn_230 dX3_weekEnds_134 ?_
      refine lv_icmp_ge (tgt := 151) hx hb dX3_weekEnds_135 (by decide) (fun c1 => ?_) (fun c1 => ?_)
      · replace hf := it_t c1 hf
        refine lv_iconst hx hb dX3_weekEnds_151 kc_i0 ?_
        refine lv_istore_n (i := 3) (lv' := [(3, .int 0), (0, .ref o), (1, .int x1)]) hx hb dX3_weekEnds_152 rfl hl (by decide) rfl (fun ls hl => ?_)
        exact (w153 FU) x1 0 nw ls H locs hP hS (lv_sub (l' := [(0, .ref o), (1, .int x1), (3, .int 0)]) hl [1, 2, 0] rfl) hf
      · replace hf := it_f c1 hf
        refine lv_aload_n hx hb dX3_weekEnds_138 rfl (lv_at hl 0 rfl) ?_
        refine lv_iload_n hx hb dX3_weekEnds_139 rfl (lv_at hl 2 rfl) ?_
        refine lv_iconst hx hb dX3_weekEnds_140 kc_i3 ?_
        refine lv_iconst hx hb dX3_weekEnds_141 kc_i0 ?_
        obtain ⟨v2, hv2, hf⟩ := ob_s hf
        refine mc_X3_X3_putsHome S hC hD hK hP hS hv2 hl.1 ⟨Nat.le_of_ble_eq_true rfl, Nat.le_of_ble_eq_true rfl⟩ (Nat.le_of_ble_eq_true rfl) ⟨Nat.zero_le _, Nat.zero_le _⟩ dX3_weekEnds_142 (fun H locs _ hP hS => ?_)
        refine lv_iinc (v := (x3 + 1)) (lv' := [(3, .int (x3 + 1)), (0, .ref o), (1, .int x1)]) hx hb dX3_weekEnds_145 hl (k := 2) rfl rfl (by decide) rfl (fun ls hl => ?_)
        refine lv_goto (tgt := 126) hx hb dX3_weekEnds_148 (by decide) ?_
        exact (ih) x1 (x3 + 1) v2 ls H locs hP hS (lv_sub (l' := [(0, .ref o), (1, .int x1), (3, .int (x3 + 1))]) hl [1, 2, 0] rfl) hf
  have w60 : ∀ (n : Nat) , ∀ (x1 : Int32) (x2 : Int32) (x3 : Int32) (nw : (Nat → Int32)) (ls : Array Slot) (H : Heap) (locs : List Loc), va_P D cl (mW mi cI cJ cB o ad th tp st fk fp ac si fr tt kd nu fa pl fo wd ci gr lm om nw rd aa kp ta nm rn gv gt rw rh lg lh ou) H → va_S (mA o ad) s.heap H locs → lv_has ls 4 [(0, .ref o), (1, .int x1), (2, .int x2), (3, .int x3)] → f_X3_weekEnds_60 n x1 x2 x3 nw = some out → W p l e (rM 7 160) s m ([.ref o] : List Value).toArray below meth c H locs 0 0 (MQ below (gQ D cl (some (.int out.1)) True (mW mi cI cJ cB o ad th tp st fk fp ac si fr tt kd nu fa pl fo wd ci gr lm om out.2 rd aa kp ta nm rn gv gt rw rh lg lh ou) (mA o ad)) ([.ref o] : List Value).toArray s 0 0 (mA o ad)) (F0 m 60 ls []) := by
    intro n
    induction n with
    | zero =>
      intro x1 x2 x3 nw ls H locs hP hS hl hf
      exact absurd hf (by rw [f_X3_weekEnds_60]; exact nofun)
    | succ n ih =>
      intro x1 x2 x3 nw ls H locs hP hS hl hf
      rw [f_X3_weekEnds_60] at hf
      refine lv_iload_n hx hb dX3_weekEnds_60 rfl (lv_at hl 3 rfl) ?_
      refine lv_aload_n hx hb dX3_weekEnds_61 rfl (lv_at hl 0 rfl) ?_
      refine mg_1 S hC hK hP dX3_weekEnds_62 ?_
      refine lv_sipush hx hb dX3_weekEnds_65 kc_s230 ?_
      refine ma_1 S hC hK hP kv_230_390 kn_230 dX3_weekEnds_68 ?_
      refine lv_icmp_ge (tgt := 124) hx hb dX3_weekEnds_69 (by decide) (fun c1 => ?_) (fun c1 => ?_)
      · replace hf := it_t c1 hf
        refine lv_iconst hx hb dX3_weekEnds_124 kc_i0 ?_
        refine lv_istore_n (i := 3) (lv' := [(3, .int 0), (0, .ref o), (1, .int x1), (2, .int x2)]) hx hb dX3_weekEnds_125 rfl hl (by decide) rfl (fun ls hl => ?_)
        exact (w126 FU) x1 0 nw ls H locs hP hS (lv_sub (l' := [(0, .ref o), (1, .int x1), (3, .int 0)]) hl [1, 2, 0] rfl) hf
      · replace hf := it_f c1 hf
        refine lv_iload_n hx hb dX3_weekEnds_72 rfl (lv_at hl 2 rfl) ?_
        refine lv_iload_n hx hb dX3_weekEnds_73 rfl (lv_at hl 3 rfl) ?_
        refine lv_ishr hx hb dX3_weekEnds_74 ?_
        refine lv_iconst hx hb dX3_weekEnds_75 kc_i1 ?_
        refine lv_iand hx hb dX3_weekEnds_76 ?_
        refine lv_if_ne (tgt := 83) hx hb dX3_weekEnds_77 (by decide) (fun c2 => ?_) (fun c2 => ?_)
        · replace hf := it_f c2 hf
          refine lv_aload_n hx hb dX3_weekEnds_83 rfl (lv_at hl 0 rfl) ?_
          refine lv_iload_n hx hb dX3_weekEnds_84 rfl (lv_at hl 3 rfl) ?_
          obtain ⟨v3, hv3, hf⟩ := ob_s hf
          refine mc_X3_X3_lets S hC hD hK hP hS hv3 hl.1 ⟨Nat.le_of_ble_eq_true rfl, Nat.le_of_ble_eq_true rfl⟩ (Nat.le_of_ble_eq_true rfl) ⟨Nat.zero_le _, Nat.zero_le _⟩ dX3_weekEnds_85 (fun H locs _ hP hS => ?_)
          refine lv_aload_n hx hb dX3_weekEnds_88 rfl (lv_at hl 0 rfl) ?_
          refine lv_iload_n hx hb dX3_weekEnds_89 rfl (lv_at hl 3 rfl) ?_
          refine lv_bipush hx hb dX3_weekEnds_90 kc_b7 ?_
          refine lv_aload_n hx hb dX3_weekEnds_92 rfl (lv_at hl 0 rfl) ?_
          refine lv_iload_n hx hb dX3_weekEnds_93 rfl (lv_at hl 3 rfl) ?_
          refine lv_bipush hx hb dX3_weekEnds_94 kc_b7 ?_
          obtain ⟨v4, hv4, hf⟩ := ob_s hf
          refine mc_X3_X3_home0 S hC hK hP hv4 hl.1 ⟨Nat.le_of_ble_eq_true rfl, Nat.le_of_ble_eq_true rfl⟩ (Nat.le_of_ble_eq_true rfl) ⟨Nat.zero_le _, Nat.zero_le _⟩ dX3_weekEnds_96 (fun _ => ?_)
          refine lv_aload_n hx hb dX3_weekEnds_99 rfl (lv_at hl 0 rfl) ?_
          refine lv_iload_n hx hb dX3_weekEnds_100 rfl (lv_at hl 3 rfl) ?_
          refine lv_iconst hx hb dX3_weekEnds_101 kc_i2 ?_
          obtain ⟨v5, hv5, hf⟩ := ob_s hf
          refine mc_X3_X3_home0 S hC hK hP hv5 hl.1 ⟨Nat.le_of_ble_eq_true rfl, Nat.le_of_ble_eq_true rfl⟩ (Nat.le_of_ble_eq_true rfl) ⟨Nat.zero_le _, Nat.zero_le _⟩ dX3_weekEnds_102 (fun _ => ?_)
          refine lv_iconst hx hb dX3_weekEnds_105 kc_im1 ?_
          refine lv_icmp_ne (tgt := 113) hx hb dX3_weekEnds_106 (by decide) (fun c6 => ?_) (fun c6 => ?_)
          · replace hf := it_f c6 hf
            refine lv_iconst hx hb dX3_weekEnds_113 kc_i0 ?_
            exact (w114 (f_X3_weekEnds_60 n) (ih)) x1 x2 x3 x3 (nI 7) v4 0 v3 ls H locs hP hS hl hf
          · replace hf := it_t c6 hf
            refine lv_iconst hx hb dX3_weekEnds_109 kc_i1 ?_
            refine lv_goto (tgt := 114) hx hb dX3_weekEnds_110 (by decide) ?_
            exact (w114 (f_X3_weekEnds_60 n) (ih)) x1 x2 x3 x3 (nI 7) v4 1 v3 ls H locs hP hS hl hf
        · replace hf := it_t c2 hf
          refine lv_goto (tgt := 118) hx hb dX3_weekEnds_80 (by decide) ?_
          refine lv_iinc (v := (x3 + 1)) (lv' := [(3, .int (x3 + 1)), (0, .ref o), (1, .int x1), (2, .int x2)]) hx hb dX3_weekEnds_118 hl (k := 3) rfl rfl (by decide) rfl (fun ls hl => ?_)
          refine lv_goto (tgt := 60) hx hb dX3_weekEnds_121 (by decide) ?_
          exact (ih) x1 x2 (x3 + 1) nw ls H locs hP hS (lv_sub (l' := [(0, .ref o), (1, .int x1), (2, .int x2), (3, .int (x3 + 1))]) hl [1, 2, 3, 0] rfl) hf
  have w22 : ∀ (n : Nat) , ∀ (x1 : Int32) (x2 : Int32) (x3 : Int32) (nw : (Nat → Int32)) (ls : Array Slot) (H : Heap) (locs : List Loc), va_P D cl (mW mi cI cJ cB o ad th tp st fk fp ac si fr tt kd nu fa pl fo wd ci gr lm om nw rd aa kp ta nm rn gv gt rw rh lg lh ou) H → va_S (mA o ad) s.heap H locs → lv_has ls 4 [(0, .ref o), (1, .int x1), (2, .int x2), (3, .int x3)] → f_X3_weekEnds_22 n x1 x2 x3 nw = some out → W p l e (rM 7 160) s m ([.ref o] : List Value).toArray below meth c H locs 0 0 (MQ below (gQ D cl (some (.int out.1)) True (mW mi cI cJ cB o ad th tp st fk fp ac si fr tt kd nu fa pl fo wd ci gr lm om out.2 rd aa kp ta nm rn gv gt rw rh lg lh ou) (mA o ad)) ([.ref o] : List Value).toArray s 0 0 (mA o ad)) (F0 m 22 ls []) := by
    intro n
    induction n with
    | zero =>
      intro x1 x2 x3 nw ls H locs hP hS hl hf
      exact absurd hf (by rw [f_X3_weekEnds_22]; exact nofun)
    | succ n ih =>
      intro x1 x2 x3 nw ls H locs hP hS hl hf
      rw [f_X3_weekEnds_22] at hf
      refine lv_iload_n hx hb dX3_weekEnds_22 rfl (lv_at hl 3 rfl) ?_
      refine lv_aload_n hx hb dX3_weekEnds_23 rfl (lv_at hl 0 rfl) ?_
      refine mg_1 S hC hK hP dX3_weekEnds_24 ?_
      refine lv_sipush hx hb dX3_weekEnds_27 kc_s230 ?_
      refine ma_1 S hC hK hP kv_230_390 kn_230 dX3_weekEnds_30 ?_
      refine lv_icmp_ge (tgt := 58) hx hb dX3_weekEnds_31 (by decide) (fun c1 => ?_) (fun c1 => ?_)
      · replace hf := it_t c1 hf
        refine lv_iconst hx hb dX3_weekEnds_58 kc_i0 ?_
        refine lv_istore_n (i := 3) (lv' := [(3, .int 0), (0, .ref o), (1, .int x1), (2, .int x2)]) hx hb dX3_weekEnds_59 rfl hl (by decide) rfl (fun ls hl => ?_)
        exact (w60 FU) x1 x2 0 nw ls H locs hP hS (lv_sub (l' := [(0, .ref o), (1, .int x1), (2, .int x2), (3, .int 0)]) hl [1, 2, 3, 0] rfl) hf
      · replace hf := it_f c1 hf
        refine lv_iload_n hx hb dX3_weekEnds_34 rfl (lv_at hl 2 rfl) ?_
        refine lv_aload_n hx hb dX3_weekEnds_35 rfl (lv_at hl 0 rfl) ?_
        refine lv_iload_n hx hb dX3_weekEnds_36 rfl (lv_at hl 3 rfl) ?_
        obtain ⟨v2, hv2, hf⟩ := ob_s hf
        refine mc_X3_X3_isFree S hC hK hP hv2 hl.1 ⟨Nat.le_of_ble_eq_true rfl, Nat.le_of_ble_eq_true rfl⟩ (Nat.le_of_ble_eq_true rfl) ⟨Nat.zero_le _, Nat.zero_le _⟩ dX3_weekEnds_37 (fun hnv2 => ?_)
        refine lv_if_eq (tgt := 49) hx hb dX3_weekEnds_40 (by decide) (fun c3 => ?_) (fun c3 => ?_)
        · replace hf := it_t c3 hf
          refine lv_iconst hx hb dX3_weekEnds_49 kc_i0 ?_
          refine lv_ior hx hb dX3_weekEnds_50 ?_
          refine lv_istore_n (i := 2) (lv' := [(2, .int (x2 ||| 0)), (0, .ref o), (1, .int x1), (3, .int x3)]) hx hb dX3_weekEnds_51 rfl hl (by decide) rfl (fun ls hl => ?_)
          refine lv_iinc (v := (x3 + 1)) (lv' := [(3, .int (x3 + 1)), (2, .int (x2 ||| 0)), (0, .ref o), (1, .int x1)]) hx hb dX3_weekEnds_52 hl (k := 3) rfl rfl (by decide) rfl (fun ls hl => ?_)
          refine lv_goto (tgt := 22) hx hb dX3_weekEnds_55 (by decide) ?_
          exact (ih) x1 (x2 ||| 0) (x3 + 1) nw ls H locs hP hS (lv_sub (l' := [(0, .ref o), (1, .int x1), (2, .int (x2 ||| 0)), (3, .int (x3 + 1))]) hl [2, 3, 1, 0] rfl) hf
        · replace hf := it_f c3 hf
          refine lv_iconst hx hb dX3_weekEnds_43 kc_i1 ?_
          refine lv_iload_n hx hb dX3_weekEnds_44 rfl (lv_at hl 3 rfl) ?_
          refine lv_ishl hx hb dX3_weekEnds_45 ?_
          refine lv_goto (tgt := 50) hx hb dX3_weekEnds_46 (by decide) ?_
          refine lv_ior hx hb dX3_weekEnds_50 ?_
          refine lv_istore_n (i := 2) (lv' := [(2, .int (x2 ||| (1 <<< (x3 &&& 31)))), (0, .ref o), (1, .int x1), (3, .int x3)]) hx hb dX3_weekEnds_51 rfl hl (by decide) rfl (fun ls hl => ?_)
          refine lv_iinc (v := (x3 + 1)) (lv' := [(3, .int (x3 + 1)), (2, .int (x2 ||| (1 <<< (x3 &&& 31)))), (0, .ref o), (1, .int x1)]) hx hb dX3_weekEnds_52 hl (k := 3) rfl rfl (by decide) rfl (fun ls hl => ?_)
          refine lv_goto (tgt := 22) hx hb dX3_weekEnds_55 (by decide) ?_
          exact (ih) x1 (x2 ||| (1 <<< (x3 &&& 31))) (x3 + 1) nw ls H locs hP hS (lv_sub (l' := [(0, .ref o), (1, .int x1), (2, .int (x2 ||| (1 <<< (x3 &&& 31)))), (3, .int (x3 + 1))]) hl [2, 3, 1, 0] rfl) hf
  suffices hg : ∀ (H : Heap) (locs : List Loc), va_P D cl (mW mi cI cJ cB o ad th tp st fk fp ac si fr tt kd nu fa pl fo wd ci gr lm om nw rd aa kp ta nm rn gv gt rw rh lg lh ou) H → va_S (mA o ad) s.heap H locs → W p l e (rM 7 160) s m ([.ref o] : List Value).toArray below meth c H locs 0 0 (MQ below (gQ D cl (some (.int out.1)) True (mW mi cI cJ cB o ad th tp st fk fp ac si fr tt kd nu fa pl fo wd ci gr lm om out.2 rd aa kp ta nm rn gv gt rw rh lg lh ou) (mA o ad)) ([.ref o] : List Value).toArray s 0 0 (mA o ad)) (F0 m 0 ls []) from hg s.heap [] hP va_S.rf
  clear hP
  intro H locs hP hS
  rw [f_X3_weekEnds] at hf
  refine lv_aload_n hx hb dX3_weekEnds_0 rfl (lv_at hl 0 rfl) ?_
  refine mg_1 S hC hK hP dX3_weekEnds_1 ?_
  refine lv_sipush hx hb dX3_weekEnds_4 kc_s233 ?_
  refine ma_1 S hC hK hP kv_233_390 kn_233 dX3_weekEnds_7 ?_
  refine lv_istore_n (i := 1) (lv' := [(1, .int (nw 233)), (0, .ref o)]) hx hb dX3_weekEnds_8 rfl hl (by decide) rfl (fun ls hl => ?_)
  refine lv_iconst hx hb dX3_weekEnds_9 kc_i0 ?_
  refine lv_istore_n (i := 2) (lv' := [(2, .int 0), (1, .int (nw 233)), (0, .ref o)]) hx hb dX3_weekEnds_10 rfl hl (by decide) rfl (fun ls hl => ?_)
  refine lv_aload_n hx hb dX3_weekEnds_11 rfl (lv_at hl 2 rfl) ?_
  refine mg_1 S hC hK hP dX3_weekEnds_12 ?_
  refine lv_sipush hx hb dX3_weekEnds_15 kc_s299 ?_
  refine lv_iconst hx hb dX3_weekEnds_18 kc_i0 ?_
  refine ms_1 S hC hD hK hP hS kv_299_390 kn_299 dX3_weekEnds_19 (fun H locs hP hS => ?_)
  refine lv_iconst hx hb dX3_weekEnds_20 kc_i0 ?_
  refine lv_istore_n (i := 3) (lv' := [(3, .int 0), (2, .int 0), (1, .int (nw 233)), (0, .ref o)]) hx hb dX3_weekEnds_21 rfl hl (by decide) rfl (fun ls hl => ?_)
  exact (w22 FU) (nw 233) 0 0 (upd nw 299 0) ls H locs hP hS (lv_sub (l' := [(0, .ref o), (1, .int (nw 233)), (2, .int 0), (3, .int 0)]) hl [3, 2, 1, 0] rfl) hf
set_option maxRecDepth 100000 in
theorem mc_X3_X3_weekEnds  {out : Int32 × (Nat → Int32)} (S : CallFix p m c cc nL s args lw_all RX3) (hC : mC cl tys mi cI cJ cB) (hD : mD o ad) (hK : va_K D cl tys s) (hP : va_P D cl (mW mi cI cJ cB o ad th tp st fk fp ac si fr tt kd nu fa pl fo wd ci gr lm om nw rd aa kp ta nm rn gv gt rw rh lg lh ou) H) (hS : va_S (mA o ad) H0 H locs) (hf : f_X3_weekEnds nw = some out) (hsz : ls.size = nL) (hR : 7 + 1 ≤ R.frames ∧ 8 + (4 + 11) + 160 ≤ R.locals) (hW : (rest.map fun v => v.category).sum ≤ 8) (hcs : cells ≤ R.cells ∧ slots ≤ R.slots) (hdg : decode cc pc = .ok (.invokevirtual 328, 3)) (kk : ∀ (H1 : Heap) (locs1 : List Loc), True → va_P D cl (mW mi cI cJ cB o ad th tp st fk fp ac si fr tt kd nu fa pl fo wd ci gr lm om out.2 rd aa kp ta nm rn gv gt rw rh lg lh ou) H1 → va_S (mA o ad) H0 H1 locs1 → W p l e R s m args below meth c H1 locs1 cells slots Q (F0 m (pc + 3) ls (.int out.1 :: rest))) : W p l e R s m args below meth c H locs cells slots Q (F0 m pc ls (.ref o :: rest)) :=
  gc_Vw (As := []) S (mm_X3_weekEnds hC hD hf) (cwV 0 S.2.2.2.2 (lw_V q2411 q2413 qs143 q189 q2414) rfl rfl rfl hd_X3_weekEnds hR) (gPreV hK hP hC.1 (q0 := 0) rfl) rfl hsz rfl hW hdg hcs hS kk
theorem hd_X3_oneMore : yX3_oneMore.cls = RX3 ∧ yX3_oneMore.cls ≠ "java/lang/invoke/MethodHandle" ∧ yX3_oneMore.cls ≠ "java/lang/invoke/VarHandle" ∧ (parseMethodDescriptor yX3_oneMore.desc).map (fun d => d.parameters.length) = some 0 := by decide +kernel
set_option maxHeartbeats 4000000 in
set_option maxRecDepth 100000 in
theorem mm_X3_oneMore  {out : (Nat → Int32)} (hC : mC cl tys mi cI cJ cB) (hD : mD o ad) (hf : f_X3_oneMore nw = some out) : Met l yX3_oneMore (ws_ yX3_oneMore cX3_oneMore 1 none) (rM 8 183) (gPc D cl tys [.ref o] (mW mi cI cJ cB o ad th tp st fk fp ac si fr tt kd nu fa pl fo wd ci gr lm om nw rd aa kp ta nm rn gv gt rw rh lg lh ou)) (gQ D cl none True (mW mi cI cJ cB o ad th tp st fk fp ac si fr tt kd nu fa pl fo wd ci gr lm om out rd aa kp ta nm rn gv gt rw rh lg lh ou) (mA o ad)) 0 0 (mA o ad) := by
  refine gGo (by decide +kernel) (Nat.le_of_ble_eq_true rfl) (fun p e s m below meth c ls S hr hlocks hK hP hl => ?_)
  have S : CallFix p m c cX3_oneMore 1 s _ lw_all RX3 := S
  obtain ⟨hx, hb, hml, hown, hts⟩ := id S
  have hl : lv_has ls 1 [(0, .ref o)] := hl
  suffices hg : ∀ (H : Heap) (locs : List Loc), va_P D cl (mW mi cI cJ cB o ad th tp st fk fp ac si fr tt kd nu fa pl fo wd ci gr lm om nw rd aa kp ta nm rn gv gt rw rh lg lh ou) H → va_S (mA o ad) s.heap H locs → W p l e (rM 8 183) s m ([.ref o] : List Value).toArray below meth c H locs 0 0 (MQ below (gQ D cl none True (mW mi cI cJ cB o ad th tp st fk fp ac si fr tt kd nu fa pl fo wd ci gr lm om out rd aa kp ta nm rn gv gt rw rh lg lh ou) (mA o ad)) ([.ref o] : List Value).toArray s 0 0 (mA o ad)) (F0 m 0 ls []) from hg s.heap [] hP va_S.rf
  clear hP
  intro H locs hP hS
  rw [f_X3_oneMore] at hf
  refine lv_aload_n hx hb dX3_oneMore_0 rfl (lv_at hl 0 rfl) ?_
  obtain ⟨v1, hv1, hf⟩ := ob_s hf
  refine mc_X3_X3_allBid S hC hD hK hP hS hv1 hl.1 ⟨Nat.le_of_ble_eq_true rfl, Nat.le_of_ble_eq_true rfl⟩ (Nat.le_of_ble_eq_true rfl) ⟨Nat.zero_le _, Nat.zero_le _⟩ dX3_oneMore_1 (fun H locs _ hP hS => ?_)
  refine lv_pop hx hb dX3_oneMore_4 rfl ?_
  refine lv_aload_n hx hb dX3_oneMore_5 rfl (lv_at hl 0 rfl) ?_
  refine mg_1 S hC hK hP dX3_oneMore_6 ?_
  refine lv_sipush hx hb dX3_oneMore_9 kc_s232 ?_
  refine ma_1 S hC hK hP kv_232_390 kn_232 dX3_oneMore_12 ?_
  refine lv_sipush hx hb dX3_oneMore_13 kc_s999 ?_
  refine lv_icmp_ge (tgt := 24) hx hb dX3_oneMore_16 (by decide) (fun c2 => ?_) (fun c2 => ?_)
  · replace hf := it_t c2 hf
    have hE := Option.some.inj hf
    subst hE
    exact gt_wv S hr hlocks trivial hP hS dX3_oneMore_24
  · replace hf := it_f c2 hf
    refine lv_aload_n hx hb dX3_oneMore_19 rfl (lv_at hl 0 rfl) ?_
    obtain ⟨v3, hv3, hf⟩ := ob_s hf
    refine mc_X3_X3_weekEnds S hC hD hK hP hS hv3 hl.1 ⟨Nat.le_of_ble_eq_true rfl, Nat.le_of_ble_eq_true rfl⟩ (Nat.le_of_ble_eq_true rfl) ⟨Nat.zero_le _, Nat.zero_le _⟩ dX3_oneMore_20 (fun H locs _ hP hS => ?_)
    refine lv_pop hx hb dX3_oneMore_23 rfl ?_
    have hE := Option.some.inj hf
    subst hE
    exact gt_wv S hr hlocks trivial hP hS dX3_oneMore_24
set_option maxRecDepth 100000 in
theorem mc_X3_X3_oneMore  {out : (Nat → Int32)} (S : CallFix p m c cc nL s args lw_all RX3) (hC : mC cl tys mi cI cJ cB) (hD : mD o ad) (hK : va_K D cl tys s) (hP : va_P D cl (mW mi cI cJ cB o ad th tp st fk fp ac si fr tt kd nu fa pl fo wd ci gr lm om nw rd aa kp ta nm rn gv gt rw rh lg lh ou) H) (hS : va_S (mA o ad) H0 H locs) (hf : f_X3_oneMore nw = some out) (hsz : ls.size = nL) (hR : 8 + 1 ≤ R.frames ∧ 8 + (1 + 11) + 183 ≤ R.locals) (hW : (rest.map fun v => v.category).sum ≤ 8) (hcs : cells ≤ R.cells ∧ slots ≤ R.slots) (hdg : decode cc pc = .ok (.invokevirtual 331, 3)) (kk : ∀ (H1 : Heap) (locs1 : List Loc), True → va_P D cl (mW mi cI cJ cB o ad th tp st fk fp ac si fr tt kd nu fa pl fo wd ci gr lm om out rd aa kp ta nm rn gv gt rw rh lg lh ou) H1 → va_S (mA o ad) H0 H1 locs1 → W p l e R s m args below meth c H1 locs1 cells slots Q (F0 m (pc + 3) ls (rest))) : W p l e R s m args below meth c H locs cells slots Q (F0 m pc ls (.ref o :: rest)) :=
  gc_Vv (As := []) S (mm_X3_oneMore hC hD hf) (cwV 0 S.2.2.2.2 (lw_V q2395 q2397 qs139 q189 q2398) rfl rfl rfl hd_X3_oneMore hR) (gPreV hK hP hC.1 (q0 := 0) rfl) rfl hsz rfl hW hdg hcs hS kk
set_option maxHeartbeats 4000000 in
set_option maxRecDepth 100000 in
theorem mm_X3_copies_aa_nw  {out : (Nat → Int32)} (hC : mC cl tys mi cI cJ cB) (hD : mD o ad) (hf : f_X3_copies_aa_nw aa nw = some out) : Met l yX3_copies (ws_ yX3_copies cX3_copies 3 none) (rM 0 0) (gPc D cl tys [.ref (ad 3), .ref (ad 1)] (mW mi cI cJ cB o ad th tp st fk fp ac si fr tt kd nu fa pl fo wd ci gr lm om nw rd aa kp ta nm rn gv gt rw rh lg lh ou)) (gQ D cl none True (mW mi cI cJ cB o ad th tp st fk fp ac si fr tt kd nu fa pl fo wd ci gr lm om out rd aa kp ta nm rn gv gt rw rh lg lh ou) (mA o ad)) 0 0 (mA o ad) := by
  refine gGo (by decide +kernel) (Nat.le_of_ble_eq_true rfl) (fun p e s m below meth c ls S hr hlocks hK hP hl => ?_)
  have S : CallFix p m c cX3_copies 3 s _ lw_all RX3 := S
  obtain ⟨hx, hb, hml, hown, hts⟩ := id S
  have hl : lv_has ls 3 [(0, .ref (ad 3)), (1, .ref (ad 1))] := hl
  have w2 : ∀ (n : Nat) , ∀ (x2 : Int32) (nw : (Nat → Int32)) (ls : Array Slot) (H : Heap) (locs : List Loc), va_P D cl (mW mi cI cJ cB o ad th tp st fk fp ac si fr tt kd nu fa pl fo wd ci gr lm om nw rd aa kp ta nm rn gv gt rw rh lg lh ou) H → va_S (mA o ad) s.heap H locs → lv_has ls 3 [(0, .ref (ad 3)), (1, .ref (ad 1)), (2, .int x2)] → f_X3_copies_aa_nw_2 n aa x2 nw = some out → W p l e (rM 0 0) s m ([.ref (ad 3), .ref (ad 1)] : List Value).toArray below meth c H locs 0 0 (MQ below (gQ D cl none True (mW mi cI cJ cB o ad th tp st fk fp ac si fr tt kd nu fa pl fo wd ci gr lm om out rd aa kp ta nm rn gv gt rw rh lg lh ou) (mA o ad)) ([.ref (ad 3), .ref (ad 1)] : List Value).toArray s 0 0 (mA o ad)) (F0 m 2 ls []) := by
    intro n
    induction n with
    | zero =>
      intro x2 nw ls H locs hP hS hl hf
      exact absurd hf (by rw [f_X3_copies_aa_nw_2]; exact nofun)
    | succ n ih =>
      intro x2 nw ls H locs hP hS hl hf
      rw [f_X3_copies_aa_nw_2] at hf
      refine lv_iload_n hx hb dX3_copies_2 rfl (lv_at hl 2 rfl) ?_
      refine lv_sipush hx hb dX3_copies_3 kc_s390 ?_
      refine lv_icmp_ge (tgt := 21) hx hb dX3_copies_6 (by decide) (fun c1 => ?_) (fun c1 => ?_)
      · replace hf := it_t c1 hf
        have hE := Option.some.inj hf
        subst hE
        exact gt_wv S hr hlocks trivial hP hS dX3_copies_21
      · replace hf := it_f c1 hf
        refine lv_aload_n hx hb dX3_copies_9 rfl (lv_at hl 1 rfl) ?_
        refine lv_iload_n hx hb dX3_copies_10 rfl (lv_at hl 2 rfl) ?_
        refine lv_aload_n hx hb dX3_copies_11 rfl (lv_at hl 0 rfl) ?_
        refine lv_iload_n hx hb dX3_copies_12 rfl (lv_at hl 2 rfl) ?_
        obtain ⟨g2, hf⟩ := gd_t hf
        refine ma_3 S hC hK hP (inR_vp g2) rfl dX3_copies_13 ?_
        obtain ⟨g3, hf⟩ := gd_t hf
        refine ms_1 S hC hD hK hP hS (inR_vp g3) rfl dX3_copies_14 (fun H locs hP hS => ?_)
        refine lv_iinc (v := (x2 + 1)) (lv' := [(2, .int (x2 + 1)), (0, .ref (ad 3)), (1, .ref (ad 1))]) hx hb dX3_copies_15 hl (k := 2) rfl rfl (by decide) rfl (fun ls hl => ?_)
        refine lv_goto (tgt := 2) hx hb dX3_copies_18 (by decide) ?_
        exact (ih) (x2 + 1) (upd nw x2.toNatClampNeg (aa x2.toNatClampNeg)) ls H locs hP hS (lv_sub (l' := [(0, .ref (ad 3)), (1, .ref (ad 1)), (2, .int (x2 + 1))]) hl [1, 2, 0] rfl) hf
  suffices hg : ∀ (H : Heap) (locs : List Loc), va_P D cl (mW mi cI cJ cB o ad th tp st fk fp ac si fr tt kd nu fa pl fo wd ci gr lm om nw rd aa kp ta nm rn gv gt rw rh lg lh ou) H → va_S (mA o ad) s.heap H locs → W p l e (rM 0 0) s m ([.ref (ad 3), .ref (ad 1)] : List Value).toArray below meth c H locs 0 0 (MQ below (gQ D cl none True (mW mi cI cJ cB o ad th tp st fk fp ac si fr tt kd nu fa pl fo wd ci gr lm om out rd aa kp ta nm rn gv gt rw rh lg lh ou) (mA o ad)) ([.ref (ad 3), .ref (ad 1)] : List Value).toArray s 0 0 (mA o ad)) (F0 m 0 ls []) from hg s.heap [] hP va_S.rf
  clear hP
  intro H locs hP hS
  rw [f_X3_copies_aa_nw] at hf
  refine lv_iconst hx hb dX3_copies_0 kc_i0 ?_
  refine lv_istore_n (i := 2) (lv' := [(2, .int 0), (0, .ref (ad 3)), (1, .ref (ad 1))]) hx hb dX3_copies_1 rfl hl (by decide) rfl (fun ls hl => ?_)
  exact (w2 FU) 0 nw ls H locs hP hS (lv_sub (l' := [(0, .ref (ad 3)), (1, .ref (ad 1)), (2, .int 0)]) hl [1, 2, 0] rfl) hf
set_option maxRecDepth 100000 in
theorem mc_X3_X3_copies_aa_nw  {out : (Nat → Int32)} (S : CallFix p m c cc nL s args lw_all RX3) (hC : mC cl tys mi cI cJ cB) (hD : mD o ad) (hK : va_K D cl tys s) (hP : va_P D cl (mW mi cI cJ cB o ad th tp st fk fp ac si fr tt kd nu fa pl fo wd ci gr lm om nw rd aa kp ta nm rn gv gt rw rh lg lh ou) H) (hS : va_S (mA o ad) H0 H locs) (hf : f_X3_copies_aa_nw aa nw = some out) (hsz : ls.size = nL) (hR : 0 + 1 ≤ R.frames ∧ 8 + (3 + 11) + 0 ≤ R.locals) (hW : (rest.map fun v => v.category).sum ≤ 8) (hcs : cells ≤ R.cells ∧ slots ≤ R.slots) (hdg : decode cc pc = .ok (.invokestatic 192, 3)) (kk : ∀ (H1 : Heap) (locs1 : List Loc), True → va_P D cl (mW mi cI cJ cB o ad th tp st fk fp ac si fr tt kd nu fa pl fo wd ci gr lm om out rd aa kp ta nm rn gv gt rw rh lg lh ou) H1 → va_S (mA o ad) H0 H1 locs1 → W p l e R s m args below meth c H1 locs1 cells slots Q (F0 m (pc + 3) ls (rest))) : W p l e R s m args below meth c H locs cells slots Q (F0 m pc ls (.ref (ad 1) :: .ref (ad 3) :: rest)) :=
  gc_Sv (As := [.ref (ad 3), .ref (ad 1)]) S (mm_X3_copies_aa_nw hC hD hf) (va_cwS 2 S.2.2.2.2 (lw_S q2212 q2213 q189 q2214) rfl rfl rfl hd_X3_copies hR) (gPreS hK hP) rfl hsz rfl hW hdg hcs hS kk
theorem hd_X3_weeks : yX3_weeks.cls = RX3 ∧ yX3_weeks.cls ≠ "java/lang/invoke/MethodHandle" ∧ yX3_weeks.cls ≠ "java/lang/invoke/VarHandle" ∧ (parseMethodDescriptor yX3_weeks.desc).map (fun d => d.parameters.length) = some 2 := by decide +kernel
set_option maxHeartbeats 4000000 in
set_option maxRecDepth 100000 in
theorem mm_X3_weeks {a0 : Int32} {a1 : Int32} {out : Int32 × Int32 × Int32 × (Nat → Int32) × (Nat → Int32)} (hC : mC cl tys mi cI cJ cB) (hD : mD o ad) (hf : f_X3_weeks th st nw aa a0 a1 = some out) : Met l yX3_weeks (ws_ yX3_weeks cX3_weeks 7 (some .int)) (rM 9 203) (gPc D cl tys [.ref o, .int a0, .int a1] (mW mi cI cJ cB o ad th tp st fk fp ac si fr tt kd nu fa pl fo wd ci gr lm om nw rd aa kp ta nm rn gv gt rw rh lg lh ou)) (gQ D cl (some (.int out.1)) True (mW mi cI cJ cB o ad out.2.1 tp out.2.2.1 fk fp ac si fr tt kd nu fa pl fo wd ci gr lm om out.2.2.2.1 rd out.2.2.2.2 kp ta nm rn gv gt rw rh lg lh ou) (mA o ad)) 0 0 (mA o ad) := by
  refine gGo (by decide +kernel) (Nat.le_of_ble_eq_true rfl) (fun p e s m below meth c ls S hr hlocks hK hP hl => ?_)
  have S : CallFix p m c cX3_weeks 7 s _ lw_all RX3 := S
  obtain ⟨hx, hb, hml, hown, hts⟩ := id S
  have hl : lv_has ls 7 [(0, .ref o), (1, .int a0), (2, .int a1)] := hl
  have w19 : ∀ (th : Int32) (st : Int32) (nw : (Nat → Int32)) (aa : (Nat → Int32)) (ls : Array Slot) (H : Heap) (locs : List Loc), va_P D cl (mW mi cI cJ cB o ad th tp st fk fp ac si fr tt kd nu fa pl fo wd ci gr lm om nw rd aa kp ta nm rn gv gt rw rh lg lh ou) H → va_S (mA o ad) s.heap H locs → lv_has ls 7 [(0, .ref o)] → f_X3_weeks_19 th st nw aa = some out → W p l e (rM 9 203) s m ([.ref o, .int a0, .int a1] : List Value).toArray below meth c H locs 0 0 (MQ below (gQ D cl (some (.int out.1)) True (mW mi cI cJ cB o ad out.2.1 tp out.2.2.1 fk fp ac si fr tt kd nu fa pl fo wd ci gr lm om out.2.2.2.1 rd out.2.2.2.2 kp ta nm rn gv gt rw rh lg lh ou) (mA o ad)) ([.ref o, .int a0, .int a1] : List Value).toArray s 0 0 (mA o ad)) (F0 m 19 ls []) := by
    intro th st nw aa ls H locs hP hS hl hf
    rw [f_X3_weeks_19] at hf
    refine lv_aload_n hx hb dX3_weeks_19 rfl (lv_at hl 0 rfl) ?_
    refine lv_iconst hx hb dX3_weeks_20 kc_i1 ?_
    obtain ⟨v1, hv1, hf⟩ := ob_s hf
    refine mc_X3_X3_refuse S hC hD hK hP hS hv1 hl.1 ⟨Nat.le_of_ble_eq_true rfl, Nat.le_of_ble_eq_true rfl⟩ (Nat.le_of_ble_eq_true rfl) ⟨Nat.zero_le _, Nat.zero_le _⟩ dX3_weeks_21 (fun H locs _ hP hS => ?_)
    have hE := Option.some.inj hf
    subst hE
    exact gt_wi S hr hlocks trivial hP hS dX3_weeks_24
  have w159 : ∀ (y0 : Int32) (th : Int32) (st : Int32) (nw : (Nat → Int32)) (aa : (Nat → Int32)) (ls : Array Slot) (H : Heap) (locs : List Loc), va_P D cl (mW mi cI cJ cB o ad th tp st fk fp ac si fr tt kd nu fa pl fo wd ci gr lm om nw rd aa kp ta nm rn gv gt rw rh lg lh ou) H → va_S (mA o ad) s.heap H locs → lv_has ls 7 [(0, .ref o)] → f_X3_weeks_159 y0 th st nw aa = some out → W p l e (rM 9 203) s m ([.ref o, .int a0, .int a1] : List Value).toArray below meth c H locs 0 0 (MQ below (gQ D cl (some (.int out.1)) True (mW mi cI cJ cB o ad out.2.1 tp out.2.2.1 fk fp ac si fr tt kd nu fa pl fo wd ci gr lm om out.2.2.2.1 rd out.2.2.2.2 kp ta nm rn gv gt rw rh lg lh ou) (mA o ad)) ([.ref o, .int a0, .int a1] : List Value).toArray s 0 0 (mA o ad)) (F0 m 159 ls [.int y0]) := by
    intro y0 th st nw aa ls H locs hP hS hl hf
    rw [f_X3_weeks_159] at hf
    refine lv_istore (lv' := [(6, .int y0), (0, .ref o)]) hx hb dX3_weeks_159 hl (by decide) rfl (fun ls hl => ?_)
    refine lv_aload_n hx hb dX3_weeks_161 rfl (lv_at hl 1 rfl) ?_
    refine mg_3 S hC hK hP dX3_weeks_162 ?_
    refine lv_aload_n hx hb dX3_weeks_165 rfl (lv_at hl 1 rfl) ?_
    refine mg_1 S hC hK hP dX3_weeks_166 ?_
    obtain ⟨v1, hv1, hf⟩ := ob_s hf
    refine mc_X3_X3_copies_aa_nw S hC hD hK hP hS hv1 hl.1 ⟨Nat.le_of_ble_eq_true rfl, Nat.le_of_ble_eq_true rfl⟩ (Nat.le_of_ble_eq_true rfl) ⟨Nat.zero_le _, Nat.zero_le _⟩ dX3_weeks_169 (fun H locs _ hP hS => ?_)
    refine lv_aload_n hx hb dX3_weeks_172 rfl (lv_at hl 1 rfl) ?_
    refine lv_iload hx hb dX3_weeks_173 (lv_at hl 0 rfl) ?_
    obtain ⟨v2, hv2, hf⟩ := ob_s hf
    refine mc_X3_X3_gives S hC hD hK hP hS hv2 hl.1 ⟨Nat.le_of_ble_eq_true rfl, Nat.le_of_ble_eq_true rfl⟩ (Nat.le_of_ble_eq_true rfl) ⟨Nat.zero_le _, Nat.zero_le _⟩ dX3_weeks_175 (fun H locs _ hP hS => ?_)
    have hE := Option.some.inj hf
    subst hE
    exact gt_wi S hr hlocks trivial hP hS dX3_weeks_178
  have w64 : ∀ (n : Nat) , ∀ (x1 : Int32) (x2 : Int32) (x3 : Int32) (x4 : Int32) (x5 : Int32) (x6 : Int32) (th : Int32) (st : Int32) (nw : (Nat → Int32)) (aa : (Nat → Int32)) (ls : Array Slot) (H : Heap) (locs : List Loc), va_P D cl (mW mi cI cJ cB o ad th tp st fk fp ac si fr tt kd nu fa pl fo wd ci gr lm om nw rd aa kp ta nm rn gv gt rw rh lg lh ou) H → va_S (mA o ad) s.heap H locs → lv_has ls 7 [(0, .ref o), (1, .int x1), (2, .int x2), (3, .int x3), (4, .int x4), (5, .int x5), (6, .int x6)] → f_X3_weeks_64 n x1 x2 x3 x4 x5 x6 th st nw aa = some out → W p l e (rM 9 203) s m ([.ref o, .int a0, .int a1] : List Value).toArray below meth c H locs 0 0 (MQ below (gQ D cl (some (.int out.1)) True (mW mi cI cJ cB o ad out.2.1 tp out.2.2.1 fk fp ac si fr tt kd nu fa pl fo wd ci gr lm om out.2.2.2.1 rd out.2.2.2.2 kp ta nm rn gv gt rw rh lg lh ou) (mA o ad)) ([.ref o, .int a0, .int a1] : List Value).toArray s 0 0 (mA o ad)) (F0 m 64 ls []) := by
    intro n
    induction n with
    | zero =>
      intro x1 x2 x3 x4 x5 x6 th st nw aa ls H locs hP hS hl hf
      exact absurd hf (by rw [f_X3_weeks_64]; exact nofun)
    | succ n ih =>
      intro x1 x2 x3 x4 x5 x6 th st nw aa ls H locs hP hS hl hf
      rw [f_X3_weeks_64] at hf
      refine lv_iload hx hb dX3_weeks_64 (lv_at hl 6 rfl) ?_
      refine lv_iload_n hx hb dX3_weeks_66 rfl (lv_at hl 1 rfl) ?_
      refine lv_icmp_ge (tgt := 80) hx hb dX3_weeks_67 (by decide) (fun c1 => ?_) (fun c1 => ?_)
      · replace hf := it_t c1 hf
        refine lv_iload_n hx hb dX3_weeks_80 rfl (lv_at hl 2 rfl) ?_
        refine lv_if_ne (tgt := 97) hx hb dX3_weeks_81 (by decide) (fun c2 => ?_) (fun c2 => ?_)
        · replace hf := it_f c2 hf
          refine lv_iload_n hx hb dX3_weeks_97 rfl (lv_at hl 2 rfl) ?_
          refine lv_iconst hx hb dX3_weeks_98 kc_i1 ?_
          refine lv_icmp_ne (tgt := 116) hx hb dX3_weeks_99 (by decide) (fun c3 => ?_) (fun c3 => ?_)
          · replace hf := it_f c3 hf
            refine lv_iload_n hx hb dX3_weeks_116 rfl (lv_at hl 2 rfl) ?_
            refine lv_iconst hx hb dX3_weeks_117 kc_i2 ?_
            refine lv_icmp_ne (tgt := 128) hx hb dX3_weeks_118 (by decide) (fun c4 => ?_) (fun c4 => ?_)
            · replace hf := it_f c4 hf
              refine lv_iload_n hx hb dX3_weeks_128 rfl (lv_at hl 2 rfl) ?_
              refine lv_iconst hx hb dX3_weeks_129 kc_i3 ?_
              refine lv_icmp_ne (tgt := 140) hx hb dX3_weeks_130 (by decide) (fun c5 => ?_) (fun c5 => ?_)
              · replace hf := it_f c5 hf
                refine lv_iload_n hx hb dX3_weeks_140 rfl (lv_at hl 2 rfl) ?_
                refine lv_iconst hx hb dX3_weeks_141 kc_i4 ?_
                refine lv_icmp_ne (tgt := 152) hx hb dX3_weeks_142 (by decide) (fun c6 => ?_) (fun c6 => ?_)
                · replace hf := it_f c6 hf
                  refine lv_aload_n hx hb dX3_weeks_152 rfl (lv_at hl 0 rfl) ?_
                  obtain ⟨v7, hv7, hf⟩ := ob_s hf
                  refine mc_X3_X3_allPassed S hC hK hP hv7 hl.1 ⟨Nat.le_of_ble_eq_true rfl, Nat.le_of_ble_eq_true rfl⟩ (Nat.le_of_ble_eq_true rfl) ⟨Nat.zero_le _, Nat.zero_le _⟩ dX3_weeks_153 (fun _ => ?_)
                  refine lv_iload hx hb dX3_weeks_156 (lv_at hl 5 rfl) ?_
                  refine lv_isub hx hb dX3_weeks_158 ?_
                  exact (w159) (v7 - x5) th st nw aa ls H locs hP hS (lv_sub (l' := [(0, .ref o)]) hl [0] rfl) hf
                · replace hf := it_t c6 hf
                  refine lv_aload_n hx hb dX3_weeks_145 rfl (lv_at hl 0 rfl) ?_
                  obtain ⟨v8, hv8, hf⟩ := ob_s hf
                  refine mc_X3_X3_greatestChain S hC hK hP hv8 hl.1 ⟨Nat.le_of_ble_eq_true rfl, Nat.le_of_ble_eq_true rfl⟩ (Nat.le_of_ble_eq_true rfl) ⟨Nat.zero_le _, Nat.zero_le _⟩ dX3_weeks_146 (fun _ => ?_)
                  refine lv_goto (tgt := 159) hx hb dX3_weeks_149 (by decide) ?_
                  exact (w159) v8 th st nw aa ls H locs hP hS (lv_sub (l' := [(0, .ref o)]) hl [0] rfl) hf
              · replace hf := it_t c5 hf
                refine lv_aload_n hx hb dX3_weeks_133 rfl (lv_at hl 0 rfl) ?_
                obtain ⟨v9, hv9, hf⟩ := ob_s hf
                refine mc_X3_X3_inOnes S hC hK hP hv9 hl.1 ⟨Nat.le_of_ble_eq_true rfl, Nat.le_of_ble_eq_true rfl⟩ (Nat.le_of_ble_eq_true rfl) ⟨Nat.zero_le _, Nat.zero_le _⟩ dX3_weeks_134 (fun _ => ?_)
                refine lv_goto (tgt := 159) hx hb dX3_weeks_137 (by decide) ?_
                exact (w159) v9 th st nw aa ls H locs hP hS (lv_sub (l' := [(0, .ref o)]) hl [0] rfl) hf
            · replace hf := it_t c4 hf
              refine lv_aload_n hx hb dX3_weeks_121 rfl (lv_at hl 0 rfl) ?_
              obtain ⟨v10, hv10, hf⟩ := ob_s hf
              refine mc_X3_X3_freeOnes S hC hK hP hv10 hl.1 ⟨Nat.le_of_ble_eq_true rfl, Nat.le_of_ble_eq_true rfl⟩ (Nat.le_of_ble_eq_true rfl) ⟨Nat.zero_le _, Nat.zero_le _⟩ dX3_weeks_122 (fun _ => ?_)
              refine lv_goto (tgt := 159) hx hb dX3_weeks_125 (by decide) ?_
              exact (w159) v10 th st nw aa ls H locs hP hS (lv_sub (l' := [(0, .ref o)]) hl [0] rfl) hf
          · replace hf := it_t c3 hf
            refine lv_aload_n hx hb dX3_weeks_102 rfl (lv_at hl 0 rfl) ?_
            refine mg_1 S hC hK hP dX3_weeks_103 ?_
            refine lv_sipush hx hb dX3_weeks_106 kc_s298 ?_
            refine ma_1 S hC hK hP kv_298_390 kn_298 dX3_weeks_109 ?_
            refine lv_iload hx hb dX3_weeks_110 (lv_at hl 4 rfl) ?_
            refine lv_isub hx hb dX3_weeks_112 ?_
            refine lv_goto (tgt := 159) hx hb dX3_weeks_113 (by decide) ?_
            exact (w159) ((nw 298) - x4) th st nw aa ls H locs hP hS (lv_sub (l' := [(0, .ref o)]) hl [0] rfl) hf
        · replace hf := it_t c2 hf
          refine lv_aload_n hx hb dX3_weeks_84 rfl (lv_at hl 0 rfl) ?_
          refine mg_1 S hC hK hP dX3_weeks_85 ?_
          refine lv_sipush hx hb dX3_weeks_88 kc_s233 ?_
          refine ma_1 S hC hK hP kv_233_390 kn_233 dX3_weeks_91 ?_
          refine lv_iload_n hx hb dX3_weeks_92 rfl (lv_at hl 3 rfl) ?_
          refine lv_isub hx hb dX3_weeks_93 ?_
          refine lv_goto (tgt := 159) hx hb dX3_weeks_94 (by decide) ?_
          exact (w159) ((nw 233) - x3) th st nw aa ls H locs hP hS (lv_sub (l' := [(0, .ref o)]) hl [0] rfl) hf
      · replace hf := it_f c1 hf
        refine lv_aload_n hx hb dX3_weeks_70 rfl (lv_at hl 0 rfl) ?_
        obtain ⟨v11, hv11, hf⟩ := ob_s hf
        refine mc_X3_X3_oneMore S hC hD hK hP hS hv11 hl.1 ⟨Nat.le_of_ble_eq_true rfl, Nat.le_of_ble_eq_true rfl⟩ (Nat.le_of_ble_eq_true rfl) ⟨Nat.zero_le _, Nat.zero_le _⟩ dX3_weeks_71 (fun H locs _ hP hS => ?_)
        refine lv_iinc (v := (x6 + 1)) (lv' := [(6, .int (x6 + 1)), (0, .ref o), (1, .int x1), (2, .int x2), (3, .int x3), (4, .int x4), (5, .int x5)]) hx hb dX3_weeks_74 hl (k := 6) rfl rfl (by decide) rfl (fun ls hl => ?_)
        refine lv_goto (tgt := 64) hx hb dX3_weeks_77 (by decide) ?_
        exact (ih) x1 x2 x3 x4 x5 (x6 + 1) th st v11 aa ls H locs hP hS (lv_sub (l' := [(0, .ref o), (1, .int x1), (2, .int x2), (3, .int x3), (4, .int x4), (5, .int x5), (6, .int (x6 + 1))]) hl [1, 2, 3, 4, 5, 6, 0] rfl) hf
  suffices hg : ∀ (H : Heap) (locs : List Loc), va_P D cl (mW mi cI cJ cB o ad th tp st fk fp ac si fr tt kd nu fa pl fo wd ci gr lm om nw rd aa kp ta nm rn gv gt rw rh lg lh ou) H → va_S (mA o ad) s.heap H locs → W p l e (rM 9 203) s m ([.ref o, .int a0, .int a1] : List Value).toArray below meth c H locs 0 0 (MQ below (gQ D cl (some (.int out.1)) True (mW mi cI cJ cB o ad out.2.1 tp out.2.2.1 fk fp ac si fr tt kd nu fa pl fo wd ci gr lm om out.2.2.2.1 rd out.2.2.2.2 kp ta nm rn gv gt rw rh lg lh ou) (mA o ad)) ([.ref o, .int a0, .int a1] : List Value).toArray s 0 0 (mA o ad)) (F0 m 0 ls []) from hg s.heap [] hP va_S.rf
  clear hP
  intro H locs hP hS
  rw [f_X3_weeks] at hf
  refine lv_iload_n hx hb dX3_weeks_0 rfl (lv_at hl 1 rfl) ?_
  refine lv_iconst hx hb dX3_weeks_1 kc_i0 ?_
  refine lv_bipush hx hb dX3_weeks_2 kc_b30 ?_
  obtain ⟨v1, hv1, hf⟩ := ob_s hf
  refine mc_X3_X3_isFrom S hK hv1 hl.1 ⟨Nat.le_of_ble_eq_true rfl, Nat.le_of_ble_eq_true rfl⟩ (Nat.le_of_ble_eq_true rfl) ⟨Nat.zero_le _, Nat.zero_le _⟩ dX3_weeks_4 (fun hnv1 => ?_)
  refine lv_if_eq (tgt := 19) hx hb dX3_weeks_7 (by decide) (fun c2 => ?_) (fun c2 => ?_)
  · replace hf := it_t c2 hf
    exact (w19) th st nw aa ls H locs hP hS (lv_sub (l' := [(0, .ref o)]) hl [0] rfl) hf
  · replace hf := it_f c2 hf
    refine lv_iload_n hx hb dX3_weeks_10 rfl (lv_at hl 2 rfl) ?_
    refine lv_iconst hx hb dX3_weeks_11 kc_i0 ?_
    refine lv_iconst hx hb dX3_weeks_12 kc_i5 ?_
    obtain ⟨v3, hv3, hf⟩ := ob_s hf
    refine mc_X3_X3_isFrom S hK hv3 hl.1 ⟨Nat.le_of_ble_eq_true rfl, Nat.le_of_ble_eq_true rfl⟩ (Nat.le_of_ble_eq_true rfl) ⟨Nat.zero_le _, Nat.zero_le _⟩ dX3_weeks_13 (fun hnv3 => ?_)
    refine lv_if_ne (tgt := 25) hx hb dX3_weeks_16 (by decide) (fun c4 => ?_) (fun c4 => ?_)
    · replace hf := it_f c4 hf
      refine lv_aload_n hx hb dX3_weeks_25 rfl (lv_at hl 0 rfl) ?_
      refine mg_1 S hC hK hP dX3_weeks_26 ?_
      refine lv_aload_n hx hb dX3_weeks_29 rfl (lv_at hl 0 rfl) ?_
      refine mg_3 S hC hK hP dX3_weeks_30 ?_
      obtain ⟨v5, hv5, hf⟩ := ob_s hf
      refine mc_X3_X3_copies_nw_aa S hC hD hK hP hS hv5 hl.1 ⟨Nat.le_of_ble_eq_true rfl, Nat.le_of_ble_eq_true rfl⟩ (Nat.le_of_ble_eq_true rfl) ⟨Nat.zero_le _, Nat.zero_le _⟩ dX3_weeks_33 (fun H locs _ hP hS => ?_)
      refine lv_aload_n hx hb dX3_weeks_36 rfl (lv_at hl 0 rfl) ?_
      refine mg_1 S hC hK hP dX3_weeks_37 ?_
      refine lv_sipush hx hb dX3_weeks_40 kc_s233 ?_
      refine ma_1 S hC hK hP kv_233_390 kn_233 dX3_weeks_43 ?_
      refine lv_istore_n (i := 3) (lv' := [(3, .int (nw 233)), (0, .ref o), (1, .int a0), (2, .int a1)]) hx hb dX3_weeks_44 rfl hl (by decide) rfl (fun ls hl => ?_)
      refine lv_aload_n hx hb dX3_weeks_45 rfl (lv_at hl 1 rfl) ?_
      refine mg_1 S hC hK hP dX3_weeks_46 ?_
      refine lv_sipush hx hb dX3_weeks_49 kc_s298 ?_
      refine ma_1 S hC hK hP kv_298_390 kn_298 dX3_weeks_52 ?_
      refine lv_istore (lv' := [(4, .int (nw 298)), (3, .int (nw 233)), (0, .ref o), (1, .int a0), (2, .int a1)]) hx hb dX3_weeks_53 hl (by decide) rfl (fun ls hl => ?_)
      refine lv_aload_n hx hb dX3_weeks_55 rfl (lv_at hl 2 rfl) ?_
      obtain ⟨v6, hv6, hf⟩ := ob_s hf
      refine mc_X3_X3_allPassed S hC hK hP hv6 hl.1 ⟨Nat.le_of_ble_eq_true rfl, Nat.le_of_ble_eq_true rfl⟩ (Nat.le_of_ble_eq_true rfl) ⟨Nat.zero_le _, Nat.zero_le _⟩ dX3_weeks_56 (fun _ => ?_)
      refine lv_istore (lv' := [(5, .int v6), (4, .int (nw 298)), (3, .int (nw 233)), (0, .ref o), (1, .int a0), (2, .int a1)]) hx hb dX3_weeks_59 hl (by decide) rfl (fun ls hl => ?_)
      refine lv_iconst hx hb dX3_weeks_61 kc_i0 ?_
      refine lv_istore (lv' := [(6, .int 0), (5, .int v6), (4, .int (nw 298)), (3, .int (nw 233)), (0, .ref o), (1, .int a0), (2, .int a1)]) hx hb dX3_weeks_62 hl (by decide) rfl (fun ls hl => ?_)
      exact (w64 FU) a0 a1 (nw 233) (nw 298) v6 0 th st nw v5 ls H locs hP hS (lv_sub (l' := [(0, .ref o), (1, .int a0), (2, .int a1), (3, .int (nw 233)), (4, .int (nw 298)), (5, .int v6), (6, .int 0)]) hl [4, 5, 6, 3, 2, 1, 0] rfl) hf
    · replace hf := it_t c4 hf
      exact (w19) th st nw aa ls H locs hP hS (lv_sub (l' := [(0, .ref o)]) hl [0] rfl) hf
theorem hd_X3_when : yX3_when.cls = RX3 ∧ yX3_when.cls ≠ "java/lang/invoke/MethodHandle" ∧ yX3_when.cls ≠ "java/lang/invoke/VarHandle" ∧ (parseMethodDescriptor yX3_when.desc).map (fun d => d.parameters.length) = some 3 := by decide +kernel
set_option maxHeartbeats 4000000 in
set_option maxRecDepth 100000 in
theorem mm_X3_when {a0 : Int32} {a1 : Int32} {a2 : Int32} {out : Int32 × Int32 × Int32 × (Nat → Int32) × (Nat → Int32)} (hC : mC cl tys mi cI cJ cB) (hD : mD o ad) (hf : f_X3_when th st nw aa a0 a1 a2 = some out) : Met l yX3_when (ws_ yX3_when cX3_when 7 (some .int)) (rM 9 203) (gPc D cl tys [.ref o, .int a0, .int a1, .int a2] (mW mi cI cJ cB o ad th tp st fk fp ac si fr tt kd nu fa pl fo wd ci gr lm om nw rd aa kp ta nm rn gv gt rw rh lg lh ou)) (gQ D cl (some (.int out.1)) True (mW mi cI cJ cB o ad out.2.1 tp out.2.2.1 fk fp ac si fr tt kd nu fa pl fo wd ci gr lm om out.2.2.2.1 rd out.2.2.2.2 kp ta nm rn gv gt rw rh lg lh ou) (mA o ad)) 0 0 (mA o ad) := by
  refine gGo (by decide +kernel) (Nat.le_of_ble_eq_true rfl) (fun p e s m below meth c ls S hr hlocks hK hP hl => ?_)
  have S : CallFix p m c cX3_when 7 s _ lw_all RX3 := S
  obtain ⟨hx, hb, hml, hown, hts⟩ := id S
  have hl : lv_has ls 7 [(0, .ref o), (1, .int a0), (2, .int a1), (3, .int a2)] := hl
  have w118 : ∀ (x4 : Int32) (th : Int32) (st : Int32) (nw : (Nat → Int32)) (aa : (Nat → Int32)) (ls : Array Slot) (H : Heap) (locs : List Loc), va_P D cl (mW mi cI cJ cB o ad th tp st fk fp ac si fr tt kd nu fa pl fo wd ci gr lm om nw rd aa kp ta nm rn gv gt rw rh lg lh ou) H → va_S (mA o ad) s.heap H locs → lv_has ls 7 [(0, .ref o), (4, .int x4)] → f_X3_when_118 x4 th st nw aa = some out → W p l e (rM 9 203) s m ([.ref o, .int a0, .int a1, .int a2] : List Value).toArray below meth c H locs 0 0 (MQ below (gQ D cl (some (.int out.1)) True (mW mi cI cJ cB o ad out.2.1 tp out.2.2.1 fk fp ac si fr tt kd nu fa pl fo wd ci gr lm om out.2.2.2.1 rd out.2.2.2.2 kp ta nm rn gv gt rw rh lg lh ou) (mA o ad)) ([.ref o, .int a0, .int a1, .int a2] : List Value).toArray s 0 0 (mA o ad)) (F0 m 118 ls []) := by
    intro x4 th st nw aa ls H locs hP hS hl hf
    rw [f_X3_when_118] at hf
    refine lv_aload_n hx hb dX3_when_118 rfl (lv_at hl 0 rfl) ?_
    refine mg_3 S hC hK hP dX3_when_119 ?_
    refine lv_aload_n hx hb dX3_when_122 rfl (lv_at hl 0 rfl) ?_
    refine mg_1 S hC hK hP dX3_when_123 ?_
    obtain ⟨v1, hv1, hf⟩ := ob_s hf
    refine mc_X3_X3_copies_aa_nw S hC hD hK hP hS hv1 hl.1 ⟨Nat.le_of_ble_eq_true rfl, Nat.le_of_ble_eq_true rfl⟩ (Nat.le_of_ble_eq_true rfl) ⟨Nat.zero_le _, Nat.zero_le _⟩ dX3_when_126 (fun H locs _ hP hS => ?_)
    refine lv_iload hx hb dX3_when_129 (lv_at hl 1 rfl) ?_
    refine lv_iconst hx hb dX3_when_131 kc_im1 ?_
    refine lv_icmp_ne (tgt := 143) hx hb dX3_when_132 (by decide) (fun c2 => ?_) (fun c2 => ?_)
    · replace hf := it_f c2 hf
      refine lv_aload_n hx hb dX3_when_143 rfl (lv_at hl 0 rfl) ?_
      refine lv_iload hx hb dX3_when_144 (lv_at hl 1 rfl) ?_
      obtain ⟨v3, hv3, hf⟩ := ob_s hf
      refine mc_X3_X3_gives S hC hD hK hP hS hv3 hl.1 ⟨Nat.le_of_ble_eq_true rfl, Nat.le_of_ble_eq_true rfl⟩ (Nat.le_of_ble_eq_true rfl) ⟨Nat.zero_le _, Nat.zero_le _⟩ dX3_when_146 (fun H locs _ hP hS => ?_)
      have hE := Option.some.inj hf
      subst hE
      exact gt_wi S hr hlocks trivial hP hS dX3_when_149
    · replace hf := it_t c2 hf
      refine lv_aload_n hx hb dX3_when_135 rfl (lv_at hl 0 rfl) ?_
      refine lv_iconst hx hb dX3_when_136 kc_i5 ?_
      obtain ⟨v4, hv4, hf⟩ := ob_s hf
      refine mc_X3_X3_refuse S hC hD hK hP hS hv4 hl.1 ⟨Nat.le_of_ble_eq_true rfl, Nat.le_of_ble_eq_true rfl⟩ (Nat.le_of_ble_eq_true rfl) ⟨Nat.zero_le _, Nat.zero_le _⟩ dX3_when_137 (fun H locs _ hP hS => ?_)
      refine lv_goto (tgt := 149) hx hb dX3_when_140 (by decide) ?_
      have hE := Option.some.inj hf
      subst hE
      exact gt_wi S hr hlocks trivial hP hS dX3_when_149
  have w61 : ∀ (n : Nat) , ∀ (x1 : Int32) (x2 : Int32) (x3 : Int32) (x4 : Int32) (x5 : Int32) (th : Int32) (st : Int32) (nw : (Nat → Int32)) (aa : (Nat → Int32)) (ls : Array Slot) (H : Heap) (locs : List Loc), va_P D cl (mW mi cI cJ cB o ad th tp st fk fp ac si fr tt kd nu fa pl fo wd ci gr lm om nw rd aa kp ta nm rn gv gt rw rh lg lh ou) H → va_S (mA o ad) s.heap H locs → lv_has ls 7 [(0, .ref o), (1, .int x1), (2, .int x2), (3, .int x3), (4, .int x4), (5, .int x5)] → f_X3_when_61 n x1 x2 x3 x4 x5 th st nw aa = some out → W p l e (rM 9 203) s m ([.ref o, .int a0, .int a1, .int a2] : List Value).toArray below meth c H locs 0 0 (MQ below (gQ D cl (some (.int out.1)) True (mW mi cI cJ cB o ad out.2.1 tp out.2.2.1 fk fp ac si fr tt kd nu fa pl fo wd ci gr lm om out.2.2.2.1 rd out.2.2.2.2 kp ta nm rn gv gt rw rh lg lh ou) (mA o ad)) ([.ref o, .int a0, .int a1, .int a2] : List Value).toArray s 0 0 (mA o ad)) (F0 m 61 ls []) := by
    intro n
    induction n with
    | zero =>
      intro x1 x2 x3 x4 x5 th st nw aa ls H locs hP hS hl hf
      exact absurd hf (by rw [f_X3_when_61]; exact nofun)
    | succ n ih =>
      intro x1 x2 x3 x4 x5 th st nw aa ls H locs hP hS hl hf
      rw [f_X3_when_61] at hf
      refine lv_iload hx hb dX3_when_61 (lv_at hl 5 rfl) ?_
      refine lv_iload_n hx hb dX3_when_63 rfl (lv_at hl 2 rfl) ?_
      refine lv_icmp_ge (tgt := 118) hx hb dX3_when_64 (by decide) (fun c1 => ?_) (fun c1 => ?_)
      · replace hf := it_t c1 hf
        exact (w118) x4 th st nw aa ls H locs hP hS (lv_sub (l' := [(0, .ref o), (4, .int x4)]) hl [0, 4] rfl) hf
      · replace hf := it_f c1 hf
        refine lv_iload hx hb dX3_when_67 (lv_at hl 4 rfl) ?_
        refine lv_iconst hx hb dX3_when_69 kc_im1 ?_
        refine lv_icmp_ne (tgt := 118) hx hb dX3_when_70 (by decide) (fun c2 => ?_) (fun c2 => ?_)
        · replace hf := it_f c2 hf
          exact (w118) x4 th st nw aa ls H locs hP hS (lv_sub (l' := [(0, .ref o), (4, .int x4)]) hl [0, 4] rfl) hf
        · replace hf := it_t c2 hf
          refine lv_aload_n hx hb dX3_when_73 rfl (lv_at hl 0 rfl) ?_
          refine mg_1 S hC hK hP dX3_when_74 ?_
          refine lv_sipush hx hb dX3_when_77 kc_s232 ?_
          refine ma_1 S hC hK hP kv_232_390 kn_232 dX3_when_80 ?_
          refine lv_istore (lv' := [(6, .int (nw 232)), (0, .ref o), (1, .int x1), (2, .int x2), (3, .int x3), (4, .int x4), (5, .int x5)]) hx hb dX3_when_81 hl (by decide) rfl (fun ls hl => ?_)
          refine lv_aload_n hx hb dX3_when_83 rfl (lv_at hl 1 rfl) ?_
          obtain ⟨v3, hv3, hf⟩ := ob_s hf
          refine mc_X3_X3_oneMore S hC hD hK hP hS hv3 hl.1 ⟨Nat.le_of_ble_eq_true rfl, Nat.le_of_ble_eq_true rfl⟩ (Nat.le_of_ble_eq_true rfl) ⟨Nat.zero_le _, Nat.zero_le _⟩ dX3_when_84 (fun H locs _ hP hS => ?_)
          refine lv_aload_n hx hb dX3_when_87 rfl (lv_at hl 1 rfl) ?_
          refine lv_iload_n hx hb dX3_when_88 rfl (lv_at hl 2 rfl) ?_
          obtain ⟨v4, hv4, hf⟩ := ob_s hf
          refine mc_X3_X3_isIn S hC hK hP hv4 hl.1 ⟨Nat.le_of_ble_eq_true rfl, Nat.le_of_ble_eq_true rfl⟩ (Nat.le_of_ble_eq_true rfl) ⟨Nat.zero_le _, Nat.zero_le _⟩ dX3_when_89 (fun hnv4 => ?_)
          refine lv_if_ne (tgt := 112) hx hb dX3_when_92 (by decide) (fun c5 => ?_) (fun c5 => ?_)
          · replace hf := it_f c5 hf
            refine lv_iinc (v := (x5 + 1)) (lv' := [(5, .int (x5 + 1)), (6, .int (nw 232)), (0, .ref o), (1, .int x1), (2, .int x2), (3, .int x3), (4, .int x4)]) hx hb dX3_when_112 hl (k := 6) rfl rfl (by decide) rfl (fun ls hl => ?_)
            refine lv_goto (tgt := 61) hx hb dX3_when_115 (by decide) ?_
            exact (ih) x1 x2 x3 x4 (x5 + 1) th st v3 aa ls H locs hP hS (lv_sub (l' := [(0, .ref o), (1, .int x1), (2, .int x2), (3, .int x3), (4, .int x4), (5, .int (x5 + 1))]) hl [2, 3, 4, 5, 6, 0] rfl) hf
          · replace hf := it_t c5 hf
            refine lv_iload_n hx hb dX3_when_95 rfl (lv_at hl 4 rfl) ?_
            refine lv_if_eq (tgt := 108) hx hb dX3_when_96 (by decide) (fun c6 => ?_) (fun c6 => ?_)
            · replace hf := it_t c6 hf
              refine lv_iload hx hb dX3_when_108 (lv_at hl 0 rfl) ?_
              refine lv_istore (lv' := [(4, .int (nw 232)), (6, .int (nw 232)), (0, .ref o), (1, .int x1), (2, .int x2), (3, .int x3), (5, .int x5)]) hx hb dX3_when_110 hl (by decide) rfl (fun ls hl => ?_)
              refine lv_iinc (v := (x5 + 1)) (lv' := [(5, .int (x5 + 1)), (4, .int (nw 232)), (6, .int (nw 232)), (0, .ref o), (1, .int x1), (2, .int x2), (3, .int x3)]) hx hb dX3_when_112 hl (k := 6) rfl rfl (by decide) rfl (fun ls hl => ?_)
              refine lv_goto (tgt := 61) hx hb dX3_when_115 (by decide) ?_
              exact (ih) x1 x2 x3 (nw 232) (x5 + 1) th st v3 aa ls H locs hP hS (lv_sub (l' := [(0, .ref o), (1, .int x1), (2, .int x2), (3, .int x3), (4, .int (nw 232)), (5, .int (x5 + 1))]) hl [3, 4, 5, 6, 1, 0] rfl) hf
            · replace hf := it_f c6 hf
              refine lv_aload_n hx hb dX3_when_99 rfl (lv_at hl 1 rfl) ?_
              refine lv_iload_n hx hb dX3_when_100 rfl (lv_at hl 2 rfl) ?_
              refine lv_iconst hx hb dX3_when_101 kc_i4 ?_
              obtain ⟨v7, hv7, hf⟩ := ob_s hf
              refine mc_X3_X3_of S hC hK hP hv7 hl.1 ⟨Nat.le_of_ble_eq_true rfl, Nat.le_of_ble_eq_true rfl⟩ (Nat.le_of_ble_eq_true rfl) ⟨Nat.zero_le _, Nat.zero_le _⟩ dX3_when_102 (fun _ => ?_)
              refine lv_goto (tgt := 110) hx hb dX3_when_105 (by decide) ?_
              refine lv_istore (lv' := [(4, .int v7), (6, .int (nw 232)), (0, .ref o), (1, .int x1), (2, .int x2), (3, .int x3), (5, .int x5)]) hx hb dX3_when_110 hl (by decide) rfl (fun ls hl => ?_)
              refine lv_iinc (v := (x5 + 1)) (lv' := [(5, .int (x5 + 1)), (4, .int v7), (6, .int (nw 232)), (0, .ref o), (1, .int x1), (2, .int x2), (3, .int x3)]) hx hb dX3_when_112 hl (k := 6) rfl rfl (by decide) rfl (fun ls hl => ?_)
              refine lv_goto (tgt := 61) hx hb dX3_when_115 (by decide) ?_
              exact (ih) x1 x2 x3 v7 (x5 + 1) th st v3 aa ls H locs hP hS (lv_sub (l' := [(0, .ref o), (1, .int x1), (2, .int x2), (3, .int x3), (4, .int v7), (5, .int (x5 + 1))]) hl [3, 4, 5, 6, 1, 0] rfl) hf
  suffices hg : ∀ (H : Heap) (locs : List Loc), va_P D cl (mW mi cI cJ cB o ad th tp st fk fp ac si fr tt kd nu fa pl fo wd ci gr lm om nw rd aa kp ta nm rn gv gt rw rh lg lh ou) H → va_S (mA o ad) s.heap H locs → W p l e (rM 9 203) s m ([.ref o, .int a0, .int a1, .int a2] : List Value).toArray below meth c H locs 0 0 (MQ below (gQ D cl (some (.int out.1)) True (mW mi cI cJ cB o ad out.2.1 tp out.2.2.1 fk fp ac si fr tt kd nu fa pl fo wd ci gr lm om out.2.2.2.1 rd out.2.2.2.2 kp ta nm rn gv gt rw rh lg lh ou) (mA o ad)) ([.ref o, .int a0, .int a1, .int a2] : List Value).toArray s 0 0 (mA o ad)) (F0 m 0 ls []) from hg s.heap [] hP va_S.rf
  clear hP
  intro H locs hP hS
  rw [f_X3_when] at hf
  refine lv_iload_n hx hb dX3_when_0 rfl (lv_at hl 2 rfl) ?_
  refine lv_iconst hx hb dX3_when_1 kc_i1 ?_
  refine lv_bipush hx hb dX3_when_2 kc_b30 ?_
  obtain ⟨v1, hv1, hf⟩ := ob_s hf
  refine mc_X3_X3_isFrom S hK hv1 hl.1 ⟨Nat.le_of_ble_eq_true rfl, Nat.le_of_ble_eq_true rfl⟩ (Nat.le_of_ble_eq_true rfl) ⟨Nat.zero_le _, Nat.zero_le _⟩ dX3_when_4 (fun hnv1 => ?_)
  refine lv_if_ne (tgt := 16) hx hb dX3_when_7 (by decide) (fun c2 => ?_) (fun c2 => ?_)
  · replace hf := it_f c2 hf
    refine lv_aload_n hx hb dX3_when_16 rfl (lv_at hl 0 rfl) ?_
    refine lv_iload_n hx hb dX3_when_17 rfl (lv_at hl 1 rfl) ?_
    obtain ⟨v3, hv3, hf⟩ := ob_s hf
    refine mc_X3_X3_isHouse S hC hK hP hv3 hl.1 ⟨Nat.le_of_ble_eq_true rfl, Nat.le_of_ble_eq_true rfl⟩ (Nat.le_of_ble_eq_true rfl) ⟨Nat.zero_le _, Nat.zero_le _⟩ dX3_when_18 (fun hnv3 => ?_)
    refine lv_if_ne (tgt := 30) hx hb dX3_when_21 (by decide) (fun c4 => ?_) (fun c4 => ?_)
    · replace hf := it_f c4 hf
      refine lv_aload_n hx hb dX3_when_30 rfl (lv_at hl 0 rfl) ?_
      refine lv_iload_n hx hb dX3_when_31 rfl (lv_at hl 1 rfl) ?_
      obtain ⟨v5, hv5, hf⟩ := ob_s hf
      refine mc_X3_X3_isIn S hC hK hP hv5 hl.1 ⟨Nat.le_of_ble_eq_true rfl, Nat.le_of_ble_eq_true rfl⟩ (Nat.le_of_ble_eq_true rfl) ⟨Nat.zero_le _, Nat.zero_le _⟩ dX3_when_32 (fun hnv5 => ?_)
      refine lv_if_ne (tgt := 44) hx hb dX3_when_35 (by decide) (fun c6 => ?_) (fun c6 => ?_)
      · replace hf := it_f c6 hf
        refine lv_aload_n hx hb dX3_when_44 rfl (lv_at hl 0 rfl) ?_
        refine mg_1 S hC hK hP dX3_when_45 ?_
        refine lv_aload_n hx hb dX3_when_48 rfl (lv_at hl 0 rfl) ?_
        refine mg_3 S hC hK hP dX3_when_49 ?_
        obtain ⟨v7, hv7, hf⟩ := ob_s hf
        refine mc_X3_X3_copies_nw_aa S hC hD hK hP hS hv7 hl.1 ⟨Nat.le_of_ble_eq_true rfl, Nat.le_of_ble_eq_true rfl⟩ (Nat.le_of_ble_eq_true rfl) ⟨Nat.zero_le _, Nat.zero_le _⟩ dX3_when_52 (fun H locs _ hP hS => ?_)
        refine lv_iconst hx hb dX3_when_55 kc_im1 ?_
        refine lv_istore (lv' := [(4, .int (-1)), (0, .ref o), (1, .int a0), (2, .int a1), (3, .int a2)]) hx hb dX3_when_56 hl (by decide) rfl (fun ls hl => ?_)
        refine lv_iconst hx hb dX3_when_58 kc_i0 ?_
        refine lv_istore (lv' := [(5, .int 0), (4, .int (-1)), (0, .ref o), (1, .int a0), (2, .int a1), (3, .int a2)]) hx hb dX3_when_59 hl (by decide) rfl (fun ls hl => ?_)
        exact (w61 FU) a0 a1 a2 (-1) 0 th st nw v7 ls H locs hP hS (lv_sub (l' := [(0, .ref o), (1, .int a0), (2, .int a1), (3, .int a2), (4, .int (-1)), (5, .int 0)]) hl [2, 3, 4, 5, 1, 0] rfl) hf
      · replace hf := it_t c6 hf
        refine lv_aload_n hx hb dX3_when_38 rfl (lv_at hl 0 rfl) ?_
        refine lv_iconst hx hb dX3_when_39 kc_i4 ?_
        obtain ⟨v8, hv8, hf⟩ := ob_s hf
        refine mc_X3_X3_refuse S hC hD hK hP hS hv8 hl.1 ⟨Nat.le_of_ble_eq_true rfl, Nat.le_of_ble_eq_true rfl⟩ (Nat.le_of_ble_eq_true rfl) ⟨Nat.zero_le _, Nat.zero_le _⟩ dX3_when_40 (fun H locs _ hP hS => ?_)
        have hE := Option.some.inj hf
        subst hE
        exact gt_wi S hr hlocks trivial hP hS dX3_when_43
    · replace hf := it_t c4 hf
      refine lv_aload_n hx hb dX3_when_24 rfl (lv_at hl 0 rfl) ?_
      refine lv_iconst hx hb dX3_when_25 kc_i2 ?_
      obtain ⟨v9, hv9, hf⟩ := ob_s hf
      refine mc_X3_X3_refuse S hC hD hK hP hS hv9 hl.1 ⟨Nat.le_of_ble_eq_true rfl, Nat.le_of_ble_eq_true rfl⟩ (Nat.le_of_ble_eq_true rfl) ⟨Nat.zero_le _, Nat.zero_le _⟩ dX3_when_26 (fun H locs _ hP hS => ?_)
      have hE := Option.some.inj hf
      subst hE
      exact gt_wi S hr hlocks trivial hP hS dX3_when_29
  · replace hf := it_t c2 hf
    refine lv_aload_n hx hb dX3_when_10 rfl (lv_at hl 0 rfl) ?_
    refine lv_iconst hx hb dX3_when_11 kc_i1 ?_
    obtain ⟨v10, hv10, hf⟩ := ob_s hf
    refine mc_X3_X3_refuse S hC hD hK hP hS hv10 hl.1 ⟨Nat.le_of_ble_eq_true rfl, Nat.le_of_ble_eq_true rfl⟩ (Nat.le_of_ble_eq_true rfl) ⟨Nat.zero_le _, Nat.zero_le _⟩ dX3_when_12 (fun H locs _ hP hS => ?_)
    have hE := Option.some.inj hf
    subst hE
    exact gt_wi S hr hlocks trivial hP hS dX3_when_15
theorem hd_X3_tip : yX3_tip.cls = RX3 ∧ yX3_tip.cls ≠ "java/lang/invoke/MethodHandle" ∧ yX3_tip.cls ≠ "java/lang/invoke/VarHandle" ∧ (parseMethodDescriptor yX3_tip.desc).map (fun d => d.parameters.length) = some 1 := by decide +kernel
set_option maxHeartbeats 4000000 in
set_option maxRecDepth 100000 in
theorem mm_X3_tip {a0 : Int32} {out : Int32 × Int32 × Int32} (hC : mC cl tys mi cI cJ cB) (hD : mD o ad) (hf : f_X3_tip nw th st a0 = some out) : Met l yX3_tip (ws_ yX3_tip cX3_tip 8 (some .int)) (rM 6 136) (gPc D cl tys [.ref o, .int a0] (mW mi cI cJ cB o ad th tp st fk fp ac si fr tt kd nu fa pl fo wd ci gr lm om nw rd aa kp ta nm rn gv gt rw rh lg lh ou)) (gQ D cl (some (.int out.1)) True (mW mi cI cJ cB o ad out.2.1 tp out.2.2 fk fp ac si fr tt kd nu fa pl fo wd ci gr lm om nw rd aa kp ta nm rn gv gt rw rh lg lh ou) (mA o ad)) 0 0 (mA o ad) := by
  refine gGo (by decide +kernel) (Nat.le_of_ble_eq_true rfl) (fun p e s m below meth c ls S hr hlocks hK hP hl => ?_)
  have S : CallFix p m c cX3_tip 8 s _ lw_all RX3 := S
  obtain ⟨hx, hb, hml, hown, hts⟩ := id S
  have hl : lv_has ls 8 [(0, .ref o), (1, .int a0)] := hl
  have w108 : ∀ (k51 : Int32 → Int32 → Int32 → Int32 → Int32 → Int32 → Int32 → Option (Int32 × Int32 × Int32)), (∀ (b0 : Int32) (b1 : Int32) (b2 : Int32) (b3 : Int32) (b4 : Int32) (b5 : Int32) (b6 : Int32) (ls : Array Slot) (H : Heap) (locs : List Loc), va_P D cl (mW mi cI cJ cB o ad b5 tp b6 fk fp ac si fr tt kd nu fa pl fo wd ci gr lm om nw rd aa kp ta nm rn gv gt rw rh lg lh ou) H → va_S (mA o ad) s.heap H locs → lv_has ls 8 [(0, .ref o), (1, .int b0), (2, .int b1), (3, .int b2), (4, .int b3), (5, .int b4)] → k51 b0 b1 b2 b3 b4 b5 b6 = some out → W p l e (rM 6 136) s m ([.ref o, .int a0] : List Value).toArray below meth c H locs 0 0 (MQ below (gQ D cl (some (.int out.1)) True (mW mi cI cJ cB o ad out.2.1 tp out.2.2 fk fp ac si fr tt kd nu fa pl fo wd ci gr lm om nw rd aa kp ta nm rn gv gt rw rh lg lh ou) (mA o ad)) ([.ref o, .int a0] : List Value).toArray s 0 0 (mA o ad)) (F0 m 51 ls [])) → ∀ (x1 : Int32) (x2 : Int32) (x3 : Int32) (x4 : Int32) (x5 : Int32) (x6 : Int32) (th : Int32) (st : Int32) (ls : Array Slot) (H : Heap) (locs : List Loc), va_P D cl (mW mi cI cJ cB o ad th tp st fk fp ac si fr tt kd nu fa pl fo wd ci gr lm om nw rd aa kp ta nm rn gv gt rw rh lg lh ou) H → va_S (mA o ad) s.heap H locs → lv_has ls 8 [(0, .ref o), (1, .int x1), (2, .int x2), (3, .int x3), (4, .int x4), (5, .int x5), (6, .int x6)] → f_X3_tip_108 k51 nw x1 x2 x3 x4 x5 x6 th st = some out → W p l e (rM 6 136) s m ([.ref o, .int a0] : List Value).toArray below meth c H locs 0 0 (MQ below (gQ D cl (some (.int out.1)) True (mW mi cI cJ cB o ad out.2.1 tp out.2.2 fk fp ac si fr tt kd nu fa pl fo wd ci gr lm om nw rd aa kp ta nm rn gv gt rw rh lg lh ou) (mA o ad)) ([.ref o, .int a0] : List Value).toArray s 0 0 (mA o ad)) (F0 m 108 ls []) := by
    intro k51 hk51 x1 x2 x3 x4 x5 x6 th st ls H locs hP hS hl hf
    rw [f_X3_tip_108] at hf
    refine lv_aload_n hx hb dX3_tip_108 rfl (lv_at hl 0 rfl) ?_
    refine lv_iload_n hx hb dX3_tip_109 rfl (lv_at hl 1 rfl) ?_
    refine lv_iload hx hb dX3_tip_110 (lv_at hl 6 rfl) ?_
    refine lv_aload_n hx hb dX3_tip_112 rfl (lv_at hl 0 rfl) ?_
    refine lv_iload hx hb dX3_tip_113 (lv_at hl 6 rfl) ?_
    obtain ⟨v1, hv1, hf⟩ := ob_s hf
    refine mc_X3_X3_biddersOf S hC hK hP hv1 hl.1 ⟨Nat.le_of_ble_eq_true rfl, Nat.le_of_ble_eq_true rfl⟩ (Nat.le_of_ble_eq_true rfl) ⟨Nat.zero_le _, Nat.zero_le _⟩ dX3_tip_115 (fun _ => ?_)
    obtain ⟨v2, hv2, hf⟩ := ob_s hf
    refine mc_X3_X3_aheadOf S hC hK hP hv2 hl.1 ⟨Nat.le_of_ble_eq_true rfl, Nat.le_of_ble_eq_true rfl⟩ (Nat.le_of_ble_eq_true rfl) ⟨Nat.zero_le _, Nat.zero_le _⟩ dX3_tip_118 (fun _ => ?_)
    refine lv_istore (lv' := [(7, .int v2), (0, .ref o), (1, .int x1), (2, .int x2), (3, .int x3), (4, .int x4), (5, .int x5), (6, .int x6)]) hx hb dX3_tip_121 hl (by decide) rfl (fun ls hl => ?_)
    refine lv_iload_n hx hb dX3_tip_123 rfl (lv_at hl 3 rfl) ?_
    refine lv_iconst hx hb dX3_tip_124 kc_im1 ?_
    refine lv_icmp_eq (tgt := 137) hx hb dX3_tip_125 (by decide) (fun c3 => ?_) (fun c3 => ?_)
    · replace hf := it_t c3 hf
      refine lv_iload hx hb dX3_tip_137 (lv_at hl 7 rfl) ?_
      refine lv_istore_n (i := 2) (lv' := [(2, .int x6), (7, .int v2), (0, .ref o), (1, .int x1), (3, .int x3), (4, .int x4), (5, .int x5), (6, .int x6)]) hx hb dX3_tip_139 rfl hl (by decide) rfl (fun ls hl => ?_)
      refine lv_iload hx hb dX3_tip_140 (lv_at hl 1 rfl) ?_
      refine lv_istore_n (i := 3) (lv' := [(3, .int v2), (2, .int x6), (7, .int v2), (0, .ref o), (1, .int x1), (4, .int x4), (5, .int x5), (6, .int x6)]) hx hb dX3_tip_142 rfl hl (by decide) rfl (fun ls hl => ?_)
      refine lv_iinc (v := (x5 + 1)) (lv' := [(5, .int (x5 + 1)), (3, .int v2), (2, .int x6), (7, .int v2), (0, .ref o), (1, .int x1), (4, .int x4), (6, .int x6)]) hx hb dX3_tip_143 hl (k := 6) rfl rfl (by decide) rfl (fun ls hl => ?_)
      refine lv_goto (tgt := 51) hx hb dX3_tip_146 (by decide) ?_
      exact hk51 x1 x6 v2 x4 (x5 + 1) th st ls H locs hP hS (lv_sub (l' := [(0, .ref o), (1, .int x1), (2, .int x6), (3, .int v2), (4, .int x4), (5, .int (x5 + 1))]) hl [4, 5, 2, 1, 6, 0] rfl) hf
    · replace hf := it_f c3 hf
      refine lv_iload hx hb dX3_tip_128 (lv_at hl 0 rfl) ?_
      refine lv_iload_n hx hb dX3_tip_130 rfl (lv_at hl 4 rfl) ?_
      refine lv_icmp_lt (tgt := 137) hx hb dX3_tip_131 (by decide) (fun c4 => ?_) (fun c4 => ?_)
      · replace hf := it_t c4 hf
        refine lv_iload hx hb dX3_tip_137 (lv_at hl 7 rfl) ?_
        refine lv_istore_n (i := 2) (lv' := [(2, .int x6), (7, .int v2), (0, .ref o), (1, .int x1), (3, .int x3), (4, .int x4), (5, .int x5), (6, .int x6)]) hx hb dX3_tip_139 rfl hl (by decide) rfl (fun ls hl => ?_)
        refine lv_iload hx hb dX3_tip_140 (lv_at hl 1 rfl) ?_
        refine lv_istore_n (i := 3) (lv' := [(3, .int v2), (2, .int x6), (7, .int v2), (0, .ref o), (1, .int x1), (4, .int x4), (5, .int x5), (6, .int x6)]) hx hb dX3_tip_142 rfl hl (by decide) rfl (fun ls hl => ?_)
        refine lv_iinc (v := (x5 + 1)) (lv' := [(5, .int (x5 + 1)), (3, .int v2), (2, .int x6), (7, .int v2), (0, .ref o), (1, .int x1), (4, .int x4), (6, .int x6)]) hx hb dX3_tip_143 hl (k := 6) rfl rfl (by decide) rfl (fun ls hl => ?_)
        refine lv_goto (tgt := 51) hx hb dX3_tip_146 (by decide) ?_
        exact hk51 x1 x6 v2 x4 (x5 + 1) th st ls H locs hP hS (lv_sub (l' := [(0, .ref o), (1, .int x1), (2, .int x6), (3, .int v2), (4, .int x4), (5, .int (x5 + 1))]) hl [4, 5, 2, 1, 6, 0] rfl) hf
      · replace hf := it_f c4 hf
        refine lv_goto (tgt := 143) hx hb dX3_tip_134 (by decide) ?_
        refine lv_iinc (v := (x5 + 1)) (lv' := [(5, .int (x5 + 1)), (7, .int v2), (0, .ref o), (1, .int x1), (2, .int x2), (3, .int x3), (4, .int x4), (6, .int x6)]) hx hb dX3_tip_143 hl (k := 6) rfl rfl (by decide) rfl (fun ls hl => ?_)
        refine lv_goto (tgt := 51) hx hb dX3_tip_146 (by decide) ?_
        exact hk51 x1 x2 x3 x4 (x5 + 1) th st ls H locs hP hS (lv_sub (l' := [(0, .ref o), (1, .int x1), (2, .int x2), (3, .int x3), (4, .int x4), (5, .int (x5 + 1))]) hl [2, 3, 4, 5, 6, 0] rfl) hf
  have w83 : ∀ (k51 : Int32 → Int32 → Int32 → Int32 → Int32 → Int32 → Int32 → Option (Int32 × Int32 × Int32)), (∀ (b0 : Int32) (b1 : Int32) (b2 : Int32) (b3 : Int32) (b4 : Int32) (b5 : Int32) (b6 : Int32) (ls : Array Slot) (H : Heap) (locs : List Loc), va_P D cl (mW mi cI cJ cB o ad b5 tp b6 fk fp ac si fr tt kd nu fa pl fo wd ci gr lm om nw rd aa kp ta nm rn gv gt rw rh lg lh ou) H → va_S (mA o ad) s.heap H locs → lv_has ls 8 [(0, .ref o), (1, .int b0), (2, .int b1), (3, .int b2), (4, .int b3), (5, .int b4)] → k51 b0 b1 b2 b3 b4 b5 b6 = some out → W p l e (rM 6 136) s m ([.ref o, .int a0] : List Value).toArray below meth c H locs 0 0 (MQ below (gQ D cl (some (.int out.1)) True (mW mi cI cJ cB o ad out.2.1 tp out.2.2 fk fp ac si fr tt kd nu fa pl fo wd ci gr lm om nw rd aa kp ta nm rn gv gt rw rh lg lh ou) (mA o ad)) ([.ref o, .int a0] : List Value).toArray s 0 0 (mA o ad)) (F0 m 51 ls [])) → ∀ (x1 : Int32) (x2 : Int32) (x3 : Int32) (x4 : Int32) (x5 : Int32) (y0 : Int32) (th : Int32) (st : Int32) (ls : Array Slot) (H : Heap) (locs : List Loc), va_P D cl (mW mi cI cJ cB o ad th tp st fk fp ac si fr tt kd nu fa pl fo wd ci gr lm om nw rd aa kp ta nm rn gv gt rw rh lg lh ou) H → va_S (mA o ad) s.heap H locs → lv_has ls 8 [(0, .ref o), (1, .int x1), (2, .int x2), (3, .int x3), (4, .int x4), (5, .int x5)] → f_X3_tip_83 k51 nw x1 x2 x3 x4 x5 y0 th st = some out → W p l e (rM 6 136) s m ([.ref o, .int a0] : List Value).toArray below meth c H locs 0 0 (MQ below (gQ D cl (some (.int out.1)) True (mW mi cI cJ cB o ad out.2.1 tp out.2.2 fk fp ac si fr tt kd nu fa pl fo wd ci gr lm om nw rd aa kp ta nm rn gv gt rw rh lg lh ou) (mA o ad)) ([.ref o, .int a0] : List Value).toArray s 0 0 (mA o ad)) (F0 m 83 ls [.int y0]) := by
    intro k51 hk51 x1 x2 x3 x4 x5 y0 th st ls H locs hP hS hl hf
    rw [f_X3_tip_83] at hf
    refine lv_istore (lv' := [(6, .int y0), (0, .ref o), (1, .int x1), (2, .int x2), (3, .int x3), (4, .int x4), (5, .int x5)]) hx hb dX3_tip_83 hl (by decide) rfl (fun ls hl => ?_)
    refine lv_aload_n hx hb dX3_tip_85 rfl (lv_at hl 1 rfl) ?_
    refine lv_iload_n hx hb dX3_tip_86 rfl (lv_at hl 2 rfl) ?_
    refine lv_iload hx hb dX3_tip_87 (lv_at hl 0 rfl) ?_
    obtain ⟨v1, hv1, hf⟩ := ob_s hf
    refine mc_X3_X3_isBid S hC hK hP hv1 hl.1 ⟨Nat.le_of_ble_eq_true rfl, Nat.le_of_ble_eq_true rfl⟩ (Nat.le_of_ble_eq_true rfl) ⟨Nat.zero_le _, Nat.zero_le _⟩ dX3_tip_89 (fun hnv1 => ?_)
    refine lv_if_ne (tgt := 108) hx hb dX3_tip_92 (by decide) (fun c2 => ?_) (fun c2 => ?_)
    · replace hf := it_f c2 hf
      exact (w108 k51 hk51) x1 x2 x3 x4 x5 y0 th st ls H locs hP hS (lv_sub (l' := [(0, .ref o), (1, .int x1), (2, .int x2), (3, .int x3), (4, .int x4), (5, .int x5), (6, .int y0)]) hl [1, 2, 3, 4, 5, 6, 0] rfl) hf
    · replace hf := it_t c2 hf
      refine lv_aload_n hx hb dX3_tip_95 rfl (lv_at hl 1 rfl) ?_
      refine lv_iload_n hx hb dX3_tip_96 rfl (lv_at hl 2 rfl) ?_
      refine lv_iload hx hb dX3_tip_97 (lv_at hl 0 rfl) ?_
      obtain ⟨v3, hv3, hf⟩ := ob_s hf
      refine mc_X3_X3_whyNot S hC hK hP hv3 hl.1 ⟨Nat.le_of_ble_eq_true rfl, Nat.le_of_ble_eq_true rfl⟩ (Nat.le_of_ble_eq_true rfl) ⟨Nat.zero_le _, Nat.zero_le _⟩ dX3_tip_99 (fun _ => ?_)
      refine lv_if_eq (tgt := 108) hx hb dX3_tip_102 (by decide) (fun c4 => ?_) (fun c4 => ?_)
      · replace hf := it_t c4 hf
        exact (w108 k51 hk51) x1 x2 x3 x4 x5 y0 th st ls H locs hP hS (lv_sub (l' := [(0, .ref o), (1, .int x1), (2, .int x2), (3, .int x3), (4, .int x4), (5, .int x5), (6, .int y0)]) hl [1, 2, 3, 4, 5, 6, 0] rfl) hf
      · replace hf := it_f c4 hf
        refine lv_goto (tgt := 143) hx hb dX3_tip_105 (by decide) ?_
        refine lv_iinc (v := (x5 + 1)) (lv' := [(5, .int (x5 + 1)), (6, .int y0), (0, .ref o), (1, .int x1), (2, .int x2), (3, .int x3), (4, .int x4)]) hx hb dX3_tip_143 hl (k := 6) rfl rfl (by decide) rfl (fun ls hl => ?_)
        refine lv_goto (tgt := 51) hx hb dX3_tip_146 (by decide) ?_
        exact hk51 x1 x2 x3 x4 (x5 + 1) th st ls H locs hP hS (lv_sub (l' := [(0, .ref o), (1, .int x1), (2, .int x2), (3, .int x3), (4, .int x4), (5, .int (x5 + 1))]) hl [2, 3, 4, 5, 6, 0] rfl) hf
  have w51 : ∀ (n : Nat) , ∀ (x1 : Int32) (x2 : Int32) (x3 : Int32) (x4 : Int32) (x5 : Int32) (th : Int32) (st : Int32) (ls : Array Slot) (H : Heap) (locs : List Loc), va_P D cl (mW mi cI cJ cB o ad th tp st fk fp ac si fr tt kd nu fa pl fo wd ci gr lm om nw rd aa kp ta nm rn gv gt rw rh lg lh ou) H → va_S (mA o ad) s.heap H locs → lv_has ls 8 [(0, .ref o), (1, .int x1), (2, .int x2), (3, .int x3), (4, .int x4), (5, .int x5)] → f_X3_tip_51 n nw x1 x2 x3 x4 x5 th st = some out → W p l e (rM 6 136) s m ([.ref o, .int a0] : List Value).toArray below meth c H locs 0 0 (MQ below (gQ D cl (some (.int out.1)) True (mW mi cI cJ cB o ad out.2.1 tp out.2.2 fk fp ac si fr tt kd nu fa pl fo wd ci gr lm om nw rd aa kp ta nm rn gv gt rw rh lg lh ou) (mA o ad)) ([.ref o, .int a0] : List Value).toArray s 0 0 (mA o ad)) (F0 m 51 ls []) := by
    intro n
    induction n with
    | zero =>
      intro x1 x2 x3 x4 x5 th st ls H locs hP hS hl hf
      exact absurd hf (by rw [f_X3_tip_51]; exact nofun)
    | succ n ih =>
      intro x1 x2 x3 x4 x5 th st ls H locs hP hS hl hf
      rw [f_X3_tip_51] at hf
      refine lv_iload hx hb dX3_tip_51 (lv_at hl 5 rfl) ?_
      refine lv_iload hx hb dX3_tip_53 (lv_at hl 4 rfl) ?_
      refine lv_icmp_ge (tgt := 149) hx hb dX3_tip_55 (by decide) (fun c1 => ?_) (fun c1 => ?_)
      · replace hf := it_t c1 hf
        refine lv_iload_n hx hb dX3_tip_149 rfl (lv_at hl 2 rfl) ?_
        refine lv_iconst hx hb dX3_tip_150 kc_im1 ?_
        refine lv_icmp_ne (tgt := 162) hx hb dX3_tip_151 (by decide) (fun c2 => ?_) (fun c2 => ?_)
        · replace hf := it_f c2 hf
          refine lv_aload_n hx hb dX3_tip_162 rfl (lv_at hl 0 rfl) ?_
          refine lv_iload_n hx hb dX3_tip_163 rfl (lv_at hl 2 rfl) ?_
          obtain ⟨v3, hv3, hf⟩ := ob_s hf
          refine mc_X3_X3_gives S hC hD hK hP hS hv3 hl.1 ⟨Nat.le_of_ble_eq_true rfl, Nat.le_of_ble_eq_true rfl⟩ (Nat.le_of_ble_eq_true rfl) ⟨Nat.zero_le _, Nat.zero_le _⟩ dX3_tip_164 (fun H locs _ hP hS => ?_)
          have hE := Option.some.inj hf
          subst hE
          exact gt_wi S hr hlocks trivial hP hS dX3_tip_167
        · replace hf := it_t c2 hf
          refine lv_aload_n hx hb dX3_tip_154 rfl (lv_at hl 0 rfl) ?_
          refine lv_iconst hx hb dX3_tip_155 kc_i5 ?_
          obtain ⟨v4, hv4, hf⟩ := ob_s hf
          refine mc_X3_X3_refuse S hC hD hK hP hS hv4 hl.1 ⟨Nat.le_of_ble_eq_true rfl, Nat.le_of_ble_eq_true rfl⟩ (Nat.le_of_ble_eq_true rfl) ⟨Nat.zero_le _, Nat.zero_le _⟩ dX3_tip_156 (fun H locs _ hP hS => ?_)
          refine lv_goto (tgt := 167) hx hb dX3_tip_159 (by decide) ?_
          have hE := Option.some.inj hf
          subst hE
          exact gt_wi S hr hlocks trivial hP hS dX3_tip_167
      · replace hf := it_f c1 hf
        refine lv_aload_n hx hb dX3_tip_58 rfl (lv_at hl 0 rfl) ?_
        refine lv_iload_n hx hb dX3_tip_59 rfl (lv_at hl 1 rfl) ?_
        refine lv_bipush hx hb dX3_tip_60 kc_b11 ?_
        obtain ⟨v5, hv5, hf⟩ := ob_s hf
        refine mc_X3_X3_of S hC hK hP hv5 hl.1 ⟨Nat.le_of_ble_eq_true rfl, Nat.le_of_ble_eq_true rfl⟩ (Nat.le_of_ble_eq_true rfl) ⟨Nat.zero_le _, Nat.zero_le _⟩ dX3_tip_62 (fun _ => ?_)
        refine lv_if_ne (tgt := 73) hx hb dX3_tip_65 (by decide) (fun c6 => ?_) (fun c6 => ?_)
        · replace hf := it_f c6 hf
          refine lv_aload_n hx hb dX3_tip_73 rfl (lv_at hl 0 rfl) ?_
          refine lv_iload_n hx hb dX3_tip_74 rfl (lv_at hl 1 rfl) ?_
          refine lv_bipush hx hb dX3_tip_75 kc_b12 ?_
          refine lv_iload hx hb dX3_tip_77 (lv_at hl 5 rfl) ?_
          refine lv_iadd hx hb dX3_tip_79 ?_
          obtain ⟨v7, hv7, hf⟩ := ob_s hf
          refine mc_X3_X3_of S hC hK hP hv7 hl.1 ⟨Nat.le_of_ble_eq_true rfl, Nat.le_of_ble_eq_true rfl⟩ (Nat.le_of_ble_eq_true rfl) ⟨Nat.zero_le _, Nat.zero_le _⟩ dX3_tip_80 (fun _ => ?_)
          exact (w83 (f_X3_tip_51 n nw) (ih)) x1 x2 x3 x4 x5 v7 th st ls H locs hP hS hl hf
        · replace hf := it_t c6 hf
          refine lv_iload hx hb dX3_tip_68 (lv_at hl 5 rfl) ?_
          refine lv_goto (tgt := 83) hx hb dX3_tip_70 (by decide) ?_
          exact (w83 (f_X3_tip_51 n nw) (ih)) x1 x2 x3 x4 x5 x5 th st ls H locs hP hS hl hf
  suffices hg : ∀ (H : Heap) (locs : List Loc), va_P D cl (mW mi cI cJ cB o ad th tp st fk fp ac si fr tt kd nu fa pl fo wd ci gr lm om nw rd aa kp ta nm rn gv gt rw rh lg lh ou) H → va_S (mA o ad) s.heap H locs → W p l e (rM 6 136) s m ([.ref o, .int a0] : List Value).toArray below meth c H locs 0 0 (MQ below (gQ D cl (some (.int out.1)) True (mW mi cI cJ cB o ad out.2.1 tp out.2.2 fk fp ac si fr tt kd nu fa pl fo wd ci gr lm om nw rd aa kp ta nm rn gv gt rw rh lg lh ou) (mA o ad)) ([.ref o, .int a0] : List Value).toArray s 0 0 (mA o ad)) (F0 m 0 ls []) from hg s.heap [] hP va_S.rf
  clear hP
  intro H locs hP hS
  rw [f_X3_tip] at hf
  refine lv_aload_n hx hb dX3_tip_0 rfl (lv_at hl 0 rfl) ?_
  refine lv_iload_n hx hb dX3_tip_1 rfl (lv_at hl 1 rfl) ?_
  obtain ⟨v1, hv1, hf⟩ := ob_s hf
  refine mc_X3_X3_isHouse S hC hK hP hv1 hl.1 ⟨Nat.le_of_ble_eq_true rfl, Nat.le_of_ble_eq_true rfl⟩ (Nat.le_of_ble_eq_true rfl) ⟨Nat.zero_le _, Nat.zero_le _⟩ dX3_tip_2 (fun hnv1 => ?_)
  refine lv_if_ne (tgt := 14) hx hb dX3_tip_5 (by decide) (fun c2 => ?_) (fun c2 => ?_)
  · replace hf := it_f c2 hf
    refine lv_iconst hx hb dX3_tip_14 kc_im1 ?_
    refine lv_istore_n (i := 2) (lv' := [(2, .int (-1)), (0, .ref o), (1, .int a0)]) hx hb dX3_tip_15 rfl hl (by decide) rfl (fun ls hl => ?_)
    refine lv_iconst hx hb dX3_tip_16 kc_i0 ?_
    refine lv_istore_n (i := 3) (lv' := [(3, .int 0), (2, .int (-1)), (0, .ref o), (1, .int a0)]) hx hb dX3_tip_17 rfl hl (by decide) rfl (fun ls hl => ?_)
    refine lv_aload_n hx hb dX3_tip_18 rfl (lv_at hl 2 rfl) ?_
    refine lv_iload_n hx hb dX3_tip_19 rfl (lv_at hl 3 rfl) ?_
    refine lv_bipush hx hb dX3_tip_20 kc_b11 ?_
    obtain ⟨v3, hv3, hf⟩ := ob_s hf
    refine mc_X3_X3_of S hC hK hP hv3 hl.1 ⟨Nat.le_of_ble_eq_true rfl, Nat.le_of_ble_eq_true rfl⟩ (Nat.le_of_ble_eq_true rfl) ⟨Nat.zero_le _, Nat.zero_le _⟩ dX3_tip_22 (fun _ => ?_)
    refine lv_if_ne (tgt := 39) hx hb dX3_tip_25 (by decide) (fun c4 => ?_) (fun c4 => ?_)
    · replace hf := it_f c4 hf
      refine lv_aload_n hx hb dX3_tip_39 rfl (lv_at hl 2 rfl) ?_
      refine lv_iload_n hx hb dX3_tip_40 rfl (lv_at hl 3 rfl) ?_
      refine lv_bipush hx hb dX3_tip_41 kc_b11 ?_
      obtain ⟨v5, hv5, hf⟩ := ob_s hf
      refine mc_X3_X3_of S hC hK hP hv5 hl.1 ⟨Nat.le_of_ble_eq_true rfl, Nat.le_of_ble_eq_true rfl⟩ (Nat.le_of_ble_eq_true rfl) ⟨Nat.zero_le _, Nat.zero_le _⟩ dX3_tip_43 (fun _ => ?_)
      refine lv_istore (lv' := [(4, .int v5), (3, .int 0), (2, .int (-1)), (0, .ref o), (1, .int a0)]) hx hb dX3_tip_46 hl (by decide) rfl (fun ls hl => ?_)
      refine lv_iconst hx hb dX3_tip_48 kc_i0 ?_
      refine lv_istore (lv' := [(5, .int 0), (4, .int v5), (3, .int 0), (2, .int (-1)), (0, .ref o), (1, .int a0)]) hx hb dX3_tip_49 hl (by decide) rfl (fun ls hl => ?_)
      exact (w51 FU) a0 (-1) 0 v5 0 th st ls H locs hP hS (lv_sub (l' := [(0, .ref o), (1, .int a0), (2, .int (-1)), (3, .int 0), (4, .int v5), (5, .int 0)]) hl [4, 5, 3, 2, 1, 0] rfl) hf
    · replace hf := it_t c4 hf
      refine lv_aload_n hx hb dX3_tip_28 rfl (lv_at hl 2 rfl) ?_
      refine mg_1 S hC hK hP dX3_tip_29 ?_
      refine lv_sipush hx hb dX3_tip_32 kc_s230 ?_
      refine ma_1 S hC hK hP kv_230_390 kn_230 dX3_tip_35 ?_
      refine lv_goto (tgt := 46) hx hb dX3_tip_36 (by decide) ?_
      refine lv_istore (lv' := [(4, .int (nw 230)), (3, .int 0), (2, .int (-1)), (0, .ref o), (1, .int a0)]) hx hb dX3_tip_46 hl (by decide) rfl (fun ls hl => ?_)
      refine lv_iconst hx hb dX3_tip_48 kc_i0 ?_
      refine lv_istore (lv' := [(5, .int 0), (4, .int (nw 230)), (3, .int 0), (2, .int (-1)), (0, .ref o), (1, .int a0)]) hx hb dX3_tip_49 hl (by decide) rfl (fun ls hl => ?_)
      exact (w51 FU) a0 (-1) 0 (nw 230) 0 th st ls H locs hP hS (lv_sub (l' := [(0, .ref o), (1, .int a0), (2, .int (-1)), (3, .int 0), (4, .int (nw 230)), (5, .int 0)]) hl [4, 5, 3, 2, 1, 0] rfl) hf
  · replace hf := it_t c2 hf
    refine lv_aload_n hx hb dX3_tip_8 rfl (lv_at hl 0 rfl) ?_
    refine lv_iconst hx hb dX3_tip_9 kc_i2 ?_
    obtain ⟨v6, hv6, hf⟩ := ob_s hf
    refine mc_X3_X3_refuse S hC hD hK hP hS hv6 hl.1 ⟨Nat.le_of_ble_eq_true rfl, Nat.le_of_ble_eq_true rfl⟩ (Nat.le_of_ble_eq_true rfl) ⟨Nat.zero_le _, Nat.zero_le _⟩ dX3_tip_10 (fun H locs _ hP hS => ?_)
    have hE := Option.some.inj hf
    subst hE
    exact gt_wi S hr hlocks trivial hP hS dX3_tip_13
theorem hd_X3_would : yX3_would.cls = RX3 ∧ yX3_would.cls ≠ "java/lang/invoke/MethodHandle" ∧ yX3_would.cls ≠ "java/lang/invoke/VarHandle" ∧ (parseMethodDescriptor yX3_would.desc).map (fun d => d.parameters.length) = some 2 := by decide +kernel
set_option maxHeartbeats 4000000 in
set_option maxRecDepth 100000 in
theorem mm_X3_would {a0 : Int32} {a1 : Int32} {out : Int32 × Int32 × Int32 × (Nat → Int32) × (Nat → Int32)} (hC : mC cl tys mi cI cJ cB) (hD : mD o ad) (hf : f_X3_would th st nw aa a0 a1 = some out) : Met l yX3_would (ws_ yX3_would cX3_would 5 (some .int)) (rM 8 183) (gPc D cl tys [.ref o, .int a0, .int a1] (mW mi cI cJ cB o ad th tp st fk fp ac si fr tt kd nu fa pl fo wd ci gr lm om nw rd aa kp ta nm rn gv gt rw rh lg lh ou)) (gQ D cl (some (.int out.1)) True (mW mi cI cJ cB o ad out.2.1 tp out.2.2.1 fk fp ac si fr tt kd nu fa pl fo wd ci gr lm om out.2.2.2.1 rd out.2.2.2.2 kp ta nm rn gv gt rw rh lg lh ou) (mA o ad)) 0 0 (mA o ad) := by
  refine gGo (by decide +kernel) (Nat.le_of_ble_eq_true rfl) (fun p e s m below meth c ls S hr hlocks hK hP hl => ?_)
  have S : CallFix p m c cX3_would 5 s _ lw_all RX3 := S
  obtain ⟨hx, hb, hml, hown, hts⟩ := id S
  have hl : lv_has ls 5 [(0, .ref o), (1, .int a0), (2, .int a1)] := hl
  have w40 : ∀ (th : Int32) (st : Int32) (nw : (Nat → Int32)) (aa : (Nat → Int32)) (ls : Array Slot) (H : Heap) (locs : List Loc), va_P D cl (mW mi cI cJ cB o ad th tp st fk fp ac si fr tt kd nu fa pl fo wd ci gr lm om nw rd aa kp ta nm rn gv gt rw rh lg lh ou) H → va_S (mA o ad) s.heap H locs → lv_has ls 5 [(0, .ref o)] → f_X3_would_40 th st nw aa = some out → W p l e (rM 8 183) s m ([.ref o, .int a0, .int a1] : List Value).toArray below meth c H locs 0 0 (MQ below (gQ D cl (some (.int out.1)) True (mW mi cI cJ cB o ad out.2.1 tp out.2.2.1 fk fp ac si fr tt kd nu fa pl fo wd ci gr lm om out.2.2.2.1 rd out.2.2.2.2 kp ta nm rn gv gt rw rh lg lh ou) (mA o ad)) ([.ref o, .int a0, .int a1] : List Value).toArray s 0 0 (mA o ad)) (F0 m 40 ls []) := by
    intro th st nw aa ls H locs hP hS hl hf
    rw [f_X3_would_40] at hf
    refine lv_aload_n hx hb dX3_would_40 rfl (lv_at hl 0 rfl) ?_
    refine lv_iconst hx hb dX3_would_41 kc_i5 ?_
    obtain ⟨v1, hv1, hf⟩ := ob_s hf
    refine mc_X3_X3_refuse S hC hD hK hP hS hv1 hl.1 ⟨Nat.le_of_ble_eq_true rfl, Nat.le_of_ble_eq_true rfl⟩ (Nat.le_of_ble_eq_true rfl) ⟨Nat.zero_le _, Nat.zero_le _⟩ dX3_would_42 (fun H locs _ hP hS => ?_)
    have hE := Option.some.inj hf
    subst hE
    exact gt_wi S hr hlocks trivial hP hS dX3_would_45
  have w77 : ∀ (n : Nat) , ∀ (x1 : Int32) (x3 : Int32) (x4 : Int32) (th : Int32) (st : Int32) (nw : (Nat → Int32)) (aa : (Nat → Int32)) (ls : Array Slot) (H : Heap) (locs : List Loc), va_P D cl (mW mi cI cJ cB o ad th tp st fk fp ac si fr tt kd nu fa pl fo wd ci gr lm om nw rd aa kp ta nm rn gv gt rw rh lg lh ou) H → va_S (mA o ad) s.heap H locs → lv_has ls 5 [(0, .ref o), (1, .int x1), (3, .int x3), (4, .int x4)] → f_X3_would_77 n x1 x3 x4 th st nw aa = some out → W p l e (rM 8 183) s m ([.ref o, .int a0, .int a1] : List Value).toArray below meth c H locs 0 0 (MQ below (gQ D cl (some (.int out.1)) True (mW mi cI cJ cB o ad out.2.1 tp out.2.2.1 fk fp ac si fr tt kd nu fa pl fo wd ci gr lm om out.2.2.2.1 rd out.2.2.2.2 kp ta nm rn gv gt rw rh lg lh ou) (mA o ad)) ([.ref o, .int a0, .int a1] : List Value).toArray s 0 0 (mA o ad)) (F0 m 77 ls []) := by
    intro n
    induction n with
    | zero =>
      intro x1 x3 x4 th st nw aa ls H locs hP hS hl hf
      exact absurd hf (by rw [f_X3_would_77]; exact nofun)
    | succ n ih =>
      intro x1 x3 x4 th st nw aa ls H locs hP hS hl hf
      rw [f_X3_would_77] at hf
      refine lv_iload hx hb dX3_would_77 (lv_at hl 3 rfl) ?_
      refine lv_aload_n hx hb dX3_would_79 rfl (lv_at hl 0 rfl) ?_
      refine mg_1 S hC hK hP dX3_would_80 ?_
      refine lv_sipush hx hb dX3_would_83 kc_s299 ?_
      refine ma_1 S hC hK hP kv_299_390 kn_299 dX3_would_86 ?_
      refine lv_icmp_ge (tgt := 138) hx hb dX3_would_87 (by decide) (fun c1 => ?_) (fun c1 => ?_)
      · replace hf := it_t c1 hf
        refine lv_aload_n hx hb dX3_would_138 rfl (lv_at hl 0 rfl) ?_
        refine mg_3 S hC hK hP dX3_would_139 ?_
        refine lv_aload_n hx hb dX3_would_142 rfl (lv_at hl 0 rfl) ?_
        refine mg_1 S hC hK hP dX3_would_143 ?_
        obtain ⟨v2, hv2, hf⟩ := ob_s hf
        refine mc_X3_X3_copies_aa_nw S hC hD hK hP hS hv2 hl.1 ⟨Nat.le_of_ble_eq_true rfl, Nat.le_of_ble_eq_true rfl⟩ (Nat.le_of_ble_eq_true rfl) ⟨Nat.zero_le _, Nat.zero_le _⟩ dX3_would_146 (fun H locs _ hP hS => ?_)
        refine lv_aload_n hx hb dX3_would_149 rfl (lv_at hl 0 rfl) ?_
        refine lv_iload_n hx hb dX3_would_150 rfl (lv_at hl 2 rfl) ?_
        obtain ⟨v3, hv3, hf⟩ := ob_s hf
        refine mc_X3_X3_gives S hC hD hK hP hS hv3 hl.1 ⟨Nat.le_of_ble_eq_true rfl, Nat.le_of_ble_eq_true rfl⟩ (Nat.le_of_ble_eq_true rfl) ⟨Nat.zero_le _, Nat.zero_le _⟩ dX3_would_151 (fun H locs _ hP hS => ?_)
        have hE := Option.some.inj hf
        subst hE
        exact gt_wi S hr hlocks trivial hP hS dX3_would_154
      · replace hf := it_f c1 hf
        refine lv_aload_n hx hb dX3_would_90 rfl (lv_at hl 0 rfl) ?_
        refine mg_1 S hC hK hP dX3_would_91 ?_
        refine lv_sipush hx hb dX3_would_94 kc_s300 ?_
        refine lv_iconst hx hb dX3_would_97 kc_i3 ?_
        refine lv_iload hx hb dX3_would_98 (lv_at hl 3 rfl) ?_
        refine lv_imul hx hb dX3_would_100 ?_
        refine lv_iadd hx hb dX3_would_101 ?_
        obtain ⟨g4, hf⟩ := gd_t hf
        refine ma_1 S hC hK hP (inR_vp g4) rfl dX3_would_102 ?_
        refine lv_iload_n hx hb dX3_would_103 rfl (lv_at hl 1 rfl) ?_
        refine lv_icmp_ne (tgt := 132) hx hb dX3_would_104 (by decide) (fun c5 => ?_) (fun c5 => ?_)
        · replace hf := it_f c5 hf
          refine lv_iinc (v := (x4 + 1)) (lv' := [(4, .int (x4 + 1)), (0, .ref o), (1, .int x1), (3, .int x3)]) hx hb dX3_would_132 hl (k := 3) rfl rfl (by decide) rfl (fun ls hl => ?_)
          refine lv_goto (tgt := 77) hx hb dX3_would_135 (by decide) ?_
          exact (ih) x1 x3 (x4 + 1) th st nw aa ls H locs hP hS (lv_sub (l' := [(0, .ref o), (1, .int x1), (3, .int x3), (4, .int (x4 + 1))]) hl [1, 2, 3, 0] rfl) hf
        · replace hf := it_t c5 hf
          refine lv_aload_n hx hb dX3_would_107 rfl (lv_at hl 0 rfl) ?_
          refine mg_1 S hC hK hP dX3_would_108 ?_
          refine lv_sipush hx hb dX3_would_111 kc_s300 ?_
          refine lv_iconst hx hb dX3_would_114 kc_i3 ?_
          refine lv_iload hx hb dX3_would_115 (lv_at hl 3 rfl) ?_
          refine lv_imul hx hb dX3_would_117 ?_
          refine lv_iadd hx hb dX3_would_118 ?_
          refine lv_iconst hx hb dX3_would_119 kc_i2 ?_
          refine lv_iadd hx hb dX3_would_120 ?_
          obtain ⟨g6, hf⟩ := gd_t hf
          refine ma_1 S hC hK hP (inR_vp g6) rfl dX3_would_121 ?_
          refine lv_iconst hx hb dX3_would_122 kc_i1 ?_
          refine lv_icmp_ne (tgt := 130) hx hb dX3_would_123 (by decide) (fun c7 => ?_) (fun c7 => ?_)
          · replace hf := it_f c7 hf
            refine lv_iconst hx hb dX3_would_130 kc_i2 ?_
            refine lv_istore_n (i := 3) (lv' := [(3, .int (nI 2)), (0, .ref o), (1, .int x1), (4, .int x4)]) hx hb dX3_would_131 rfl hl (by decide) rfl (fun ls hl => ?_)
            refine lv_iinc (v := (x4 + 1)) (lv' := [(4, .int (x4 + 1)), (3, .int (nI 2)), (0, .ref o), (1, .int x1)]) hx hb dX3_would_132 hl (k := 3) rfl rfl (by decide) rfl (fun ls hl => ?_)
            refine lv_goto (tgt := 77) hx hb dX3_would_135 (by decide) ?_
            exact (ih) x1 (nI 2) (x4 + 1) th st nw aa ls H locs hP hS (lv_sub (l' := [(0, .ref o), (1, .int x1), (3, .int (nI 2)), (4, .int (x4 + 1))]) hl [2, 3, 1, 0] rfl) hf
          · replace hf := it_t c7 hf
            refine lv_iconst hx hb dX3_would_126 kc_i1 ?_
            refine lv_goto (tgt := 131) hx hb dX3_would_127 (by decide) ?_
            refine lv_istore_n (i := 3) (lv' := [(3, .int 1), (0, .ref o), (1, .int x1), (4, .int x4)]) hx hb dX3_would_131 rfl hl (by decide) rfl (fun ls hl => ?_)
            refine lv_iinc (v := (x4 + 1)) (lv' := [(4, .int (x4 + 1)), (3, .int 1), (0, .ref o), (1, .int x1)]) hx hb dX3_would_132 hl (k := 3) rfl rfl (by decide) rfl (fun ls hl => ?_)
            refine lv_goto (tgt := 77) hx hb dX3_would_135 (by decide) ?_
            exact (ih) x1 1 (x4 + 1) th st nw aa ls H locs hP hS (lv_sub (l' := [(0, .ref o), (1, .int x1), (3, .int 1), (4, .int (x4 + 1))]) hl [2, 3, 1, 0] rfl) hf
  suffices hg : ∀ (H : Heap) (locs : List Loc), va_P D cl (mW mi cI cJ cB o ad th tp st fk fp ac si fr tt kd nu fa pl fo wd ci gr lm om nw rd aa kp ta nm rn gv gt rw rh lg lh ou) H → va_S (mA o ad) s.heap H locs → W p l e (rM 8 183) s m ([.ref o, .int a0, .int a1] : List Value).toArray below meth c H locs 0 0 (MQ below (gQ D cl (some (.int out.1)) True (mW mi cI cJ cB o ad out.2.1 tp out.2.2.1 fk fp ac si fr tt kd nu fa pl fo wd ci gr lm om out.2.2.2.1 rd out.2.2.2.2 kp ta nm rn gv gt rw rh lg lh ou) (mA o ad)) ([.ref o, .int a0, .int a1] : List Value).toArray s 0 0 (mA o ad)) (F0 m 0 ls []) from hg s.heap [] hP va_S.rf
  clear hP
  intro H locs hP hS
  rw [f_X3_would] at hf
  refine lv_aload_n hx hb dX3_would_0 rfl (lv_at hl 0 rfl) ?_
  refine lv_iload_n hx hb dX3_would_1 rfl (lv_at hl 1 rfl) ?_
  refine lv_iload_n hx hb dX3_would_2 rfl (lv_at hl 2 rfl) ?_
  obtain ⟨v1, hv1, hf⟩ := ob_s hf
  refine mc_X3_X3_areOnes S hC hK hP hv1 hl.1 ⟨Nat.le_of_ble_eq_true rfl, Nat.le_of_ble_eq_true rfl⟩ (Nat.le_of_ble_eq_true rfl) ⟨Nat.zero_le _, Nat.zero_le _⟩ dX3_would_3 (fun hnv1 => ?_)
  refine lv_if_ne (tgt := 15) hx hb dX3_would_6 (by decide) (fun c2 => ?_) (fun c2 => ?_)
  · replace hf := it_f c2 hf
    refine lv_aload_n hx hb dX3_would_15 rfl (lv_at hl 0 rfl) ?_
    refine lv_iload_n hx hb dX3_would_16 rfl (lv_at hl 1 rfl) ?_
    obtain ⟨v3, hv3, hf⟩ := ob_s hf
    refine mc_X3_X3_mayHope S hC hK hP hv3 hl.1 ⟨Nat.le_of_ble_eq_true rfl, Nat.le_of_ble_eq_true rfl⟩ (Nat.le_of_ble_eq_true rfl) ⟨Nat.zero_le _, Nat.zero_le _⟩ dX3_would_17 (fun hnv3 => ?_)
    refine lv_if_eq (tgt := 40) hx hb dX3_would_20 (by decide) (fun c4 => ?_) (fun c4 => ?_)
    · replace hf := it_t c4 hf
      exact (w40) th st nw aa ls H locs hP hS (lv_sub (l' := [(0, .ref o)]) hl [0] rfl) hf
    · replace hf := it_f c4 hf
      refine lv_aload_n hx hb dX3_would_23 rfl (lv_at hl 0 rfl) ?_
      refine lv_iload_n hx hb dX3_would_24 rfl (lv_at hl 2 rfl) ?_
      obtain ⟨v5, hv5, hf⟩ := ob_s hf
      refine mc_X3_X3_isFree S hC hK hP hv5 hl.1 ⟨Nat.le_of_ble_eq_true rfl, Nat.le_of_ble_eq_true rfl⟩ (Nat.le_of_ble_eq_true rfl) ⟨Nat.zero_le _, Nat.zero_le _⟩ dX3_would_25 (fun hnv5 => ?_)
      refine lv_if_eq (tgt := 40) hx hb dX3_would_28 (by decide) (fun c6 => ?_) (fun c6 => ?_)
      · replace hf := it_t c6 hf
        exact (w40) th st nw aa ls H locs hP hS (lv_sub (l' := [(0, .ref o)]) hl [0] rfl) hf
      · replace hf := it_f c6 hf
        refine lv_aload_n hx hb dX3_would_31 rfl (lv_at hl 0 rfl) ?_
        refine lv_iload_n hx hb dX3_would_32 rfl (lv_at hl 1 rfl) ?_
        refine lv_iload_n hx hb dX3_would_33 rfl (lv_at hl 2 rfl) ?_
        obtain ⟨v7, hv7, hf⟩ := ob_s hf
        refine mc_X3_X3_doesFit S hC hK hP hv7 hl.1 ⟨Nat.le_of_ble_eq_true rfl, Nat.le_of_ble_eq_true rfl⟩ (Nat.le_of_ble_eq_true rfl) ⟨Nat.zero_le _, Nat.zero_le _⟩ dX3_would_34 (fun hnv7 => ?_)
        refine lv_if_ne (tgt := 46) hx hb dX3_would_37 (by decide) (fun c8 => ?_) (fun c8 => ?_)
        · replace hf := it_f c8 hf
          refine lv_aload_n hx hb dX3_would_46 rfl (lv_at hl 0 rfl) ?_
          refine mg_1 S hC hK hP dX3_would_47 ?_
          refine lv_aload_n hx hb dX3_would_50 rfl (lv_at hl 0 rfl) ?_
          refine mg_3 S hC hK hP dX3_would_51 ?_
          obtain ⟨v9, hv9, hf⟩ := ob_s hf
          refine mc_X3_X3_copies_nw_aa S hC hD hK hP hS hv9 hl.1 ⟨Nat.le_of_ble_eq_true rfl, Nat.le_of_ble_eq_true rfl⟩ (Nat.le_of_ble_eq_true rfl) ⟨Nat.zero_le _, Nat.zero_le _⟩ dX3_would_54 (fun H locs _ hP hS => ?_)
          refine lv_aload_n hx hb dX3_would_57 rfl (lv_at hl 0 rfl) ?_
          refine lv_iload_n hx hb dX3_would_58 rfl (lv_at hl 1 rfl) ?_
          refine lv_bipush hx hb dX3_would_59 kc_b10 ?_
          refine lv_iconst hx hb dX3_would_61 kc_i1 ?_
          refine lv_iload_n hx hb dX3_would_62 rfl (lv_at hl 2 rfl) ?_
          refine lv_ishl hx hb dX3_would_63 ?_
          obtain ⟨v10, hv10, hf⟩ := ob_s hf
          refine mc_X3_X3_puts S hC hD hK hP hS hv10 hl.1 ⟨Nat.le_of_ble_eq_true rfl, Nat.le_of_ble_eq_true rfl⟩ (Nat.le_of_ble_eq_true rfl) ⟨Nat.zero_le _, Nat.zero_le _⟩ dX3_would_64 (fun H locs _ hP hS => ?_)
          refine lv_aload_n hx hb dX3_would_67 rfl (lv_at hl 0 rfl) ?_
          obtain ⟨v11, hv11, hf⟩ := ob_s hf
          refine mc_X3_X3_weekEnds S hC hD hK hP hS hv11 hl.1 ⟨Nat.le_of_ble_eq_true rfl, Nat.le_of_ble_eq_true rfl⟩ (Nat.le_of_ble_eq_true rfl) ⟨Nat.zero_le _, Nat.zero_le _⟩ dX3_would_68 (fun H locs _ hP hS => ?_)
          refine lv_pop hx hb dX3_would_71 rfl ?_
          refine lv_iconst hx hb dX3_would_72 kc_i0 ?_
          refine lv_istore_n (i := 3) (lv' := [(3, .int 0), (0, .ref o), (1, .int a0), (2, .int a1)]) hx hb dX3_would_73 rfl hl (by decide) rfl (fun ls hl => ?_)
          refine lv_iconst hx hb dX3_would_74 kc_i0 ?_
          refine lv_istore (lv' := [(4, .int 0), (3, .int 0), (0, .ref o), (1, .int a0), (2, .int a1)]) hx hb dX3_would_75 hl (by decide) rfl (fun ls hl => ?_)
          exact (w77 FU) a0 0 0 th st v11.2 v9 ls H locs hP hS (lv_sub (l' := [(0, .ref o), (1, .int a0), (3, .int 0), (4, .int 0)]) hl [2, 3, 1, 0] rfl) hf
        · replace hf := it_t c8 hf
          exact (w40) th st nw aa ls H locs hP hS (lv_sub (l' := [(0, .ref o)]) hl [0] rfl) hf
  · replace hf := it_t c2 hf
    refine lv_aload_n hx hb dX3_would_9 rfl (lv_at hl 0 rfl) ?_
    refine lv_iconst hx hb dX3_would_10 kc_i2 ?_
    obtain ⟨v12, hv12, hf⟩ := ob_s hf
    refine mc_X3_X3_refuse S hC hD hK hP hS hv12 hl.1 ⟨Nat.le_of_ble_eq_true rfl, Nat.le_of_ble_eq_true rfl⟩ (Nat.le_of_ble_eq_true rfl) ⟨Nat.zero_le _, Nat.zero_le _⟩ dX3_would_11 (fun H locs _ hP hS => ?_)
    have hE := Option.some.inj hf
    subst hE
    exact gt_wi S hr hlocks trivial hP hS dX3_would_14
theorem hd_X3_plainWeight : yX3_plainWeight.cls = RX3 ∧ yX3_plainWeight.cls ≠ "java/lang/invoke/MethodHandle" ∧ yX3_plainWeight.cls ≠ "java/lang/invoke/VarHandle" ∧ (parseMethodDescriptor yX3_plainWeight.desc).map (fun d => d.parameters.length) = some 1 := by decide +kernel
set_option maxHeartbeats 4000000 in
set_option maxRecDepth 100000 in
theorem mm_X3_plainWeight {a0 : Int32} {out : Int32} (hC : mC cl tys mi cI cJ cB) (hf : f_X3_plainWeight nw a0 = some out) : Met l yX3_plainWeight (ws_ yX3_plainWeight cX3_plainWeight 2 (some .int)) (rM 3 64) (gPc D cl tys [.ref o, .int a0] (mW mi cI cJ cB o ad th tp st fk fp ac si fr tt kd nu fa pl fo wd ci gr lm om nw rd aa kp ta nm rn gv gt rw rh lg lh ou)) (gR (some (.int out)) True) 0 0 (fun _ => False) := by
  refine gGo (by decide +kernel) (Nat.le_of_ble_eq_true rfl) (fun p e s m below meth c ls S hr hlocks hK hP hl => ?_)
  have S : CallFix p m c cX3_plainWeight 2 s _ lw_all RX3 := S
  obtain ⟨hx, hb, hml, hown, hts⟩ := id S
  have hl : lv_has ls 2 [(0, .ref o), (1, .int a0)] := hl
  rw [f_X3_plainWeight] at hf
  refine lv_sipush hx hb dX3_plainWeight_0 kc_s1000 ?_
  refine lv_aload_n hx hb dX3_plainWeight_3 rfl (lv_at hl 0 rfl) ?_
  refine lv_iload_n hx hb dX3_plainWeight_4 rfl (lv_at hl 1 rfl) ?_
  obtain ⟨v1, hv1, hf⟩ := ob_s hf
  refine mc_X3_X3_bandNow S hC hK hP hv1 hl.1 ⟨Nat.le_of_ble_eq_true rfl, Nat.le_of_ble_eq_true rfl⟩ (Nat.le_of_ble_eq_true rfl) ⟨Nat.zero_le _, Nat.zero_le _⟩ dX3_plainWeight_5 (fun _ => ?_)
  refine lv_imul hx hb dX3_plainWeight_8 ?_
  refine lv_aload_n hx hb dX3_plainWeight_9 rfl (lv_at hl 0 rfl) ?_
  refine lv_iload_n hx hb dX3_plainWeight_10 rfl (lv_at hl 1 rfl) ?_
  refine lv_iconst hx hb dX3_plainWeight_11 kc_i3 ?_
  obtain ⟨v2, hv2, hf⟩ := ob_s hf
  refine mc_X3_X3_of S hC hK hP hv2 hl.1 ⟨Nat.le_of_ble_eq_true rfl, Nat.le_of_ble_eq_true rfl⟩ (Nat.le_of_ble_eq_true rfl) ⟨Nat.zero_le _, Nat.zero_le _⟩ dX3_plainWeight_12 (fun _ => ?_)
  refine lv_iadd hx hb dX3_plainWeight_15 ?_
  refine lv_bipush hx hb dX3_plainWeight_16 kc_b8 ?_
  refine lv_imul hx hb dX3_plainWeight_18 ?_
  refine lv_iload_n hx hb dX3_plainWeight_19 rfl (lv_at hl 1 rfl) ?_
  refine lv_iadd hx hb dX3_plainWeight_20 ?_
  have hE := Option.some.inj hf
  subst hE
  exact gt_ri S hr hlocks trivial dX3_plainWeight_21
set_option maxRecDepth 100000 in
theorem mc_X3_X3_plainWeight {a0 : Int32} {out : Int32} (S : CallFix p m c cc nL s args lw_all RX3) (hC : mC cl tys mi cI cJ cB) (hK : va_K D cl tys s) (hP : va_P D cl (mW mi cI cJ cB o ad th tp st fk fp ac si fr tt kd nu fa pl fo wd ci gr lm om nw rd aa kp ta nm rn gv gt rw rh lg lh ou) H) (hf : f_X3_plainWeight nw a0 = some out) (hsz : ls.size = nL) (hR : 3 + 1 ≤ R.frames ∧ 8 + (2 + 11) + 64 ≤ R.locals) (hW : (rest.map fun v => v.category).sum ≤ 8) (hcs : cells ≤ R.cells ∧ slots ≤ R.slots) (hdg : decode cc pc = .ok (.invokevirtual 334, 3)) (kk : True → W p l e R s m args below meth c H locs cells slots Q (F0 m (pc + 3) ls (.int out :: rest))) : W p l e R s m args below meth c H locs cells slots Q (F0 m pc ls (.int a0 :: .ref o :: rest)) :=
  gc_Vr (As := [.int a0]) S (mm_X3_plainWeight hC hf) (cwV 1 S.2.2.2.2 (lw_V q2463 q2465 qs152 q189 q2466) rfl rfl rfl hd_X3_plainWeight hR) (gPreV hK hP hC.1 (q0 := 0) rfl) rfl hsz rfl hW hdg hcs kk
theorem hd_X3_queue : yX3_queue.cls = RX3 ∧ yX3_queue.cls ≠ "java/lang/invoke/MethodHandle" ∧ yX3_queue.cls ≠ "java/lang/invoke/VarHandle" ∧ (parseMethodDescriptor yX3_queue.desc).map (fun d => d.parameters.length) = some 1 := by decide +kernel
set_option maxHeartbeats 4000000 in
set_option maxRecDepth 100000 in
theorem mm_X3_queue {a0 : Int32} {out : Int32 × Int32 × Int32} (hC : mC cl tys mi cI cJ cB) (hD : mD o ad) (hf : f_X3_queue nw th st a0 = some out) : Met l yX3_queue (ws_ yX3_queue cX3_queue 6 (some .int)) (rM 4 86) (gPc D cl tys [.ref o, .int a0] (mW mi cI cJ cB o ad th tp st fk fp ac si fr tt kd nu fa pl fo wd ci gr lm om nw rd aa kp ta nm rn gv gt rw rh lg lh ou)) (gQ D cl (some (.int out.1)) True (mW mi cI cJ cB o ad out.2.1 tp out.2.2 fk fp ac si fr tt kd nu fa pl fo wd ci gr lm om nw rd aa kp ta nm rn gv gt rw rh lg lh ou) (mA o ad)) 0 0 (mA o ad) := by
  refine gGo (by decide +kernel) (Nat.le_of_ble_eq_true rfl) (fun p e s m below meth c ls S hr hlocks hK hP hl => ?_)
  have S : CallFix p m c cX3_queue 6 s _ lw_all RX3 := S
  obtain ⟨hx, hb, hml, hown, hts⟩ := id S
  have hl : lv_has ls 6 [(0, .ref o), (1, .int a0)] := hl
  have w40 : ∀ (n : Nat) (k31 : Int32 → Int32 → Int32 → Int32 → Int32 → Option (Int32 × Int32 × Int32)), (∀ (b0 : Int32) (b1 : Int32) (b2 : Int32) (b3 : Int32) (b4 : Int32) (ls : Array Slot) (H : Heap) (locs : List Loc), va_P D cl (mW mi cI cJ cB o ad b3 tp b4 fk fp ac si fr tt kd nu fa pl fo wd ci gr lm om nw rd aa kp ta nm rn gv gt rw rh lg lh ou) H → va_S (mA o ad) s.heap H locs → lv_has ls 6 [(0, .ref o), (2, .int b0), (3, .int b1), (4, .int b2)] → k31 b0 b1 b2 b3 b4 = some out → W p l e (rM 4 86) s m ([.ref o, .int a0] : List Value).toArray below meth c H locs 0 0 (MQ below (gQ D cl (some (.int out.1)) True (mW mi cI cJ cB o ad out.2.1 tp out.2.2 fk fp ac si fr tt kd nu fa pl fo wd ci gr lm om nw rd aa kp ta nm rn gv gt rw rh lg lh ou) (mA o ad)) ([.ref o, .int a0] : List Value).toArray s 0 0 (mA o ad)) (F0 m 31 ls [])) → ∀ (x2 : Int32) (x3 : Int32) (x4 : Int32) (x5 : Int32) (th : Int32) (st : Int32) (ls : Array Slot) (H : Heap) (locs : List Loc), va_P D cl (mW mi cI cJ cB o ad th tp st fk fp ac si fr tt kd nu fa pl fo wd ci gr lm om nw rd aa kp ta nm rn gv gt rw rh lg lh ou) H → va_S (mA o ad) s.heap H locs → lv_has ls 6 [(0, .ref o), (2, .int x2), (3, .int x3), (4, .int x4), (5, .int x5)] → f_X3_queue_40 n k31 nw x2 x3 x4 x5 th st = some out → W p l e (rM 4 86) s m ([.ref o, .int a0] : List Value).toArray below meth c H locs 0 0 (MQ below (gQ D cl (some (.int out.1)) True (mW mi cI cJ cB o ad out.2.1 tp out.2.2 fk fp ac si fr tt kd nu fa pl fo wd ci gr lm om nw rd aa kp ta nm rn gv gt rw rh lg lh ou) (mA o ad)) ([.ref o, .int a0] : List Value).toArray s 0 0 (mA o ad)) (F0 m 40 ls []) := by
    intro n
    induction n with
    | zero =>
      intro k31 hk31 x2 x3 x4 x5 th st ls H locs hP hS hl hf
      exact absurd hf (by rw [f_X3_queue_40]; exact nofun)
    | succ n ih =>
      intro k31 hk31 x2 x3 x4 x5 th st ls H locs hP hS hl hf
      rw [f_X3_queue_40] at hf
      refine lv_iload hx hb dX3_queue_40 (lv_at hl 4 rfl) ?_
      refine lv_aload_n hx hb dX3_queue_42 rfl (lv_at hl 0 rfl) ?_
      refine mg_1 S hC hK hP dX3_queue_43 ?_
      refine lv_sipush hx hb dX3_queue_46 kc_s231 ?_
      refine ma_1 S hC hK hP kv_231_390 kn_231 dX3_queue_49 ?_
      refine lv_icmp_ge (tgt := 101) hx hb dX3_queue_50 (by decide) (fun c1 => ?_) (fun c1 => ?_)
      · replace hf := it_t c1 hf
        refine lv_aload_n hx hb dX3_queue_101 rfl (lv_at hl 0 rfl) ?_
        refine lv_iload_n hx hb dX3_queue_102 rfl (lv_at hl 2 rfl) ?_
        obtain ⟨v2, hv2, hf⟩ := ob_s hf
        refine mc_X3_X3_plainWeight S hC hK hP hv2 hl.1 ⟨Nat.le_of_ble_eq_true rfl, Nat.le_of_ble_eq_true rfl⟩ (Nat.le_of_ble_eq_true rfl) ⟨Nat.zero_le _, Nat.zero_le _⟩ dX3_queue_103 (fun _ => ?_)
        refine lv_istore (lv' := [(4, .int v2), (0, .ref o), (2, .int x2), (3, .int x3), (5, .int x5)]) hx hb dX3_queue_106 hl (by decide) rfl (fun ls hl => ?_)
        refine lv_iinc (v := (x2 + (-1))) (lv' := [(2, .int (x2 + (-1))), (4, .int v2), (0, .ref o), (3, .int x3), (5, .int x5)]) hx hb dX3_queue_108 hl (k := 2) rfl rfl (by decide) rfl (fun ls hl => ?_)
        refine lv_goto (tgt := 31) hx hb dX3_queue_111 (by decide) ?_
        exact hk31 (x2 + (-1)) x3 v2 th st ls H locs hP hS (lv_sub (l' := [(0, .ref o), (2, .int (x2 + (-1))), (3, .int x3), (4, .int v2)]) hl [2, 0, 3, 1] rfl) hf
      · replace hf := it_f c1 hf
        refine lv_aload_n hx hb dX3_queue_53 rfl (lv_at hl 0 rfl) ?_
        refine lv_iload hx hb dX3_queue_54 (lv_at hl 4 rfl) ?_
        obtain ⟨v3, hv3, hf⟩ := ob_s hf
        refine mc_X3_X3_isIn S hC hK hP hv3 hl.1 ⟨Nat.le_of_ble_eq_true rfl, Nat.le_of_ble_eq_true rfl⟩ (Nat.le_of_ble_eq_true rfl) ⟨Nat.zero_le _, Nat.zero_le _⟩ dX3_queue_56 (fun hnv3 => ?_)
        refine lv_if_eq (tgt := 95) hx hb dX3_queue_59 (by decide) (fun c4 => ?_) (fun c4 => ?_)
        · replace hf := it_t c4 hf
          refine lv_iinc (v := (x5 + 1)) (lv' := [(5, .int (x5 + 1)), (0, .ref o), (2, .int x2), (3, .int x3), (4, .int x4)]) hx hb dX3_queue_95 hl (k := 4) rfl rfl (by decide) rfl (fun ls hl => ?_)
          refine lv_goto (tgt := 40) hx hb dX3_queue_98 (by decide) ?_
          exact (ih k31 hk31) x2 x3 x4 (x5 + 1) th st ls H locs hP hS (lv_sub (l' := [(0, .ref o), (2, .int x2), (3, .int x3), (4, .int x4), (5, .int (x5 + 1))]) hl [1, 2, 3, 4, 0] rfl) hf
        · replace hf := it_f c4 hf
          refine lv_aload_n hx hb dX3_queue_62 rfl (lv_at hl 0 rfl) ?_
          refine lv_iload hx hb dX3_queue_63 (lv_at hl 4 rfl) ?_
          obtain ⟨v5, hv5, hf⟩ := ob_s hf
          refine mc_X3_X3_plainWeight S hC hK hP hv5 hl.1 ⟨Nat.le_of_ble_eq_true rfl, Nat.le_of_ble_eq_true rfl⟩ (Nat.le_of_ble_eq_true rfl) ⟨Nat.zero_le _, Nat.zero_le _⟩ dX3_queue_65 (fun _ => ?_)
          refine lv_iload hx hb dX3_queue_68 (lv_at hl 3 rfl) ?_
          refine lv_icmp_le (tgt := 95) hx hb dX3_queue_70 (by decide) (fun c6 => ?_) (fun c6 => ?_)
          · replace hf := it_t c6 hf
            refine lv_iinc (v := (x5 + 1)) (lv' := [(5, .int (x5 + 1)), (0, .ref o), (2, .int x2), (3, .int x3), (4, .int x4)]) hx hb dX3_queue_95 hl (k := 4) rfl rfl (by decide) rfl (fun ls hl => ?_)
            refine lv_goto (tgt := 40) hx hb dX3_queue_98 (by decide) ?_
            exact (ih k31 hk31) x2 x3 x4 (x5 + 1) th st ls H locs hP hS (lv_sub (l' := [(0, .ref o), (2, .int x2), (3, .int x3), (4, .int x4), (5, .int (x5 + 1))]) hl [1, 2, 3, 4, 0] rfl) hf
          · replace hf := it_f c6 hf
            refine lv_iload_n hx hb dX3_queue_73 rfl (lv_at hl 2 rfl) ?_
            refine lv_iconst hx hb dX3_queue_74 kc_im1 ?_
            refine lv_icmp_eq (tgt := 92) hx hb dX3_queue_75 (by decide) (fun c7 => ?_) (fun c7 => ?_)
            · replace hf := it_t c7 hf
              refine lv_iload hx hb dX3_queue_92 (lv_at hl 4 rfl) ?_
              refine lv_istore_n (i := 3) (lv' := [(3, .int x5), (0, .ref o), (2, .int x2), (4, .int x4), (5, .int x5)]) hx hb dX3_queue_94 rfl hl (by decide) rfl (fun ls hl => ?_)
              refine lv_iinc (v := (x5 + 1)) (lv' := [(5, .int (x5 + 1)), (3, .int x5), (0, .ref o), (2, .int x2), (4, .int x4)]) hx hb dX3_queue_95 hl (k := 4) rfl rfl (by decide) rfl (fun ls hl => ?_)
              refine lv_goto (tgt := 40) hx hb dX3_queue_98 (by decide) ?_
              exact (ih k31 hk31) x2 x5 x4 (x5 + 1) th st ls H locs hP hS (lv_sub (l' := [(0, .ref o), (2, .int x2), (3, .int x5), (4, .int x4), (5, .int (x5 + 1))]) hl [2, 3, 1, 4, 0] rfl) hf
            · replace hf := it_f c7 hf
              refine lv_aload_n hx hb dX3_queue_78 rfl (lv_at hl 0 rfl) ?_
              refine lv_iload hx hb dX3_queue_79 (lv_at hl 4 rfl) ?_
              obtain ⟨v8, hv8, hf⟩ := ob_s hf
              refine mc_X3_X3_plainWeight S hC hK hP hv8 hl.1 ⟨Nat.le_of_ble_eq_true rfl, Nat.le_of_ble_eq_true rfl⟩ (Nat.le_of_ble_eq_true rfl) ⟨Nat.zero_le _, Nat.zero_le _⟩ dX3_queue_81 (fun _ => ?_)
              refine lv_aload_n hx hb dX3_queue_84 rfl (lv_at hl 0 rfl) ?_
              refine lv_iload_n hx hb dX3_queue_85 rfl (lv_at hl 2 rfl) ?_
              obtain ⟨v9, hv9, hf⟩ := ob_s hf
              refine mc_X3_X3_plainWeight S hC hK hP hv9 hl.1 ⟨Nat.le_of_ble_eq_true rfl, Nat.le_of_ble_eq_true rfl⟩ (Nat.le_of_ble_eq_true rfl) ⟨Nat.zero_le _, Nat.zero_le _⟩ dX3_queue_86 (fun _ => ?_)
              refine lv_icmp_ge (tgt := 95) hx hb dX3_queue_89 (by decide) (fun c10 => ?_) (fun c10 => ?_)
              · replace hf := it_t c10 hf
                refine lv_iinc (v := (x5 + 1)) (lv' := [(5, .int (x5 + 1)), (0, .ref o), (2, .int x2), (3, .int x3), (4, .int x4)]) hx hb dX3_queue_95 hl (k := 4) rfl rfl (by decide) rfl (fun ls hl => ?_)
                refine lv_goto (tgt := 40) hx hb dX3_queue_98 (by decide) ?_
                exact (ih k31 hk31) x2 x3 x4 (x5 + 1) th st ls H locs hP hS (lv_sub (l' := [(0, .ref o), (2, .int x2), (3, .int x3), (4, .int x4), (5, .int (x5 + 1))]) hl [1, 2, 3, 4, 0] rfl) hf
              · replace hf := it_f c10 hf
                refine lv_iload hx hb dX3_queue_92 (lv_at hl 4 rfl) ?_
                refine lv_istore_n (i := 3) (lv' := [(3, .int x5), (0, .ref o), (2, .int x2), (4, .int x4), (5, .int x5)]) hx hb dX3_queue_94 rfl hl (by decide) rfl (fun ls hl => ?_)
                refine lv_iinc (v := (x5 + 1)) (lv' := [(5, .int (x5 + 1)), (3, .int x5), (0, .ref o), (2, .int x2), (4, .int x4)]) hx hb dX3_queue_95 hl (k := 4) rfl rfl (by decide) rfl (fun ls hl => ?_)
                refine lv_goto (tgt := 40) hx hb dX3_queue_98 (by decide) ?_
                exact (ih k31 hk31) x2 x5 x4 (x5 + 1) th st ls H locs hP hS (lv_sub (l' := [(0, .ref o), (2, .int x2), (3, .int x5), (4, .int x4), (5, .int (x5 + 1))]) hl [2, 3, 1, 4, 0] rfl) hf
  have w31 : ∀ (n : Nat) , ∀ (x2 : Int32) (x3 : Int32) (x4 : Int32) (th : Int32) (st : Int32) (ls : Array Slot) (H : Heap) (locs : List Loc), va_P D cl (mW mi cI cJ cB o ad th tp st fk fp ac si fr tt kd nu fa pl fo wd ci gr lm om nw rd aa kp ta nm rn gv gt rw rh lg lh ou) H → va_S (mA o ad) s.heap H locs → lv_has ls 6 [(0, .ref o), (2, .int x2), (3, .int x3), (4, .int x4)] → f_X3_queue_31 n nw x2 x3 x4 th st = some out → W p l e (rM 4 86) s m ([.ref o, .int a0] : List Value).toArray below meth c H locs 0 0 (MQ below (gQ D cl (some (.int out.1)) True (mW mi cI cJ cB o ad out.2.1 tp out.2.2 fk fp ac si fr tt kd nu fa pl fo wd ci gr lm om nw rd aa kp ta nm rn gv gt rw rh lg lh ou) (mA o ad)) ([.ref o, .int a0] : List Value).toArray s 0 0 (mA o ad)) (F0 m 31 ls []) := by
    intro n
    induction n with
    | zero =>
      intro x2 x3 x4 th st ls H locs hP hS hl hf
      exact absurd hf (by rw [f_X3_queue_31]; exact nofun)
    | succ n ih =>
      intro x2 x3 x4 th st ls H locs hP hS hl hf
      rw [f_X3_queue_31] at hf
      refine lv_iload_n hx hb dX3_queue_31 rfl (lv_at hl 1 rfl) ?_
      refine lv_if_lt (tgt := 114) hx hb dX3_queue_32 (by decide) (fun c1 => ?_) (fun c1 => ?_)
      · replace hf := it_t c1 hf
        refine lv_aload_n hx hb dX3_queue_114 rfl (lv_at hl 0 rfl) ?_
        refine lv_iload_n hx hb dX3_queue_115 rfl (lv_at hl 2 rfl) ?_
        obtain ⟨v2, hv2, hf⟩ := ob_s hf
        refine mc_X3_X3_gives S hC hD hK hP hS hv2 hl.1 ⟨Nat.le_of_ble_eq_true rfl, Nat.le_of_ble_eq_true rfl⟩ (Nat.le_of_ble_eq_true rfl) ⟨Nat.zero_le _, Nat.zero_le _⟩ dX3_queue_116 (fun H locs _ hP hS => ?_)
        have hE := Option.some.inj hf
        subst hE
        exact gt_wi S hr hlocks trivial hP hS dX3_queue_119
      · replace hf := it_f c1 hf
        refine lv_iconst hx hb dX3_queue_35 kc_im1 ?_
        refine lv_istore_n (i := 3) (lv' := [(3, .int (-1)), (0, .ref o), (2, .int x2), (4, .int x4)]) hx hb dX3_queue_36 rfl hl (by decide) rfl (fun ls hl => ?_)
        refine lv_iconst hx hb dX3_queue_37 kc_i0 ?_
        refine lv_istore (lv' := [(5, .int 0), (3, .int (-1)), (0, .ref o), (2, .int x2), (4, .int x4)]) hx hb dX3_queue_38 hl (by decide) rfl (fun ls hl => ?_)
        exact (w40 FU (f_X3_queue_31 n nw) (ih)) x2 (-1) x4 0 th st ls H locs hP hS (lv_sub (l' := [(0, .ref o), (2, .int x2), (3, .int (-1)), (4, .int x4), (5, .int 0)]) hl [2, 3, 1, 4, 0] rfl) hf
  suffices hg : ∀ (H : Heap) (locs : List Loc), va_P D cl (mW mi cI cJ cB o ad th tp st fk fp ac si fr tt kd nu fa pl fo wd ci gr lm om nw rd aa kp ta nm rn gv gt rw rh lg lh ou) H → va_S (mA o ad) s.heap H locs → W p l e (rM 4 86) s m ([.ref o, .int a0] : List Value).toArray below meth c H locs 0 0 (MQ below (gQ D cl (some (.int out.1)) True (mW mi cI cJ cB o ad out.2.1 tp out.2.2 fk fp ac si fr tt kd nu fa pl fo wd ci gr lm om nw rd aa kp ta nm rn gv gt rw rh lg lh ou) (mA o ad)) ([.ref o, .int a0] : List Value).toArray s 0 0 (mA o ad)) (F0 m 0 ls []) from hg s.heap [] hP va_S.rf
  clear hP
  intro H locs hP hS
  rw [f_X3_queue] at hf
  refine lv_iload_n hx hb dX3_queue_0 rfl (lv_at hl 1 rfl) ?_
  refine lv_if_ge (tgt := 10) hx hb dX3_queue_1 (by decide) (fun c1 => ?_) (fun c1 => ?_)
  · replace hf := it_t c1 hf
    refine lv_iload_n hx hb dX3_queue_10 rfl (lv_at hl 1 rfl) ?_
    refine lv_aload_n hx hb dX3_queue_11 rfl (lv_at hl 0 rfl) ?_
    obtain ⟨v2, hv2, hf⟩ := ob_s hf
    refine mc_X3_X3_inOnes S hC hK hP hv2 hl.1 ⟨Nat.le_of_ble_eq_true rfl, Nat.le_of_ble_eq_true rfl⟩ (Nat.le_of_ble_eq_true rfl) ⟨Nat.zero_le _, Nat.zero_le _⟩ dX3_queue_12 (fun _ => ?_)
    refine lv_icmp_lt (tgt := 24) hx hb dX3_queue_15 (by decide) (fun c3 => ?_) (fun c3 => ?_)
    · replace hf := it_t c3 hf
      refine lv_iload_n hx hb dX3_queue_24 rfl (lv_at hl 1 rfl) ?_
      refine lv_istore_n (i := 2) (lv' := [(2, .int a0), (0, .ref o), (1, .int a0)]) hx hb dX3_queue_25 rfl hl (by decide) rfl (fun ls hl => ?_)
      refine lv_iconst hx hb dX3_queue_26 kc_im1 ?_
      refine lv_istore_n (i := 3) (lv' := [(3, .int (-1)), (2, .int a0), (0, .ref o), (1, .int a0)]) hx hb dX3_queue_27 rfl hl (by decide) rfl (fun ls hl => ?_)
      refine lv_iconst hx hb dX3_queue_28 kc_im1 ?_
      refine lv_istore (lv' := [(4, .int (-1)), (3, .int (-1)), (2, .int a0), (0, .ref o), (1, .int a0)]) hx hb dX3_queue_29 hl (by decide) rfl (fun ls hl => ?_)
      exact (w31 FU) a0 (-1) (-1) th st ls H locs hP hS (lv_sub (l' := [(0, .ref o), (2, .int a0), (3, .int (-1)), (4, .int (-1))]) hl [3, 2, 1, 0] rfl) hf
    · replace hf := it_f c3 hf
      refine lv_aload_n hx hb dX3_queue_18 rfl (lv_at hl 0 rfl) ?_
      refine lv_iconst hx hb dX3_queue_19 kc_i5 ?_
      obtain ⟨v4, hv4, hf⟩ := ob_s hf
      refine mc_X3_X3_refuse S hC hD hK hP hS hv4 hl.1 ⟨Nat.le_of_ble_eq_true rfl, Nat.le_of_ble_eq_true rfl⟩ (Nat.le_of_ble_eq_true rfl) ⟨Nat.zero_le _, Nat.zero_le _⟩ dX3_queue_20 (fun H locs _ hP hS => ?_)
      have hE := Option.some.inj hf
      subst hE
      exact gt_wi S hr hlocks trivial hP hS dX3_queue_23
  · replace hf := it_f c1 hf
    refine lv_aload_n hx hb dX3_queue_4 rfl (lv_at hl 0 rfl) ?_
    refine lv_iconst hx hb dX3_queue_5 kc_i1 ?_
    obtain ⟨v5, hv5, hf⟩ := ob_s hf
    refine mc_X3_X3_refuse S hC hD hK hP hS hv5 hl.1 ⟨Nat.le_of_ble_eq_true rfl, Nat.le_of_ble_eq_true rfl⟩ (Nat.le_of_ble_eq_true rfl) ⟨Nat.zero_le _, Nat.zero_le _⟩ dX3_queue_6 (fun H locs _ hP hS => ?_)
    have hE := Option.some.inj hf
    subst hE
    exact gt_wi S hr hlocks trivial hP hS dX3_queue_9
theorem hd_X3_gave : yX3_gave.cls = RX3 ∧ yX3_gave.cls ≠ "java/lang/invoke/MethodHandle" ∧ yX3_gave.cls ≠ "java/lang/invoke/VarHandle" ∧ (parseMethodDescriptor yX3_gave.desc).map (fun d => d.parameters.length) = some 2 := by decide +kernel
set_option maxHeartbeats 4000000 in
set_option maxRecDepth 100000 in
theorem mm_X3_gave {a0 : Int32} {a1 : Int32} {out : Int32} (hC : mC cl tys mi cI cJ cB) (hf : f_X3_gave gv a0 a1 = some out) : Met l yX3_gave (ws_ yX3_gave cX3_gave 3 (some .int)) (rM 0 0) (gPc D cl tys [.ref o, .int a0, .int a1] (mW mi cI cJ cB o ad th tp st fk fp ac si fr tt kd nu fa pl fo wd ci gr lm om nw rd aa kp ta nm rn gv gt rw rh lg lh ou)) (gR (some (.int out)) True) 0 0 (fun _ => False) := by
  refine gGo (by decide +kernel) (Nat.le_of_ble_eq_true rfl) (fun p e s m below meth c ls S hr hlocks hK hP hl => ?_)
  have S : CallFix p m c cX3_gave 3 s _ lw_all RX3 := S
  obtain ⟨hx, hb, hml, hown, hts⟩ := id S
  have hl : lv_has ls 3 [(0, .ref o), (1, .int a0), (2, .int a1)] := hl
  rw [f_X3_gave] at hf
  refine lv_aload_n hx hb dX3_gave_0 rfl (lv_at hl 0 rfl) ?_
  refine mg_22 S hC hK hP dX3_gave_1 ?_
  refine lv_sipush hx hb dX3_gave_4 kc_s1024 ?_
  refine lv_iload_n hx hb dX3_gave_7 rfl (lv_at hl 1 rfl) ?_
  refine lv_imul hx hb dX3_gave_8 ?_
  refine lv_iload_n hx hb dX3_gave_9 rfl (lv_at hl 2 rfl) ?_
  refine lv_iadd hx hb dX3_gave_10 ?_
  obtain ⟨g1, hf⟩ := gd_t hf
  refine ma_22 S hC hK hP (inR_vp g1) rfl dX3_gave_11 ?_
  have hE := Option.some.inj hf
  subst hE
  exact gt_ri S hr hlocks trivial dX3_gave_12
set_option maxRecDepth 100000 in
theorem mc_X3_X3_gave {a0 : Int32} {a1 : Int32} {out : Int32} (S : CallFix p m c cc nL s args lw_all RX3) (hC : mC cl tys mi cI cJ cB) (hK : va_K D cl tys s) (hP : va_P D cl (mW mi cI cJ cB o ad th tp st fk fp ac si fr tt kd nu fa pl fo wd ci gr lm om nw rd aa kp ta nm rn gv gt rw rh lg lh ou) H) (hf : f_X3_gave gv a0 a1 = some out) (hsz : ls.size = nL) (hR : 0 + 1 ≤ R.frames ∧ 8 + (3 + 11) + 0 ≤ R.locals) (hW : (rest.map fun v => v.category).sum ≤ 8) (hcs : cells ≤ R.cells ∧ slots ≤ R.slots) (hdg : decode cc pc = .ok (.invokevirtual 340, 3)) (kk : True → W p l e R s m args below meth c H locs cells slots Q (F0 m (pc + 3) ls (.int out :: rest))) : W p l e R s m args below meth c H locs cells slots Q (F0 m pc ls (.int a1 :: .int a0 :: .ref o :: rest)) :=
  gc_Vr (As := [.int a0, .int a1]) S (mm_X3_gave hC hf) (cwV 2 S.2.2.2.2 (lw_V q2475 q2477 qs154 q189 q2478) rfl rfl rfl hd_X3_gave hR) (gPreV hK hP hC.1 (q0 := 0) rfl) rfl hsz rfl hW hdg hcs kk
theorem hd_X3_couldHave : yX3_couldHave.cls = RX3 ∧ yX3_couldHave.cls ≠ "java/lang/invoke/MethodHandle" ∧ yX3_couldHave.cls ≠ "java/lang/invoke/VarHandle" ∧ (parseMethodDescriptor yX3_couldHave.desc).map (fun d => d.parameters.length) = some 2 := by decide +kernel
set_option maxHeartbeats 4000000 in
set_option maxRecDepth 100000 in
theorem mm_X3_couldHave {a0 : Int32} {a1 : Int32} {out : Int32} (hC : mC cl tys mi cI cJ cB) (hf : f_X3_couldHave nw a0 a1 = some out) : Met l yX3_couldHave (ws_ yX3_couldHave cX3_couldHave 3 (some .boolean)) (rM 4 88) (gPc D cl tys [.ref o, .int a0, .int a1] (mW mi cI cJ cB o ad th tp st fk fp ac si fr tt kd nu fa pl fo wd ci gr lm om nw rd aa kp ta nm rn gv gt rw rh lg lh ou)) (gR (some (.int out)) (narrow .boolean (.int out) = .int out)) 0 0 (fun _ => False) := by
  refine gGo (by decide +kernel) (Nat.le_of_ble_eq_true rfl) (fun p e s m below meth c ls S hr hlocks hK hP hl => ?_)
  have S : CallFix p m c cX3_couldHave 3 s _ lw_all RX3 := S
  obtain ⟨hx, hb, hml, hown, hts⟩ := id S
  have hl : lv_has ls 3 [(0, .ref o), (1, .int a0), (2, .int a1)] := hl
  rw [f_X3_couldHave] at hf
  refine lv_aload_n hx hb dX3_couldHave_0 rfl (lv_at hl 0 rfl) ?_
  refine lv_iload_n hx hb dX3_couldHave_1 rfl (lv_at hl 1 rfl) ?_
  obtain ⟨v1, hv1, hf⟩ := ob_s hf
  refine mc_X3_X3_mayHope S hC hK hP hv1 hl.1 ⟨Nat.le_of_ble_eq_true rfl, Nat.le_of_ble_eq_true rfl⟩ (Nat.le_of_ble_eq_true rfl) ⟨Nat.zero_le _, Nat.zero_le _⟩ dX3_couldHave_2 (fun hnv1 => ?_)
  refine lv_if_eq (tgt := 30) hx hb dX3_couldHave_5 (by decide) (fun c2 => ?_) (fun c2 => ?_)
  · replace hf := it_t c2 hf
    refine lv_iconst hx hb dX3_couldHave_30 kc_i0 ?_
    have hE := Option.some.inj hf
    subst hE
    exact gt_rz S hr hlocks nb0 dX3_couldHave_31
  · replace hf := it_f c2 hf
    refine lv_aload_n hx hb dX3_couldHave_8 rfl (lv_at hl 0 rfl) ?_
    refine lv_iload_n hx hb dX3_couldHave_9 rfl (lv_at hl 1 rfl) ?_
    refine lv_iload_n hx hb dX3_couldHave_10 rfl (lv_at hl 2 rfl) ?_
    obtain ⟨v3, hv3, hf⟩ := ob_s hf
    refine mc_X3_X3_doesFit S hC hK hP hv3 hl.1 ⟨Nat.le_of_ble_eq_true rfl, Nat.le_of_ble_eq_true rfl⟩ (Nat.le_of_ble_eq_true rfl) ⟨Nat.zero_le _, Nat.zero_le _⟩ dX3_couldHave_11 (fun hnv3 => ?_)
    refine lv_if_eq (tgt := 30) hx hb dX3_couldHave_14 (by decide) (fun c4 => ?_) (fun c4 => ?_)
    · replace hf := it_t c4 hf
      refine lv_iconst hx hb dX3_couldHave_30 kc_i0 ?_
      have hE := Option.some.inj hf
      subst hE
      exact gt_rz S hr hlocks nb0 dX3_couldHave_31
    · replace hf := it_f c4 hf
      refine lv_aload_n hx hb dX3_couldHave_17 rfl (lv_at hl 0 rfl) ?_
      refine lv_iload_n hx hb dX3_couldHave_18 rfl (lv_at hl 1 rfl) ?_
      refine lv_iload_n hx hb dX3_couldHave_19 rfl (lv_at hl 2 rfl) ?_
      obtain ⟨v5, hv5, hf⟩ := ob_s hf
      refine mc_X3_X3_wouldTake S hC hK hP hv5 hl.1 ⟨Nat.le_of_ble_eq_true rfl, Nat.le_of_ble_eq_true rfl⟩ (Nat.le_of_ble_eq_true rfl) ⟨Nat.zero_le _, Nat.zero_le _⟩ dX3_couldHave_20 (fun hnv5 => ?_)
      refine lv_if_eq (tgt := 30) hx hb dX3_couldHave_23 (by decide) (fun c6 => ?_) (fun c6 => ?_)
      · replace hf := it_t c6 hf
        refine lv_iconst hx hb dX3_couldHave_30 kc_i0 ?_
        have hE := Option.some.inj hf
        subst hE
        exact gt_rz S hr hlocks nb0 dX3_couldHave_31
      · replace hf := it_f c6 hf
        refine lv_iconst hx hb dX3_couldHave_26 kc_i1 ?_
        refine lv_goto (tgt := 31) hx hb dX3_couldHave_27 (by decide) ?_
        have hE := Option.some.inj hf
        subst hE
        exact gt_rz S hr hlocks nb1 dX3_couldHave_31
set_option maxRecDepth 100000 in
theorem mc_X3_X3_couldHave {a0 : Int32} {a1 : Int32} {out : Int32} (S : CallFix p m c cc nL s args lw_all RX3) (hC : mC cl tys mi cI cJ cB) (hK : va_K D cl tys s) (hP : va_P D cl (mW mi cI cJ cB o ad th tp st fk fp ac si fr tt kd nu fa pl fo wd ci gr lm om nw rd aa kp ta nm rn gv gt rw rh lg lh ou) H) (hf : f_X3_couldHave nw a0 a1 = some out) (hsz : ls.size = nL) (hR : 4 + 1 ≤ R.frames ∧ 8 + (3 + 11) + 88 ≤ R.locals) (hW : (rest.map fun v => v.category).sum ≤ 8) (hcs : cells ≤ R.cells ∧ slots ≤ R.slots) (hdg : decode cc pc = .ok (.invokevirtual 337, 3)) (kk : (narrow .boolean (.int out) = .int out) → W p l e R s m args below meth c H locs cells slots Q (F0 m (pc + 3) ls (.int out :: rest))) : W p l e R s m args below meth c H locs cells slots Q (F0 m pc ls (.int a1 :: .int a0 :: .ref o :: rest)) :=
  gc_Vr (As := [.int a0, .int a1]) S (mm_X3_couldHave hC hf) (cwV 2 S.2.2.2.2 (lw_V q2483 q2485 qs156 q189 q2486) rfl rfl rfl hd_X3_couldHave hR) (gPreV hK hP hC.1 (q0 := 0) rfl) rfl hsz rfl hW hdg hcs kk
theorem hd_X3_canGive : yX3_canGive.cls = RX3 ∧ yX3_canGive.cls ≠ "java/lang/invoke/MethodHandle" ∧ yX3_canGive.cls ≠ "java/lang/invoke/VarHandle" ∧ (parseMethodDescriptor yX3_canGive.desc).map (fun d => d.parameters.length) = some 2 := by decide +kernel
set_option maxHeartbeats 4000000 in
set_option maxRecDepth 100000 in
theorem mm_X3_canGive {a0 : Int32} {a1 : Int32} {out : Int32} (hC : mC cl tys mi cI cJ cB) (hf : f_X3_canGive nw a0 a1 = some out) : Met l yX3_canGive (ws_ yX3_canGive cX3_canGive 3 (some .boolean)) (rM 5 110) (gPc D cl tys [.ref o, .int a0, .int a1] (mW mi cI cJ cB o ad th tp st fk fp ac si fr tt kd nu fa pl fo wd ci gr lm om nw rd aa kp ta nm rn gv gt rw rh lg lh ou)) (gR (some (.int out)) (narrow .boolean (.int out) = .int out)) 0 0 (fun _ => False) := by
  refine gGo (by decide +kernel) (Nat.le_of_ble_eq_true rfl) (fun p e s m below meth c ls S hr hlocks hK hP hl => ?_)
  have S : CallFix p m c cX3_canGive 3 s _ lw_all RX3 := S
  obtain ⟨hx, hb, hml, hown, hts⟩ := id S
  have hl : lv_has ls 3 [(0, .ref o), (1, .int a0), (2, .int a1)] := hl
  rw [f_X3_canGive] at hf
  refine lv_aload_n hx hb dX3_canGive_0 rfl (lv_at hl 0 rfl) ?_
  refine lv_iload_n hx hb dX3_canGive_1 rfl (lv_at hl 2 rfl) ?_
  obtain ⟨v1, hv1, hf⟩ := ob_s hf
  refine mc_X3_X3_isFree S hC hK hP hv1 hl.1 ⟨Nat.le_of_ble_eq_true rfl, Nat.le_of_ble_eq_true rfl⟩ (Nat.le_of_ble_eq_true rfl) ⟨Nat.zero_le _, Nat.zero_le _⟩ dX3_canGive_2 (fun hnv1 => ?_)
  refine lv_if_eq (tgt := 21) hx hb dX3_canGive_5 (by decide) (fun c2 => ?_) (fun c2 => ?_)
  · replace hf := it_t c2 hf
    refine lv_iconst hx hb dX3_canGive_21 kc_i0 ?_
    have hE := Option.some.inj hf
    subst hE
    exact gt_rz S hr hlocks nb0 dX3_canGive_22
  · replace hf := it_f c2 hf
    refine lv_aload_n hx hb dX3_canGive_8 rfl (lv_at hl 0 rfl) ?_
    refine lv_iload_n hx hb dX3_canGive_9 rfl (lv_at hl 1 rfl) ?_
    refine lv_iload_n hx hb dX3_canGive_10 rfl (lv_at hl 2 rfl) ?_
    obtain ⟨v3, hv3, hf⟩ := ob_s hf
    refine mc_X3_X3_couldHave S hC hK hP hv3 hl.1 ⟨Nat.le_of_ble_eq_true rfl, Nat.le_of_ble_eq_true rfl⟩ (Nat.le_of_ble_eq_true rfl) ⟨Nat.zero_le _, Nat.zero_le _⟩ dX3_canGive_11 (fun hnv3 => ?_)
    refine lv_if_eq (tgt := 21) hx hb dX3_canGive_14 (by decide) (fun c4 => ?_) (fun c4 => ?_)
    · replace hf := it_t c4 hf
      refine lv_iconst hx hb dX3_canGive_21 kc_i0 ?_
      have hE := Option.some.inj hf
      subst hE
      exact gt_rz S hr hlocks nb0 dX3_canGive_22
    · replace hf := it_f c4 hf
      refine lv_iconst hx hb dX3_canGive_17 kc_i1 ?_
      refine lv_goto (tgt := 22) hx hb dX3_canGive_18 (by decide) ?_
      have hE := Option.some.inj hf
      subst hE
      exact gt_rz S hr hlocks nb1 dX3_canGive_22
set_option maxRecDepth 100000 in
theorem mc_X3_X3_canGive {a0 : Int32} {a1 : Int32} {out : Int32} (S : CallFix p m c cc nL s args lw_all RX3) (hC : mC cl tys mi cI cJ cB) (hK : va_K D cl tys s) (hP : va_P D cl (mW mi cI cJ cB o ad th tp st fk fp ac si fr tt kd nu fa pl fo wd ci gr lm om nw rd aa kp ta nm rn gv gt rw rh lg lh ou) H) (hf : f_X3_canGive nw a0 a1 = some out) (hsz : ls.size = nL) (hR : 5 + 1 ≤ R.frames ∧ 8 + (3 + 11) + 110 ≤ R.locals) (hW : (rest.map fun v => v.category).sum ≤ 8) (hcs : cells ≤ R.cells ∧ slots ≤ R.slots) (hdg : decode cc pc = .ok (.invokevirtual 343, 3)) (kk : (narrow .boolean (.int out) = .int out) → W p l e R s m args below meth c H locs cells slots Q (F0 m (pc + 3) ls (.int out :: rest))) : W p l e R s m args below meth c H locs cells slots Q (F0 m pc ls (.int a1 :: .int a0 :: .ref o :: rest)) :=
  gc_Vr (As := [.int a0, .int a1]) S (mm_X3_canGive hC hf) (cwV 2 S.2.2.2.2 (lw_V q2479 q2481 qs155 q189 q2482) rfl rfl rfl hd_X3_canGive hR) (gPreV hK hP hC.1 (q0 := 0) rfl) rfl hsz rfl hW hdg hcs kk
end
