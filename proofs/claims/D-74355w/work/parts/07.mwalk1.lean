section
variable {l : Launch} {D : va_G} {cl : List vw_C} {tys : List (ClassId × FieldType)} {mi : Nat} {cI cJ cB : ClassId} {o : Nat} {ad : Nat → Nat} {th : Int32} {tp : Int32} {st : Int32} {fk : Int32} {fp : Int32} {ac : Int32} {si : Int32} {fr : Int32} {tt : Int32} {kd : Int32} {nu : Int32} {fa : Int32} {pl : Int32} {fo : Int32} {wd : Int64} {ci : Int32} {gr : Int32} {lm : Int32} {om : Int32} {nw : (Nat → Int32)} {rd : (Nat → Int32)} {aa : (Nat → Int32)} {kp : (Nat → Int32)} {ta : (Nat → Int32)} {nm : (Nat → Int64)} {rn : (Nat → Int64)} {gv : (Nat → Int32)} {gt : (Nat → Int32)} {rw : (Nat → Int32)} {rh : (Nat → Int32)} {lg : (Nat → Int32)} {lh : (Nat → Int32)} {ou : (Nat → Int32)}
variable {p : Program} {e : Env} {R : Room} {s : State} {m : MethodId} {args : Array Value} {below : List Frame} {meth : Method} {c : Code} {H H0 : Heap} {locs : List Loc} {cells slots : Nat} {Q : State → Prop} {cc : ByteArray} {nL pc : Nat} {ls : Array Slot} {rest : List Value}
theorem hd_X3_thrown : yX3_thrown.cls = RX3 ∧ yX3_thrown.cls ≠ "java/lang/invoke/MethodHandle" ∧ yX3_thrown.cls ≠ "java/lang/invoke/VarHandle" ∧ (parseMethodDescriptor yX3_thrown.desc).map (fun d => d.parameters.length) = some 0 := by decide +kernel
set_option maxHeartbeats 4000000 in
set_option maxRecDepth 100000 in
theorem mm_X3_thrown  {out : Int32} (hC : mC cl tys mi cI cJ cB) (hf : f_X3_thrown th = some out) : Met l yX3_thrown (ws_ yX3_thrown cX3_thrown 1 (some .int)) (rM 0 0) (gPc D cl tys [.ref o] (mW mi cI cJ cB o ad th tp st fk fp ac si fr tt kd nu fa pl fo wd ci gr lm om nw rd aa kp ta nm rn gv gt rw rh lg lh ou)) (gR (some (.int out)) True) 0 0 (fun _ => False) := by
  refine gGo (by decide +kernel) (Nat.le_of_ble_eq_true rfl) (fun p e s m below meth c ls S hr hlocks hK hP hl => ?_)
  have S : CallFix p m c cX3_thrown 1 s _ lw_all RX3 := S
  obtain ⟨hx, hb, hml, hown, hts⟩ := id S
  have hl : lv_has ls 1 [(0, .ref o)] := hl
  rw [f_X3_thrown] at hf
  refine lv_aload_n hx hb dX3_thrown_0 rfl (lv_at hl 0 rfl) ?_
  refine mg_0 S hC hK hP dX3_thrown_1 ?_
  have hE := Option.some.inj hf
  subst hE
  exact gt_ri S hr hlocks trivial dX3_thrown_4
theorem hd_X3_status : yX3_status.cls = RX3 ∧ yX3_status.cls ≠ "java/lang/invoke/MethodHandle" ∧ yX3_status.cls ≠ "java/lang/invoke/VarHandle" ∧ (parseMethodDescriptor yX3_status.desc).map (fun d => d.parameters.length) = some 0 := by decide +kernel
set_option maxHeartbeats 4000000 in
set_option maxRecDepth 100000 in
theorem mm_X3_status  {out : Int32 × Int32} (hC : mC cl tys mi cI cJ cB) (hD : mD o ad) (hf : f_X3_status st th = some out) : Met l yX3_status (ws_ yX3_status cX3_status 1 (some .int)) (rM 0 0) (gPc D cl tys [.ref o] (mW mi cI cJ cB o ad th tp st fk fp ac si fr tt kd nu fa pl fo wd ci gr lm om nw rd aa kp ta nm rn gv gt rw rh lg lh ou)) (gQ D cl (some (.int out.1)) True (mW mi cI cJ cB o ad out.2 tp st fk fp ac si fr tt kd nu fa pl fo wd ci gr lm om nw rd aa kp ta nm rn gv gt rw rh lg lh ou) (mA o ad)) 0 0 (mA o ad) := by
  refine gGo (by decide +kernel) (Nat.le_of_ble_eq_true rfl) (fun p e s m below meth c ls S hr hlocks hK hP hl => ?_)
  have S : CallFix p m c cX3_status 1 s _ lw_all RX3 := S
  obtain ⟨hx, hb, hml, hown, hts⟩ := id S
  have hl : lv_has ls 1 [(0, .ref o)] := hl
  suffices hg : ∀ (H : Heap) (locs : List Loc), va_P D cl (mW mi cI cJ cB o ad th tp st fk fp ac si fr tt kd nu fa pl fo wd ci gr lm om nw rd aa kp ta nm rn gv gt rw rh lg lh ou) H → va_S (mA o ad) s.heap H locs → W p l e (rM 0 0) s m ([.ref o] : List Value).toArray below meth c H locs 0 0 (MQ below (gQ D cl (some (.int out.1)) True (mW mi cI cJ cB o ad out.2 tp st fk fp ac si fr tt kd nu fa pl fo wd ci gr lm om nw rd aa kp ta nm rn gv gt rw rh lg lh ou) (mA o ad)) ([.ref o] : List Value).toArray s 0 0 (mA o ad)) (F0 m 0 ls []) from hg s.heap [] hP va_S.rf
  clear hP
  intro H locs hP hS
  rw [f_X3_status] at hf
  refine lv_aload_n hx hb dX3_status_0 rfl (lv_at hl 0 rfl) ?_
  refine lv_iconst hx hb dX3_status_1 kc_i0 ?_
  refine mp_0 S hC hD hK hP hS dX3_status_2 (fun H locs hP hS => ?_)
  refine lv_aload_n hx hb dX3_status_5 rfl (lv_at hl 0 rfl) ?_
  refine mg_9 S hC hK hP dX3_status_6 ?_
  have hE := Option.some.inj hf
  subst hE
  exact gt_wi S hr hlocks trivial hP hS dX3_status_9
theorem hd_X3_come : yX3_come.cls = RX3 ∧ yX3_come.cls ≠ "java/lang/invoke/MethodHandle" ∧ yX3_come.cls ≠ "java/lang/invoke/VarHandle" ∧ (parseMethodDescriptor yX3_come.desc).map (fun d => d.parameters.length) = some 1 := by decide +kernel
set_option maxHeartbeats 4000000 in
set_option maxRecDepth 100000 in
theorem mm_X3_come {a0 : Int32} {out : Int32 × (Nat → Int32)} (hC : mC cl tys mi cI cJ cB) (hD : mD o ad) (hf : f_X3_come tp ta a0 = some out) : Met l yX3_come (ws_ yX3_come cX3_come 3 none) (rM 0 0) (gPc D cl tys [.ref o, .int a0] (mW mi cI cJ cB o ad th tp st fk fp ac si fr tt kd nu fa pl fo wd ci gr lm om nw rd aa kp ta nm rn gv gt rw rh lg lh ou)) (gQ D cl none True (mW mi cI cJ cB o ad th out.1 st fk fp ac si fr tt kd nu fa pl fo wd ci gr lm om nw rd aa kp out.2 nm rn gv gt rw rh lg lh ou) (mA o ad)) 0 0 (mA o ad) := by
  refine gGo (by decide +kernel) (Nat.le_of_ble_eq_true rfl) (fun p e s m below meth c ls S hr hlocks hK hP hl => ?_)
  have S : CallFix p m c cX3_come 3 s _ lw_all RX3 := S
  obtain ⟨hx, hb, hml, hown, hts⟩ := id S
  have hl : lv_has ls 3 [(0, .ref o), (1, .int a0)] := hl
  have w3 : ∀ (n : Nat) , ∀ (x1 : Int32) (x2 : Int32) (tp : Int32) (ta : (Nat → Int32)) (ls : Array Slot) (H : Heap) (locs : List Loc), va_P D cl (mW mi cI cJ cB o ad th tp st fk fp ac si fr tt kd nu fa pl fo wd ci gr lm om nw rd aa kp ta nm rn gv gt rw rh lg lh ou) H → va_S (mA o ad) s.heap H locs → lv_has ls 3 [(0, .ref o), (1, .int x1), (2, .int x2)] → f_X3_come_3 n x1 x2 tp ta = some out → W p l e (rM 0 0) s m ([.ref o, .int a0] : List Value).toArray below meth c H locs 0 0 (MQ below (gQ D cl none True (mW mi cI cJ cB o ad th out.1 st fk fp ac si fr tt kd nu fa pl fo wd ci gr lm om nw rd aa kp out.2 nm rn gv gt rw rh lg lh ou) (mA o ad)) ([.ref o, .int a0] : List Value).toArray s 0 0 (mA o ad)) (F0 m 3 ls []) := by
    intro n
    induction n with
    | zero =>
      intro x1 x2 tp ta ls H locs hP hS hl hf
      exact absurd hf (by rw [f_X3_come_3]; exact nofun)
    | succ n ih =>
      intro x1 x2 tp ta ls H locs hP hS hl hf
      rw [f_X3_come_3] at hf
      refine lv_iload_n hx hb dX3_come_3 rfl (lv_at hl 2 rfl) ?_
      refine lv_if_lt (tgt := 39) hx hb dX3_come_4 (by decide) (fun c1 => ?_) (fun c1 => ?_)
      · replace hf := it_t c1 hf
        have hE := Option.some.inj hf
        subst hE
        exact gt_wv S hr hlocks trivial hP hS dX3_come_39
      · replace hf := it_f c1 hf
        refine lv_aload_n hx hb dX3_come_7 rfl (lv_at hl 0 rfl) ?_
        refine mg_5 S hC hK hP dX3_come_8 ?_
        refine lv_aload_n hx hb dX3_come_11 rfl (lv_at hl 0 rfl) ?_
        refine mg_8 S hC hK hP dX3_come_12 ?_
        refine lv_iload_n hx hb dX3_come_15 rfl (lv_at hl 1 rfl) ?_
        refine lv_iload_n hx hb dX3_come_16 rfl (lv_at hl 2 rfl) ?_
        refine lv_iushr hx hb dX3_come_17 rfl ?_
        refine lv_sipush hx hb dX3_come_18 kc_s255 ?_
        refine lv_iand hx hb dX3_come_21 ?_
        obtain ⟨g2, hf⟩ := gd_t hf
        refine ms_5 S hC hD hK hP hS (inR_vp g2) rfl dX3_come_22 (fun H locs hP hS => ?_)
        obtain ⟨m3, em3⟩ : ∃ z, z = (upd ta tp.toNatClampNeg ((x1.toUInt32 >>> (x2.toUInt32 &&& Int32.toUInt32 31)).toInt32 &&& (nI 255))) := ⟨_, rfl⟩
        replace hf := bd_e em3 hf
        rw [← em3] at hP
        refine lv_aload_n hx hb dX3_come_23 rfl (lv_at hl 0 rfl) ?_
        refine lv_dup hx hb dX3_come_24 rfl ?_
        refine mg_8 S hC hK hP dX3_come_25 ?_
        refine lv_iconst hx hb dX3_come_28 kc_i1 ?_
        refine lv_iadd hx hb dX3_come_29 ?_
        refine mp_8 S hC hD hK hP hS dX3_come_30 (fun H locs hP hS => ?_)
        refine lv_iinc (v := (x2 + (-8))) (lv' := [(2, .int (x2 + (-8))), (0, .ref o), (1, .int x1)]) hx hb dX3_come_33 hl (k := 2) rfl rfl (by decide) rfl (fun ls hl => ?_)
        refine lv_goto (tgt := 3) hx hb dX3_come_36 (by decide) ?_
        exact (ih) x1 (x2 + (-8)) (tp + 1) m3 ls H locs hP hS (lv_sub (l' := [(0, .ref o), (1, .int x1), (2, .int (x2 + (-8)))]) hl [1, 2, 0] rfl) hf
  suffices hg : ∀ (H : Heap) (locs : List Loc), va_P D cl (mW mi cI cJ cB o ad th tp st fk fp ac si fr tt kd nu fa pl fo wd ci gr lm om nw rd aa kp ta nm rn gv gt rw rh lg lh ou) H → va_S (mA o ad) s.heap H locs → W p l e (rM 0 0) s m ([.ref o, .int a0] : List Value).toArray below meth c H locs 0 0 (MQ below (gQ D cl none True (mW mi cI cJ cB o ad th out.1 st fk fp ac si fr tt kd nu fa pl fo wd ci gr lm om nw rd aa kp out.2 nm rn gv gt rw rh lg lh ou) (mA o ad)) ([.ref o, .int a0] : List Value).toArray s 0 0 (mA o ad)) (F0 m 0 ls []) from hg s.heap [] hP va_S.rf
  clear hP
  intro H locs hP hS
  rw [f_X3_come] at hf
  refine lv_bipush hx hb dX3_come_0 kc_b24 ?_
  refine lv_istore_n (i := 2) (lv' := [(2, .int (nI 24)), (0, .ref o), (1, .int a0)]) hx hb dX3_come_2 rfl hl (by decide) rfl (fun ls hl => ?_)
  exact (w3 FU) a0 (nI 24) tp ta ls H locs hP hS (lv_sub (l' := [(0, .ref o), (1, .int a0), (2, .int (nI 24))]) hl [1, 2, 0] rfl) hf
set_option maxRecDepth 100000 in
theorem mc_X3_X3_come {a0 : Int32} {out : Int32 × (Nat → Int32)} (S : CallFix p m c cc nL s args lw_all RX3) (hC : mC cl tys mi cI cJ cB) (hD : mD o ad) (hK : va_K D cl tys s) (hP : va_P D cl (mW mi cI cJ cB o ad th tp st fk fp ac si fr tt kd nu fa pl fo wd ci gr lm om nw rd aa kp ta nm rn gv gt rw rh lg lh ou) H) (hS : va_S (mA o ad) H0 H locs) (hf : f_X3_come tp ta a0 = some out) (hsz : ls.size = nL) (hR : 0 + 1 ≤ R.frames ∧ 8 + (3 + 11) + 0 ≤ R.locals) (hW : (rest.map fun v => v.category).sum ≤ 8) (hcs : cells ≤ R.cells ∧ slots ≤ R.slots) (hdg : decode cc pc = .ok (.invokevirtual 82, 3)) (kk : ∀ (H1 : Heap) (locs1 : List Loc), True → va_P D cl (mW mi cI cJ cB o ad th out.1 st fk fp ac si fr tt kd nu fa pl fo wd ci gr lm om nw rd aa kp out.2 nm rn gv gt rw rh lg lh ou) H1 → va_S (mA o ad) H0 H1 locs1 → W p l e R s m args below meth c H1 locs1 cells slots Q (F0 m (pc + 3) ls (rest))) : W p l e R s m args below meth c H locs cells slots Q (F0 m pc ls (.int a0 :: .ref o :: rest)) :=
  gc_Vv (As := [.int a0]) S (mm_X3_come hC hD hf) (cwV 1 S.2.2.2.2 (lw_V q2108 q2110 qs93 q189 q2111) rfl rfl rfl hd_X3_come hR) (gPreV hK hP hC.1 (q0 := 0) rfl) rfl hsz rfl hW hdg hcs hS kk
theorem hd_X3_feed : yX3_feed.cls = RX3 ∧ yX3_feed.cls ≠ "java/lang/invoke/MethodHandle" ∧ yX3_feed.cls ≠ "java/lang/invoke/VarHandle" ∧ (parseMethodDescriptor yX3_feed.desc).map (fun d => d.parameters.length) = some 5 := by decide +kernel
set_option maxHeartbeats 4000000 in
set_option maxRecDepth 100000 in
theorem mm_X3_feed {a0 : Int32} {a1 : Int32} {a2 : Int32} {a3 : Int32} {a4 : Int32} {out : Int32 × Int32 × Int32 × (Nat → Int32)} (hC : mC cl tys mi cI cJ cB) (hD : mD o ad) (hf : f_X3_feed th tp ta a0 a1 a2 a3 a4 = some out) : Met l yX3_feed (ws_ yX3_feed cX3_feed 6 (some .int)) (rM 1 22) (gPc D cl tys [.ref o, .int a0, .int a1, .int a2, .int a3, .int a4] (mW mi cI cJ cB o ad th tp st fk fp ac si fr tt kd nu fa pl fo wd ci gr lm om nw rd aa kp ta nm rn gv gt rw rh lg lh ou)) (gQ D cl (some (.int out.1)) True (mW mi cI cJ cB o ad out.2.1 out.2.2.1 st fk fp ac si fr tt kd nu fa pl fo wd ci gr lm om nw rd aa kp out.2.2.2 nm rn gv gt rw rh lg lh ou) (mA o ad)) 0 0 (mA o ad) := by
  refine gGo (by decide +kernel) (Nat.le_of_ble_eq_true rfl) (fun p e s m below meth c ls S hr hlocks hK hP hl => ?_)
  have S : CallFix p m c cX3_feed 6 s _ lw_all RX3 := S
  obtain ⟨hx, hb, hml, hown, hts⟩ := id S
  have hl : lv_has ls 6 [(0, .ref o), (1, .int a0), (2, .int a1), (3, .int a2), (4, .int a3), (5, .int a4)] := hl
  suffices hg : ∀ (H : Heap) (locs : List Loc), va_P D cl (mW mi cI cJ cB o ad th tp st fk fp ac si fr tt kd nu fa pl fo wd ci gr lm om nw rd aa kp ta nm rn gv gt rw rh lg lh ou) H → va_S (mA o ad) s.heap H locs → W p l e (rM 1 22) s m ([.ref o, .int a0, .int a1, .int a2, .int a3, .int a4] : List Value).toArray below meth c H locs 0 0 (MQ below (gQ D cl (some (.int out.1)) True (mW mi cI cJ cB o ad out.2.1 out.2.2.1 st fk fp ac si fr tt kd nu fa pl fo wd ci gr lm om nw rd aa kp out.2.2.2 nm rn gv gt rw rh lg lh ou) (mA o ad)) ([.ref o, .int a0, .int a1, .int a2, .int a3, .int a4] : List Value).toArray s 0 0 (mA o ad)) (F0 m 0 ls []) from hg s.heap [] hP va_S.rf
  clear hP
  intro H locs hP hS
  rw [f_X3_feed] at hf
  refine lv_aload_n hx hb dX3_feed_0 rfl (lv_at hl 0 rfl) ?_
  refine lv_iconst hx hb dX3_feed_1 kc_i0 ?_
  refine mp_0 S hC hD hK hP hS dX3_feed_2 (fun H locs hP hS => ?_)
  refine lv_aload_n hx hb dX3_feed_5 rfl (lv_at hl 0 rfl) ?_
  refine mg_8 S hC hK hP dX3_feed_6 ?_
  refine lv_bipush hx hb dX3_feed_9 kc_b20 ?_
  refine lv_iadd hx hb dX3_feed_11 ?_
  refine lv_sipush hx hb dX3_feed_12 kc_s900 ?_
  refine lv_icmp_le (tgt := 20) hx hb dX3_feed_15 (by decide) (fun c1 => ?_) (fun c1 => ?_)
  · replace hf := it_t c1 hf
    refine lv_aload_n hx hb dX3_feed_20 rfl (lv_at hl 0 rfl) ?_
    refine lv_iload_n hx hb dX3_feed_21 rfl (lv_at hl 1 rfl) ?_
    obtain ⟨v2, hv2, hf⟩ := ob_s hf
    refine mc_X3_X3_come S hC hD hK hP hS hv2 hl.1 ⟨Nat.le_of_ble_eq_true rfl, Nat.le_of_ble_eq_true rfl⟩ (Nat.le_of_ble_eq_true rfl) ⟨Nat.zero_le _, Nat.zero_le _⟩ dX3_feed_22 (fun H locs _ hP hS => ?_)
    refine lv_aload_n hx hb dX3_feed_25 rfl (lv_at hl 0 rfl) ?_
    refine lv_iload_n hx hb dX3_feed_26 rfl (lv_at hl 2 rfl) ?_
    obtain ⟨v3, hv3, hf⟩ := ob_s hf
    refine mc_X3_X3_come S hC hD hK hP hS hv3 hl.1 ⟨Nat.le_of_ble_eq_true rfl, Nat.le_of_ble_eq_true rfl⟩ (Nat.le_of_ble_eq_true rfl) ⟨Nat.zero_le _, Nat.zero_le _⟩ dX3_feed_27 (fun H locs _ hP hS => ?_)
    refine lv_aload_n hx hb dX3_feed_30 rfl (lv_at hl 0 rfl) ?_
    refine lv_iload_n hx hb dX3_feed_31 rfl (lv_at hl 3 rfl) ?_
    obtain ⟨v4, hv4, hf⟩ := ob_s hf
    refine mc_X3_X3_come S hC hD hK hP hS hv4 hl.1 ⟨Nat.le_of_ble_eq_true rfl, Nat.le_of_ble_eq_true rfl⟩ (Nat.le_of_ble_eq_true rfl) ⟨Nat.zero_le _, Nat.zero_le _⟩ dX3_feed_32 (fun H locs _ hP hS => ?_)
    refine lv_aload_n hx hb dX3_feed_35 rfl (lv_at hl 0 rfl) ?_
    refine lv_iload hx hb dX3_feed_36 (lv_at hl 4 rfl) ?_
    obtain ⟨v5, hv5, hf⟩ := ob_s hf
    refine mc_X3_X3_come S hC hD hK hP hS hv5 hl.1 ⟨Nat.le_of_ble_eq_true rfl, Nat.le_of_ble_eq_true rfl⟩ (Nat.le_of_ble_eq_true rfl) ⟨Nat.zero_le _, Nat.zero_le _⟩ dX3_feed_38 (fun H locs _ hP hS => ?_)
    refine lv_aload_n hx hb dX3_feed_41 rfl (lv_at hl 0 rfl) ?_
    refine lv_iload hx hb dX3_feed_42 (lv_at hl 5 rfl) ?_
    obtain ⟨v6, hv6, hf⟩ := ob_s hf
    refine mc_X3_X3_come S hC hD hK hP hS hv6 hl.1 ⟨Nat.le_of_ble_eq_true rfl, Nat.le_of_ble_eq_true rfl⟩ (Nat.le_of_ble_eq_true rfl) ⟨Nat.zero_le _, Nat.zero_le _⟩ dX3_feed_44 (fun H locs _ hP hS => ?_)
    refine lv_aload_n hx hb dX3_feed_47 rfl (lv_at hl 0 rfl) ?_
    refine mg_8 S hC hK hP dX3_feed_48 ?_
    have hE := Option.some.inj hf
    subst hE
    exact gt_wi S hr hlocks trivial hP hS dX3_feed_51
  · replace hf := it_f c1 hf
    refine lv_iconst hx hb dX3_feed_18 kc_im1 ?_
    have hE := Option.some.inj hf
    subst hE
    exact gt_wi S hr hlocks trivial hP hS dX3_feed_19
theorem hd_X3_isFrom : yX3_isFrom.cls ≠ "java/lang/invoke/MethodHandle" ∧ yX3_isFrom.cls ≠ "java/lang/invoke/VarHandle" ∧ (parseMethodDescriptor yX3_isFrom.desc).map (fun d => d.parameters.length) = some 3 := by decide +kernel
set_option maxHeartbeats 4000000 in
set_option maxRecDepth 100000 in
theorem mm_X3_isFrom {a0 : Int32} {a1 : Int32} {a2 : Int32} {out : Int32} (hf : f_X3_isFrom a0 a1 a2 = some out) : Met l yX3_isFrom (ws_ yX3_isFrom cX3_isFrom 3 (some .boolean)) (rM 0 0) (gPc D cl tys [.int a0, .int a1, .int a2] []) (gR (some (.int out)) (narrow .boolean (.int out) = .int out)) 0 0 (fun _ => False) := by
  refine gGo (by decide +kernel) (Nat.le_of_ble_eq_true rfl) (fun p e s m below meth c ls S hr hlocks hK hP hl => ?_)
  have S : CallFix p m c cX3_isFrom 3 s _ lw_all RX3 := S
  obtain ⟨hx, hb, hml, hown, hts⟩ := id S
  have hl : lv_has ls 3 [(0, .int a0), (1, .int a1), (2, .int a2)] := hl
  rw [f_X3_isFrom] at hf
  refine lv_iload_n hx hb dX3_isFrom_0 rfl (lv_at hl 0 rfl) ?_
  refine lv_iload_n hx hb dX3_isFrom_1 rfl (lv_at hl 1 rfl) ?_
  refine lv_icmp_lt (tgt := 14) hx hb dX3_isFrom_2 (by decide) (fun c1 => ?_) (fun c1 => ?_)
  · replace hf := it_t c1 hf
    refine lv_iconst hx hb dX3_isFrom_14 kc_i0 ?_
    have hE := Option.some.inj hf
    subst hE
    exact gt_rz S hr hlocks nb0 dX3_isFrom_15
  · replace hf := it_f c1 hf
    refine lv_iload_n hx hb dX3_isFrom_5 rfl (lv_at hl 0 rfl) ?_
    refine lv_iload_n hx hb dX3_isFrom_6 rfl (lv_at hl 2 rfl) ?_
    refine lv_icmp_gt (tgt := 14) hx hb dX3_isFrom_7 (by decide) (fun c2 => ?_) (fun c2 => ?_)
    · replace hf := it_t c2 hf
      refine lv_iconst hx hb dX3_isFrom_14 kc_i0 ?_
      have hE := Option.some.inj hf
      subst hE
      exact gt_rz S hr hlocks nb0 dX3_isFrom_15
    · replace hf := it_f c2 hf
      refine lv_iconst hx hb dX3_isFrom_10 kc_i1 ?_
      refine lv_goto (tgt := 15) hx hb dX3_isFrom_11 (by decide) ?_
      have hE := Option.some.inj hf
      subst hE
      exact gt_rz S hr hlocks nb1 dX3_isFrom_15
set_option maxRecDepth 100000 in
theorem mc_X3_X3_isFrom {a0 : Int32} {a1 : Int32} {a2 : Int32} {out : Int32} (S : CallFix p m c cc nL s args lw_all RX3) (hK : va_K D cl tys s) (hf : f_X3_isFrom a0 a1 a2 = some out) (hsz : ls.size = nL) (hR : 0 + 1 ≤ R.frames ∧ 8 + (3 + 11) + 0 ≤ R.locals) (hW : (rest.map fun v => v.category).sum ≤ 8) (hcs : cells ≤ R.cells ∧ slots ≤ R.slots) (hdg : decode cc pc = .ok (.invokestatic 71, 3)) (kk : (narrow .boolean (.int out) = .int out) → W p l e R s m args below meth c H locs cells slots Q (F0 m (pc + 3) ls (.int out :: rest))) : W p l e R s m args below meth c H locs cells slots Q (F0 m pc ls (.int a2 :: .int a1 :: .int a0 :: rest)) :=
  gc_Sr (As := [.int a0, .int a1, .int a2]) S (mm_X3_isFrom hf) (va_cwS 3 S.2.2.2.2 (lw_S q2116 q2117 q189 q2118) rfl rfl rfl hd_X3_isFrom hR) (gPreS hK gP0) rfl hsz rfl hW hdg hcs kk
theorem hd_X3_plain : yX3_plain.cls ≠ "java/lang/invoke/MethodHandle" ∧ yX3_plain.cls ≠ "java/lang/invoke/VarHandle" ∧ (parseMethodDescriptor yX3_plain.desc).map (fun d => d.parameters.length) = some 1 := by decide +kernel
set_option maxHeartbeats 4000000 in
set_option maxRecDepth 100000 in
theorem mm_X3_plain_rd  {out : (Nat → Int32)} (hC : mC cl tys mi cI cJ cB) (hD : mD o ad) (hf : f_X3_plain_rd rd = some out) : Met l yX3_plain (ws_ yX3_plain cX3_plain 2 none) (rM 0 0) (gPc D cl tys [.ref (ad 2)] (mW mi cI cJ cB o ad th tp st fk fp ac si fr tt kd nu fa pl fo wd ci gr lm om nw rd aa kp ta nm rn gv gt rw rh lg lh ou)) (gQ D cl none True (mW mi cI cJ cB o ad th tp st fk fp ac si fr tt kd nu fa pl fo wd ci gr lm om nw out aa kp ta nm rn gv gt rw rh lg lh ou) (mA o ad)) 0 0 (mA o ad) := by
  refine gGo (by decide +kernel) (Nat.le_of_ble_eq_true rfl) (fun p e s m below meth c ls S hr hlocks hK hP hl => ?_)
  have S : CallFix p m c cX3_plain 2 s _ lw_all RX3 := S
  obtain ⟨hx, hb, hml, hown, hts⟩ := id S
  have hl : lv_has ls 2 [(0, .ref (ad 2))] := hl
  have w2 : ∀ (n : Nat) , ∀ (x1 : Int32) (rd : (Nat → Int32)) (ls : Array Slot) (H : Heap) (locs : List Loc), va_P D cl (mW mi cI cJ cB o ad th tp st fk fp ac si fr tt kd nu fa pl fo wd ci gr lm om nw rd aa kp ta nm rn gv gt rw rh lg lh ou) H → va_S (mA o ad) s.heap H locs → lv_has ls 2 [(0, .ref (ad 2)), (1, .int x1)] → f_X3_plain_rd_2 n x1 rd = some out → W p l e (rM 0 0) s m ([.ref (ad 2)] : List Value).toArray below meth c H locs 0 0 (MQ below (gQ D cl none True (mW mi cI cJ cB o ad th tp st fk fp ac si fr tt kd nu fa pl fo wd ci gr lm om nw out aa kp ta nm rn gv gt rw rh lg lh ou) (mA o ad)) ([.ref (ad 2)] : List Value).toArray s 0 0 (mA o ad)) (F0 m 2 ls []) := by
    intro n
    induction n with
    | zero =>
      intro x1 rd ls H locs hP hS hl hf
      exact absurd hf (by rw [f_X3_plain_rd_2]; exact nofun)
    | succ n ih =>
      intro x1 rd ls H locs hP hS hl hf
      rw [f_X3_plain_rd_2] at hf
      refine lv_iload_n hx hb dX3_plain_2 rfl (lv_at hl 1 rfl) ?_
      refine lv_sipush hx hb dX3_plain_3 kc_s390 ?_
      refine lv_icmp_ge (tgt := 19) hx hb dX3_plain_6 (by decide) (fun c1 => ?_) (fun c1 => ?_)
      · replace hf := it_t c1 hf
        refine lv_aload_n hx hb dX3_plain_19 rfl (lv_at hl 0 rfl) ?_
        refine lv_sipush hx hb dX3_plain_20 kc_s224 ?_
        refine lv_iconst hx hb dX3_plain_23 kc_i3 ?_
        refine ms_2 S hC hD hK hP hS kv_224_390 kn_224 dX3_plain_24 (fun H locs hP hS => ?_)
        refine lv_aload_n hx hb dX3_plain_25 rfl (lv_at hl 0 rfl) ?_
        refine lv_sipush hx hb dX3_plain_26 kc_s225 ?_
        refine lv_iconst hx hb dX3_plain_29 kc_i4 ?_
        refine ms_2 S hC hD hK hP hS kv_225_390 kn_225 dX3_plain_30 (fun H locs hP hS => ?_)
        refine lv_aload_n hx hb dX3_plain_31 rfl (lv_at hl 0 rfl) ?_
        refine lv_sipush hx hb dX3_plain_32 kc_s228 ?_
        refine lv_sipush hx hb dX3_plain_35 kc_s999 ?_
        refine ms_2 S hC hD hK hP hS kv_228_390 kn_228 dX3_plain_38 (fun H locs hP hS => ?_)
        refine lv_aload_n hx hb dX3_plain_39 rfl (lv_at hl 0 rfl) ?_
        refine lv_sipush hx hb dX3_plain_40 kc_s229 ?_
        refine lv_iconst hx hb dX3_plain_43 kc_i2 ?_
        refine ms_2 S hC hD hK hP hS kv_229_390 kn_229 dX3_plain_44 (fun H locs hP hS => ?_)
        have hE := Option.some.inj hf
        subst hE
        exact gt_wv S hr hlocks trivial hP hS dX3_plain_45
      · replace hf := it_f c1 hf
        refine lv_aload_n hx hb dX3_plain_9 rfl (lv_at hl 0 rfl) ?_
        refine lv_iload_n hx hb dX3_plain_10 rfl (lv_at hl 1 rfl) ?_
        refine lv_iconst hx hb dX3_plain_11 kc_i0 ?_
        obtain ⟨g2, hf⟩ := gd_t hf
        refine ms_2 S hC hD hK hP hS (inR_vp g2) rfl dX3_plain_12 (fun H locs hP hS => ?_)
        refine lv_iinc (v := (x1 + 1)) (lv' := [(1, .int (x1 + 1)), (0, .ref (ad 2))]) hx hb dX3_plain_13 hl (k := 1) rfl rfl (by decide) rfl (fun ls hl => ?_)
        refine lv_goto (tgt := 2) hx hb dX3_plain_16 (by decide) ?_
        exact (ih) (x1 + 1) (upd rd x1.toNatClampNeg 0) ls H locs hP hS (lv_sub (l' := [(0, .ref (ad 2)), (1, .int (x1 + 1))]) hl [1, 0] rfl) hf
  suffices hg : ∀ (H : Heap) (locs : List Loc), va_P D cl (mW mi cI cJ cB o ad th tp st fk fp ac si fr tt kd nu fa pl fo wd ci gr lm om nw rd aa kp ta nm rn gv gt rw rh lg lh ou) H → va_S (mA o ad) s.heap H locs → W p l e (rM 0 0) s m ([.ref (ad 2)] : List Value).toArray below meth c H locs 0 0 (MQ below (gQ D cl none True (mW mi cI cJ cB o ad th tp st fk fp ac si fr tt kd nu fa pl fo wd ci gr lm om nw out aa kp ta nm rn gv gt rw rh lg lh ou) (mA o ad)) ([.ref (ad 2)] : List Value).toArray s 0 0 (mA o ad)) (F0 m 0 ls []) from hg s.heap [] hP va_S.rf
  clear hP
  intro H locs hP hS
  rw [f_X3_plain_rd] at hf
  refine lv_iconst hx hb dX3_plain_0 kc_i0 ?_
  refine lv_istore_n (i := 1) (lv' := [(1, .int 0), (0, .ref (ad 2))]) hx hb dX3_plain_1 rfl hl (by decide) rfl (fun ls hl => ?_)
  exact (w2 FU) 0 rd ls H locs hP hS (lv_sub (l' := [(0, .ref (ad 2)), (1, .int 0)]) hl [1, 0] rfl) hf
set_option maxRecDepth 100000 in
theorem mc_X3_X3_plain_rd  {out : (Nat → Int32)} (S : CallFix p m c cc nL s args lw_all RX3) (hC : mC cl tys mi cI cJ cB) (hD : mD o ad) (hK : va_K D cl tys s) (hP : va_P D cl (mW mi cI cJ cB o ad th tp st fk fp ac si fr tt kd nu fa pl fo wd ci gr lm om nw rd aa kp ta nm rn gv gt rw rh lg lh ou) H) (hS : va_S (mA o ad) H0 H locs) (hf : f_X3_plain_rd rd = some out) (hsz : ls.size = nL) (hR : 0 + 1 ≤ R.frames ∧ 8 + (2 + 11) + 0 ≤ R.locals) (hW : (rest.map fun v => v.category).sum ≤ 8) (hcs : cells ≤ R.cells ∧ slots ≤ R.slots) (hdg : decode cc pc = .ok (.invokestatic 61, 3)) (kk : ∀ (H1 : Heap) (locs1 : List Loc), True → va_P D cl (mW mi cI cJ cB o ad th tp st fk fp ac si fr tt kd nu fa pl fo wd ci gr lm om nw out aa kp ta nm rn gv gt rw rh lg lh ou) H1 → va_S (mA o ad) H0 H1 locs1 → W p l e R s m args below meth c H1 locs1 cells slots Q (F0 m (pc + 3) ls (rest))) : W p l e R s m args below meth c H locs cells slots Q (F0 m pc ls (.ref (ad 2) :: rest)) :=
  gc_Sv (As := [.ref (ad 2)]) S (mm_X3_plain_rd hC hD hf) (va_cwS 1 S.2.2.2.2 (lw_S q1993 q1994 q189 q1995) rfl rfl rfl hd_X3_plain hR) (gPreS hK hP) rfl hsz rfl hW hdg hcs hS kk
theorem hd_X3_byteAt : yX3_byteAt.cls = RX3 ∧ yX3_byteAt.cls ≠ "java/lang/invoke/MethodHandle" ∧ yX3_byteAt.cls ≠ "java/lang/invoke/VarHandle" ∧ (parseMethodDescriptor yX3_byteAt.desc).map (fun d => d.parameters.length) = some 1 := by decide +kernel
set_option maxHeartbeats 4000000 in
set_option maxRecDepth 100000 in
theorem mm_X3_byteAt {a0 : Int32} {out : Int32} (hC : mC cl tys mi cI cJ cB) (hf : f_X3_byteAt si ta a0 = some out) : Met l yX3_byteAt (ws_ yX3_byteAt cX3_byteAt 2 (some .int)) (rM 0 0) (gPc D cl tys [.ref o, .int a0] (mW mi cI cJ cB o ad th tp st fk fp ac si fr tt kd nu fa pl fo wd ci gr lm om nw rd aa kp ta nm rn gv gt rw rh lg lh ou)) (gR (some (.int out)) True) 0 0 (fun _ => False) := by
  refine gGo (by decide +kernel) (Nat.le_of_ble_eq_true rfl) (fun p e s m below meth c ls S hr hlocks hK hP hl => ?_)
  have S : CallFix p m c cX3_byteAt 2 s _ lw_all RX3 := S
  obtain ⟨hx, hb, hml, hown, hts⟩ := id S
  have hl : lv_has ls 2 [(0, .ref o), (1, .int a0)] := hl
  rw [f_X3_byteAt] at hf
  refine lv_iload_n hx hb dX3_byteAt_0 rfl (lv_at hl 1 rfl) ?_
  refine lv_aload_n hx hb dX3_byteAt_1 rfl (lv_at hl 0 rfl) ?_
  refine mg_13 S hC hK hP dX3_byteAt_2 ?_
  refine lv_icmp_ge (tgt := 17) hx hb dX3_byteAt_5 (by decide) (fun c1 => ?_) (fun c1 => ?_)
  · replace hf := it_t c1 hf
    refine lv_iconst hx hb dX3_byteAt_17 kc_im1 ?_
    have hE := Option.some.inj hf
    subst hE
    exact gt_ri S hr hlocks trivial dX3_byteAt_18
  · replace hf := it_f c1 hf
    refine lv_aload_n hx hb dX3_byteAt_8 rfl (lv_at hl 0 rfl) ?_
    refine mg_5 S hC hK hP dX3_byteAt_9 ?_
    refine lv_iload_n hx hb dX3_byteAt_12 rfl (lv_at hl 1 rfl) ?_
    obtain ⟨g2, hf⟩ := gd_t hf
    refine ma_5 S hC hK hP (inR_vp g2) rfl dX3_byteAt_13 ?_
    refine lv_goto (tgt := 18) hx hb dX3_byteAt_14 (by decide) ?_
    have hE := Option.some.inj hf
    subst hE
    exact gt_ri S hr hlocks trivial dX3_byteAt_18
set_option maxRecDepth 100000 in
theorem mc_X3_X3_byteAt {a0 : Int32} {out : Int32} (S : CallFix p m c cc nL s args lw_all RX3) (hC : mC cl tys mi cI cJ cB) (hK : va_K D cl tys s) (hP : va_P D cl (mW mi cI cJ cB o ad th tp st fk fp ac si fr tt kd nu fa pl fo wd ci gr lm om nw rd aa kp ta nm rn gv gt rw rh lg lh ou) H) (hf : f_X3_byteAt si ta a0 = some out) (hsz : ls.size = nL) (hR : 0 + 1 ≤ R.frames ∧ 8 + (2 + 11) + 0 ≤ R.locals) (hW : (rest.map fun v => v.category).sum ≤ 8) (hcs : cells ≤ R.cells ∧ slots ≤ R.slots) (hdg : decode cc pc = .ok (.invokevirtual 92, 3)) (kk : True → W p l e R s m args below meth c H locs cells slots Q (F0 m (pc + 3) ls (.int out :: rest))) : W p l e R s m args below meth c H locs cells slots Q (F0 m pc ls (.int a0 :: .ref o :: rest)) :=
  gc_Vr (As := [.int a0]) S (mm_X3_byteAt hC hf) (cwV 1 S.2.2.2.2 (lw_V q2127 q2129 qs96 q189 q2130) rfl rfl rfl hd_X3_byteAt hR) (gPreV hK hP hC.1 (q0 := 0) rfl) rfl hsz rfl hW hdg hcs kk
theorem hd_X3_isLetter : yX3_isLetter.cls ≠ "java/lang/invoke/MethodHandle" ∧ yX3_isLetter.cls ≠ "java/lang/invoke/VarHandle" ∧ (parseMethodDescriptor yX3_isLetter.desc).map (fun d => d.parameters.length) = some 1 := by decide +kernel
set_option maxHeartbeats 4000000 in
set_option maxRecDepth 100000 in
theorem mm_X3_isLetter {a0 : Int32} {out : Int32} (hf : f_X3_isLetter a0 = some out) : Met l yX3_isLetter (ws_ yX3_isLetter cX3_isLetter 1 (some .boolean)) (rM 0 0) (gPc D cl tys [.int a0] []) (gR (some (.int out)) (narrow .boolean (.int out) = .int out)) 0 0 (fun _ => False) := by
  refine gGo (by decide +kernel) (Nat.le_of_ble_eq_true rfl) (fun p e s m below meth c ls S hr hlocks hK hP hl => ?_)
  have S : CallFix p m c cX3_isLetter 1 s _ lw_all RX3 := S
  obtain ⟨hx, hb, hml, hown, hts⟩ := id S
  have hl : lv_has ls 1 [(0, .int a0)] := hl
  rw [f_X3_isLetter] at hf
  refine lv_iload_n hx hb dX3_isLetter_0 rfl (lv_at hl 0 rfl) ?_
  refine lv_bipush hx hb dX3_isLetter_1 kc_b97 ?_
  refine lv_icmp_lt (tgt := 16) hx hb dX3_isLetter_3 (by decide) (fun c1 => ?_) (fun c1 => ?_)
  · replace hf := it_t c1 hf
    refine lv_iconst hx hb dX3_isLetter_16 kc_i0 ?_
    have hE := Option.some.inj hf
    subst hE
    exact gt_rz S hr hlocks nb0 dX3_isLetter_17
  · replace hf := it_f c1 hf
    refine lv_iload_n hx hb dX3_isLetter_6 rfl (lv_at hl 0 rfl) ?_
    refine lv_bipush hx hb dX3_isLetter_7 kc_b122 ?_
    refine lv_icmp_gt (tgt := 16) hx hb dX3_isLetter_9 (by decide) (fun c2 => ?_) (fun c2 => ?_)
    · replace hf := it_t c2 hf
      refine lv_iconst hx hb dX3_isLetter_16 kc_i0 ?_
      have hE := Option.some.inj hf
      subst hE
      exact gt_rz S hr hlocks nb0 dX3_isLetter_17
    · replace hf := it_f c2 hf
      refine lv_iconst hx hb dX3_isLetter_12 kc_i1 ?_
      refine lv_goto (tgt := 17) hx hb dX3_isLetter_13 (by decide) ?_
      have hE := Option.some.inj hf
      subst hE
      exact gt_rz S hr hlocks nb1 dX3_isLetter_17
set_option maxRecDepth 100000 in
theorem mc_X3_X3_isLetter {a0 : Int32} {out : Int32} (S : CallFix p m c cc nL s args lw_all RX3) (hK : va_K D cl tys s) (hf : f_X3_isLetter a0 = some out) (hsz : ls.size = nL) (hR : 0 + 1 ≤ R.frames ∧ 8 + (1 + 11) + 0 ≤ R.locals) (hW : (rest.map fun v => v.category).sum ≤ 8) (hcs : cells ≤ R.cells ∧ slots ≤ R.slots) (hdg : decode cc pc = .ok (.invokestatic 102, 3)) (kk : (narrow .boolean (.int out) = .int out) → W p l e R s m args below meth c H locs cells slots Q (F0 m (pc + 3) ls (.int out :: rest))) : W p l e R s m args below meth c H locs cells slots Q (F0 m pc ls (.int a0 :: rest)) :=
  gc_Sr (As := [.int a0]) S (mm_X3_isLetter hf) (va_cwS 1 S.2.2.2.2 (lw_S q2131 q2132 q189 q2133) rfl rfl rfl hd_X3_isLetter hR) (gPreS hK gP0) rfl hsz rfl hW hdg hcs kk
theorem hd_X3_isDigit : yX3_isDigit.cls ≠ "java/lang/invoke/MethodHandle" ∧ yX3_isDigit.cls ≠ "java/lang/invoke/VarHandle" ∧ (parseMethodDescriptor yX3_isDigit.desc).map (fun d => d.parameters.length) = some 1 := by decide +kernel
set_option maxHeartbeats 4000000 in
set_option maxRecDepth 100000 in
theorem mm_X3_isDigit {a0 : Int32} {out : Int32} (hf : f_X3_isDigit a0 = some out) : Met l yX3_isDigit (ws_ yX3_isDigit cX3_isDigit 1 (some .boolean)) (rM 0 0) (gPc D cl tys [.int a0] []) (gR (some (.int out)) (narrow .boolean (.int out) = .int out)) 0 0 (fun _ => False) := by
  refine gGo (by decide +kernel) (Nat.le_of_ble_eq_true rfl) (fun p e s m below meth c ls S hr hlocks hK hP hl => ?_)
  have S : CallFix p m c cX3_isDigit 1 s _ lw_all RX3 := S
  obtain ⟨hx, hb, hml, hown, hts⟩ := id S
  have hl : lv_has ls 1 [(0, .int a0)] := hl
  rw [f_X3_isDigit] at hf
  refine lv_iload_n hx hb dX3_isDigit_0 rfl (lv_at hl 0 rfl) ?_
  refine lv_bipush hx hb dX3_isDigit_1 kc_b48 ?_
  refine lv_icmp_lt (tgt := 16) hx hb dX3_isDigit_3 (by decide) (fun c1 => ?_) (fun c1 => ?_)
  · replace hf := it_t c1 hf
    refine lv_iconst hx hb dX3_isDigit_16 kc_i0 ?_
    have hE := Option.some.inj hf
    subst hE
    exact gt_rz S hr hlocks nb0 dX3_isDigit_17
  · replace hf := it_f c1 hf
    refine lv_iload_n hx hb dX3_isDigit_6 rfl (lv_at hl 0 rfl) ?_
    refine lv_bipush hx hb dX3_isDigit_7 kc_b57 ?_
    refine lv_icmp_gt (tgt := 16) hx hb dX3_isDigit_9 (by decide) (fun c2 => ?_) (fun c2 => ?_)
    · replace hf := it_t c2 hf
      refine lv_iconst hx hb dX3_isDigit_16 kc_i0 ?_
      have hE := Option.some.inj hf
      subst hE
      exact gt_rz S hr hlocks nb0 dX3_isDigit_17
    · replace hf := it_f c2 hf
      refine lv_iconst hx hb dX3_isDigit_12 kc_i1 ?_
      refine lv_goto (tgt := 17) hx hb dX3_isDigit_13 (by decide) ?_
      have hE := Option.some.inj hf
      subst hE
      exact gt_rz S hr hlocks nb1 dX3_isDigit_17
set_option maxRecDepth 100000 in
theorem mc_X3_X3_isDigit {a0 : Int32} {out : Int32} (S : CallFix p m c cc nL s args lw_all RX3) (hK : va_K D cl tys s) (hf : f_X3_isDigit a0 = some out) (hsz : ls.size = nL) (hR : 0 + 1 ≤ R.frames ∧ 8 + (1 + 11) + 0 ≤ R.locals) (hW : (rest.map fun v => v.category).sum ≤ 8) (hcs : cells ≤ R.cells ∧ slots ≤ R.slots) (hdg : decode cc pc = .ok (.invokestatic 112, 3)) (kk : (narrow .boolean (.int out) = .int out) → W p l e R s m args below meth c H locs cells slots Q (F0 m (pc + 3) ls (.int out :: rest))) : W p l e R s m args below meth c H locs cells slots Q (F0 m pc ls (.int a0 :: rest)) :=
  gc_Sr (As := [.int a0]) S (mm_X3_isDigit hf) (va_cwS 1 S.2.2.2.2 (lw_S q2135 q2136 q189 q2137) rfl rfl rfl hd_X3_isDigit hR) (gPreS hK gP0) rfl hsz rfl hW hdg hcs kk
theorem hd_X3_go : yX3_go.cls = RX3 ∧ yX3_go.cls ≠ "java/lang/invoke/MethodHandle" ∧ yX3_go.cls ≠ "java/lang/invoke/VarHandle" ∧ (parseMethodDescriptor yX3_go.desc).map (fun d => d.parameters.length) = some 0 := by decide +kernel
set_option maxHeartbeats 4000000 in
set_option maxRecDepth 100000 in
theorem mm_X3_go  {out : Int32 × Int32 × Int32 × Int32 × Int64} (hC : mC cl tys mi cI cJ cB) (hD : mD o ad) (hf : f_X3_go si ta fr tt kd nu wd = some out) : Met l yX3_go (ws_ yX3_go cX3_go 2 none) (rM 1 21) (gPc D cl tys [.ref o] (mW mi cI cJ cB o ad th tp st fk fp ac si fr tt kd nu fa pl fo wd ci gr lm om nw rd aa kp ta nm rn gv gt rw rh lg lh ou)) (gQ D cl none True (mW mi cI cJ cB o ad th tp st fk fp ac si out.1 out.2.1 out.2.2.1 out.2.2.2.1 fa pl fo out.2.2.2.2 ci gr lm om nw rd aa kp ta nm rn gv gt rw rh lg lh ou) (mA o ad)) 0 0 (mA o ad) := by
  refine gGo (by decide +kernel) (Nat.le_of_ble_eq_true rfl) (fun p e s m below meth c ls S hr hlocks hK hP hl => ?_)
  have S : CallFix p m c cX3_go 2 s _ lw_all RX3 := S
  obtain ⟨hx, hb, hml, hown, hts⟩ := id S
  have hl : lv_has ls 2 [(0, .ref o)] := hl
  have w26 : ∀ (k0 : Int32 → Int32 → Int32 → Int32 → Int64 → Option (Int32 × Int32 × Int32 × Int32 × Int64)), (∀ (b0 : Int32) (b1 : Int32) (b2 : Int32) (b3 : Int32) (b4 : Int64) (ls : Array Slot) (H : Heap) (locs : List Loc), va_P D cl (mW mi cI cJ cB o ad th tp st fk fp ac si b0 b1 b2 b3 fa pl fo b4 ci gr lm om nw rd aa kp ta nm rn gv gt rw rh lg lh ou) H → va_S (mA o ad) s.heap H locs → lv_has ls 2 [(0, .ref o)] → k0 b0 b1 b2 b3 b4 = some out → W p l e (rM 1 21) s m ([.ref o] : List Value).toArray below meth c H locs 0 0 (MQ below (gQ D cl none True (mW mi cI cJ cB o ad th tp st fk fp ac si out.1 out.2.1 out.2.2.1 out.2.2.2.1 fa pl fo out.2.2.2.2 ci gr lm om nw rd aa kp ta nm rn gv gt rw rh lg lh ou) (mA o ad)) ([.ref o] : List Value).toArray s 0 0 (mA o ad)) (F0 m 0 ls [])) → ∀ (fr : Int32) (tt : Int32) (kd : Int32) (nu : Int32) (wd : Int64) (ls : Array Slot) (H : Heap) (locs : List Loc), va_P D cl (mW mi cI cJ cB o ad th tp st fk fp ac si fr tt kd nu fa pl fo wd ci gr lm om nw rd aa kp ta nm rn gv gt rw rh lg lh ou) H → va_S (mA o ad) s.heap H locs → lv_has ls 2 [(0, .ref o)] → f_X3_go_26 k0 si ta fr tt kd nu wd = some out → W p l e (rM 1 21) s m ([.ref o] : List Value).toArray below meth c H locs 0 0 (MQ below (gQ D cl none True (mW mi cI cJ cB o ad th tp st fk fp ac si out.1 out.2.1 out.2.2.1 out.2.2.2.1 fa pl fo out.2.2.2.2 ci gr lm om nw rd aa kp ta nm rn gv gt rw rh lg lh ou) (mA o ad)) ([.ref o] : List Value).toArray s 0 0 (mA o ad)) (F0 m 26 ls []) := by
    intro k0 hk0 fr tt kd nu wd ls H locs hP hS hl hf
    rw [f_X3_go_26] at hf
    refine lv_aload_n hx hb dX3_go_26 rfl (lv_at hl 0 rfl) ?_
    refine lv_dup hx hb dX3_go_27 rfl ?_
    refine mg_15 S hC hK hP dX3_go_28 ?_
    refine lv_iconst hx hb dX3_go_31 kc_i1 ?_
    refine lv_iadd hx hb dX3_go_32 ?_
    refine mp_15 S hC hD hK hP hS dX3_go_33 (fun H locs hP hS => ?_)
    refine lv_goto (tgt := 0) hx hb dX3_go_36 (by decide) ?_
    exact hk0 fr (tt + 1) kd nu wd ls H locs hP hS hl hf
  have w133 : ∀ (k81 : Int32 → Int32 → Int32 → Int32 → Int64 → Option (Int32 × Int32 × Int32 × Int32 × Int64)), (∀ (b0 : Int32) (b1 : Int32) (b2 : Int32) (b3 : Int32) (b4 : Int64) (ls : Array Slot) (H : Heap) (locs : List Loc), va_P D cl (mW mi cI cJ cB o ad th tp st fk fp ac si b0 b1 b2 b3 fa pl fo b4 ci gr lm om nw rd aa kp ta nm rn gv gt rw rh lg lh ou) H → va_S (mA o ad) s.heap H locs → lv_has ls 2 [(0, .ref o)] → k81 b0 b1 b2 b3 b4 = some out → W p l e (rM 1 21) s m ([.ref o] : List Value).toArray below meth c H locs 0 0 (MQ below (gQ D cl none True (mW mi cI cJ cB o ad th tp st fk fp ac si out.1 out.2.1 out.2.2.1 out.2.2.2.1 fa pl fo out.2.2.2.2 ci gr lm om nw rd aa kp ta nm rn gv gt rw rh lg lh ou) (mA o ad)) ([.ref o] : List Value).toArray s 0 0 (mA o ad)) (F0 m 81 ls [])) → ∀ (fr : Int32) (tt : Int32) (kd : Int32) (nu : Int32) (wd : Int64) (ls : Array Slot) (H : Heap) (locs : List Loc), va_P D cl (mW mi cI cJ cB o ad th tp st fk fp ac si fr tt kd nu fa pl fo wd ci gr lm om nw rd aa kp ta nm rn gv gt rw rh lg lh ou) H → va_S (mA o ad) s.heap H locs → lv_has ls 2 [(0, .ref o)] → f_X3_go_133 k81 si ta fr tt kd nu wd = some out → W p l e (rM 1 21) s m ([.ref o] : List Value).toArray below meth c H locs 0 0 (MQ below (gQ D cl none True (mW mi cI cJ cB o ad th tp st fk fp ac si out.1 out.2.1 out.2.2.1 out.2.2.2.1 fa pl fo out.2.2.2.2 ci gr lm om nw rd aa kp ta nm rn gv gt rw rh lg lh ou) (mA o ad)) ([.ref o] : List Value).toArray s 0 0 (mA o ad)) (F0 m 133 ls []) := by
    intro k81 hk81 fr tt kd nu wd ls H locs hP hS hl hf
    rw [f_X3_go_133] at hf
    refine lv_aload_n hx hb dX3_go_133 rfl (lv_at hl 0 rfl) ?_
    refine lv_dup hx hb dX3_go_134 rfl ?_
    refine mg_15 S hC hK hP dX3_go_135 ?_
    refine lv_iconst hx hb dX3_go_138 kc_i1 ?_
    refine lv_iadd hx hb dX3_go_139 ?_
    refine mp_15 S hC hD hK hP hS dX3_go_140 (fun H locs hP hS => ?_)
    refine lv_goto (tgt := 81) hx hb dX3_go_143 (by decide) ?_
    exact hk81 fr (tt + 1) kd nu wd ls H locs hP hS hl hf
  have w166 : ∀ (y1 : Int32) (fr : Int32) (tt : Int32) (kd : Int32) (nu : Int32) (wd : Int64) (ls : Array Slot) (H : Heap) (locs : List Loc), va_P D cl (mW mi cI cJ cB o ad th tp st fk fp ac si fr tt kd nu fa pl fo wd ci gr lm om nw rd aa kp ta nm rn gv gt rw rh lg lh ou) H → va_S (mA o ad) s.heap H locs → lv_has ls 2 [] → f_X3_go_166 si ta y1 fr tt kd nu wd = some out → W p l e (rM 1 21) s m ([.ref o] : List Value).toArray below meth c H locs 0 0 (MQ below (gQ D cl none True (mW mi cI cJ cB o ad th tp st fk fp ac si out.1 out.2.1 out.2.2.1 out.2.2.2.1 fa pl fo out.2.2.2.2 ci gr lm om nw rd aa kp ta nm rn gv gt rw rh lg lh ou) (mA o ad)) ([.ref o] : List Value).toArray s 0 0 (mA o ad)) (F0 m 166 ls [.int y1, .ref o]) := by
    intro y1 fr tt kd nu wd ls H locs hP hS hl hf
    rw [f_X3_go_166] at hf
    refine mp_16 S hC hD hK hP hS dX3_go_166 (fun H locs hP hS => ?_)
    refine lv_goto (tgt := 297) hx hb dX3_go_169 (by decide) ?_
    have hE := Option.some.inj hf
    subst hE
    exact gt_wv S hr hlocks trivial hP hS dX3_go_297
  have w81 : ∀ (n : Nat) , ∀ (fr : Int32) (tt : Int32) (kd : Int32) (nu : Int32) (wd : Int64) (ls : Array Slot) (H : Heap) (locs : List Loc), va_P D cl (mW mi cI cJ cB o ad th tp st fk fp ac si fr tt kd nu fa pl fo wd ci gr lm om nw rd aa kp ta nm rn gv gt rw rh lg lh ou) H → va_S (mA o ad) s.heap H locs → lv_has ls 2 [(0, .ref o)] → f_X3_go_81 n si ta fr tt kd nu wd = some out → W p l e (rM 1 21) s m ([.ref o] : List Value).toArray below meth c H locs 0 0 (MQ below (gQ D cl none True (mW mi cI cJ cB o ad th tp st fk fp ac si out.1 out.2.1 out.2.2.1 out.2.2.2.1 fa pl fo out.2.2.2.2 ci gr lm om nw rd aa kp ta nm rn gv gt rw rh lg lh ou) (mA o ad)) ([.ref o] : List Value).toArray s 0 0 (mA o ad)) (F0 m 81 ls []) := by
    intro n
    induction n with
    | zero =>
      intro fr tt kd nu wd ls H locs hP hS hl hf
      exact absurd hf (by rw [f_X3_go_81]; exact nofun)
    | succ n ih =>
      intro fr tt kd nu wd ls H locs hP hS hl hf
      rw [f_X3_go_81] at hf
      refine lv_aload_n hx hb dX3_go_81 rfl (lv_at hl 0 rfl) ?_
      refine lv_aload_n hx hb dX3_go_82 rfl (lv_at hl 0 rfl) ?_
      refine mg_15 S hC hK hP dX3_go_83 ?_
      obtain ⟨v1, hv1, hf⟩ := ob_s hf
      refine mc_X3_X3_byteAt S hC hK hP hv1 hl.1 ⟨Nat.le_of_ble_eq_true rfl, Nat.le_of_ble_eq_true rfl⟩ (Nat.le_of_ble_eq_true rfl) ⟨Nat.zero_le _, Nat.zero_le _⟩ dX3_go_86 (fun _ => ?_)
      obtain ⟨v2, hv2, hf⟩ := ob_s hf
      refine mc_X3_X3_isLetter S hK hv2 hl.1 ⟨Nat.le_of_ble_eq_true rfl, Nat.le_of_ble_eq_true rfl⟩ (Nat.le_of_ble_eq_true rfl) ⟨Nat.zero_le _, Nat.zero_le _⟩ dX3_go_89 (fun hnv2 => ?_)
      refine lv_if_eq (tgt := 146) hx hb dX3_go_92 (by decide) (fun c3 => ?_) (fun c3 => ?_)
      · replace hf := it_t c3 hf
        refine lv_aload_n hx hb dX3_go_146 rfl (lv_at hl 0 rfl) ?_
        refine lv_aload_n hx hb dX3_go_147 rfl (lv_at hl 0 rfl) ?_
        refine mg_15 S hC hK hP dX3_go_148 ?_
        refine lv_aload_n hx hb dX3_go_151 rfl (lv_at hl 0 rfl) ?_
        refine mg_14 S hC hK hP dX3_go_152 ?_
        refine lv_isub hx hb dX3_go_155 ?_
        refine lv_bipush hx hb dX3_go_156 kc_b8 ?_
        refine lv_icmp_le (tgt := 165) hx hb dX3_go_158 (by decide) (fun c4 => ?_) (fun c4 => ?_)
        · replace hf := it_t c4 hf
          refine lv_iconst hx hb dX3_go_165 kc_i2 ?_
          exact (w166) (nI 2) fr tt kd nu wd ls H locs hP hS (lv_sub (l' := []) hl [] rfl) hf
        · replace hf := it_f c4 hf
          refine lv_iconst hx hb dX3_go_161 kc_i1 ?_
          refine lv_goto (tgt := 166) hx hb dX3_go_162 (by decide) ?_
          exact (w166) 1 fr tt kd nu wd ls H locs hP hS (lv_sub (l' := []) hl [] rfl) hf
      · replace hf := it_f c3 hf
        refine lv_aload_n hx hb dX3_go_95 rfl (lv_at hl 0 rfl) ?_
        refine mg_15 S hC hK hP dX3_go_96 ?_
        refine lv_aload_n hx hb dX3_go_99 rfl (lv_at hl 0 rfl) ?_
        refine mg_14 S hC hK hP dX3_go_100 ?_
        refine lv_isub hx hb dX3_go_103 ?_
        refine lv_bipush hx hb dX3_go_104 kc_b8 ?_
        refine lv_icmp_ge (tgt := 133) hx hb dX3_go_106 (by decide) (fun c5 => ?_) (fun c5 => ?_)
        · replace hf := it_t c5 hf
          exact (w133 (f_X3_go_81 n si ta) (ih)) fr tt kd nu wd ls H locs hP hS hl hf
        · replace hf := it_f c5 hf
          refine lv_aload_n hx hb dX3_go_109 rfl (lv_at hl 0 rfl) ?_
          refine lv_aload_n hx hb dX3_go_110 rfl (lv_at hl 0 rfl) ?_
          refine mg_21 S hC hK hP dX3_go_111 ?_
          refine lv_iconst hx hb dX3_go_114 kc_i5 ?_
          refine lv_lshl hx hb dX3_go_115 rfl ?_
          refine lv_aload_n hx hb dX3_go_116 rfl (lv_at hl 0 rfl) ?_
          refine lv_aload_n hx hb dX3_go_117 rfl (lv_at hl 0 rfl) ?_
          refine mg_15 S hC hK hP dX3_go_118 ?_
          obtain ⟨v6, hv6, hf⟩ := ob_s hf
          refine mc_X3_X3_byteAt S hC hK hP hv6 hl.1 ⟨Nat.le_of_ble_eq_true rfl, Nat.le_of_ble_eq_true rfl⟩ (Nat.le_of_ble_eq_true rfl) ⟨Nat.zero_le _, Nat.zero_le _⟩ dX3_go_121 (fun _ => ?_)
          refine lv_i2l hx hb dX3_go_124 rfl ?_
          refine lv_ldc2 hx hb hown (hts _ q2134) dX3_go_125 ?_
          refine lv_lsub hx hb dX3_go_128 ?_
          refine lv_lor hx hb dX3_go_129 ?_
          refine mp_21 S hC hD hK hP hS dX3_go_130 (fun H locs hP hS => ?_)
          exact (w133 (f_X3_go_81 n si ta) (ih)) fr tt kd nu ((wd <<< (((nI 5) : Int32).toInt64 &&& 63)) ||| (v6.toInt64 - 96)) ls H locs hP hS hl hf
  have w234 : ∀ (k184 : Int32 → Int32 → Int32 → Int32 → Int64 → Option (Int32 × Int32 × Int32 × Int32 × Int64)), (∀ (b0 : Int32) (b1 : Int32) (b2 : Int32) (b3 : Int32) (b4 : Int64) (ls : Array Slot) (H : Heap) (locs : List Loc), va_P D cl (mW mi cI cJ cB o ad th tp st fk fp ac si b0 b1 b2 b3 fa pl fo b4 ci gr lm om nw rd aa kp ta nm rn gv gt rw rh lg lh ou) H → va_S (mA o ad) s.heap H locs → lv_has ls 2 [(0, .ref o)] → k184 b0 b1 b2 b3 b4 = some out → W p l e (rM 1 21) s m ([.ref o] : List Value).toArray below meth c H locs 0 0 (MQ below (gQ D cl none True (mW mi cI cJ cB o ad th tp st fk fp ac si out.1 out.2.1 out.2.2.1 out.2.2.2.1 fa pl fo out.2.2.2.2 ci gr lm om nw rd aa kp ta nm rn gv gt rw rh lg lh ou) (mA o ad)) ([.ref o] : List Value).toArray s 0 0 (mA o ad)) (F0 m 184 ls [])) → ∀ (fr : Int32) (tt : Int32) (kd : Int32) (nu : Int32) (wd : Int64) (ls : Array Slot) (H : Heap) (locs : List Loc), va_P D cl (mW mi cI cJ cB o ad th tp st fk fp ac si fr tt kd nu fa pl fo wd ci gr lm om nw rd aa kp ta nm rn gv gt rw rh lg lh ou) H → va_S (mA o ad) s.heap H locs → lv_has ls 2 [(0, .ref o)] → f_X3_go_234 k184 si ta fr tt kd nu wd = some out → W p l e (rM 1 21) s m ([.ref o] : List Value).toArray below meth c H locs 0 0 (MQ below (gQ D cl none True (mW mi cI cJ cB o ad th tp st fk fp ac si out.1 out.2.1 out.2.2.1 out.2.2.2.1 fa pl fo out.2.2.2.2 ci gr lm om nw rd aa kp ta nm rn gv gt rw rh lg lh ou) (mA o ad)) ([.ref o] : List Value).toArray s 0 0 (mA o ad)) (F0 m 234 ls []) := by
    intro k184 hk184 fr tt kd nu wd ls H locs hP hS hl hf
    rw [f_X3_go_234] at hf
    refine lv_aload_n hx hb dX3_go_234 rfl (lv_at hl 0 rfl) ?_
    refine lv_dup hx hb dX3_go_235 rfl ?_
    refine mg_15 S hC hK hP dX3_go_236 ?_
    refine lv_iconst hx hb dX3_go_239 kc_i1 ?_
    refine lv_iadd hx hb dX3_go_240 ?_
    refine mp_15 S hC hD hK hP hS dX3_go_241 (fun H locs hP hS => ?_)
    refine lv_goto (tgt := 184) hx hb dX3_go_244 (by decide) ?_
    exact hk184 fr (tt + 1) kd nu wd ls H locs hP hS hl hf
  have w266 : ∀ (y1 : Int32) (fr : Int32) (tt : Int32) (kd : Int32) (nu : Int32) (wd : Int64) (ls : Array Slot) (H : Heap) (locs : List Loc), va_P D cl (mW mi cI cJ cB o ad th tp st fk fp ac si fr tt kd nu fa pl fo wd ci gr lm om nw rd aa kp ta nm rn gv gt rw rh lg lh ou) H → va_S (mA o ad) s.heap H locs → lv_has ls 2 [] → f_X3_go_266 si ta y1 fr tt kd nu wd = some out → W p l e (rM 1 21) s m ([.ref o] : List Value).toArray below meth c H locs 0 0 (MQ below (gQ D cl none True (mW mi cI cJ cB o ad th tp st fk fp ac si out.1 out.2.1 out.2.2.1 out.2.2.2.1 fa pl fo out.2.2.2.2 ci gr lm om nw rd aa kp ta nm rn gv gt rw rh lg lh ou) (mA o ad)) ([.ref o] : List Value).toArray s 0 0 (mA o ad)) (F0 m 266 ls [.int y1, .ref o]) := by
    intro y1 fr tt kd nu wd ls H locs hP hS hl hf
    rw [f_X3_go_266] at hf
    refine mp_16 S hC hD hK hP hS dX3_go_266 (fun H locs hP hS => ?_)
    refine lv_goto (tgt := 297) hx hb dX3_go_269 (by decide) ?_
    have hE := Option.some.inj hf
    subst hE
    exact gt_wv S hr hlocks trivial hP hS dX3_go_297
  have w184 : ∀ (n : Nat) , ∀ (fr : Int32) (tt : Int32) (kd : Int32) (nu : Int32) (wd : Int64) (ls : Array Slot) (H : Heap) (locs : List Loc), va_P D cl (mW mi cI cJ cB o ad th tp st fk fp ac si fr tt kd nu fa pl fo wd ci gr lm om nw rd aa kp ta nm rn gv gt rw rh lg lh ou) H → va_S (mA o ad) s.heap H locs → lv_has ls 2 [(0, .ref o)] → f_X3_go_184 n si ta fr tt kd nu wd = some out → W p l e (rM 1 21) s m ([.ref o] : List Value).toArray below meth c H locs 0 0 (MQ below (gQ D cl none True (mW mi cI cJ cB o ad th tp st fk fp ac si out.1 out.2.1 out.2.2.1 out.2.2.2.1 fa pl fo out.2.2.2.2 ci gr lm om nw rd aa kp ta nm rn gv gt rw rh lg lh ou) (mA o ad)) ([.ref o] : List Value).toArray s 0 0 (mA o ad)) (F0 m 184 ls []) := by
    intro n
    induction n with
    | zero =>
      intro fr tt kd nu wd ls H locs hP hS hl hf
      exact absurd hf (by rw [f_X3_go_184]; exact nofun)
    | succ n ih =>
      intro fr tt kd nu wd ls H locs hP hS hl hf
      rw [f_X3_go_184] at hf
      refine lv_aload_n hx hb dX3_go_184 rfl (lv_at hl 0 rfl) ?_
      refine lv_aload_n hx hb dX3_go_185 rfl (lv_at hl 0 rfl) ?_
      refine mg_15 S hC hK hP dX3_go_186 ?_
      obtain ⟨v1, hv1, hf⟩ := ob_s hf
      refine mc_X3_X3_byteAt S hC hK hP hv1 hl.1 ⟨Nat.le_of_ble_eq_true rfl, Nat.le_of_ble_eq_true rfl⟩ (Nat.le_of_ble_eq_true rfl) ⟨Nat.zero_le _, Nat.zero_le _⟩ dX3_go_189 (fun _ => ?_)
      obtain ⟨v2, hv2, hf⟩ := ob_s hf
      refine mc_X3_X3_isDigit S hK hv2 hl.1 ⟨Nat.le_of_ble_eq_true rfl, Nat.le_of_ble_eq_true rfl⟩ (Nat.le_of_ble_eq_true rfl) ⟨Nat.zero_le _, Nat.zero_le _⟩ dX3_go_192 (fun hnv2 => ?_)
      refine lv_if_eq (tgt := 247) hx hb dX3_go_195 (by decide) (fun c3 => ?_) (fun c3 => ?_)
      · replace hf := it_t c3 hf
        refine lv_aload_n hx hb dX3_go_247 rfl (lv_at hl 0 rfl) ?_
        refine lv_aload_n hx hb dX3_go_248 rfl (lv_at hl 0 rfl) ?_
        refine mg_15 S hC hK hP dX3_go_249 ?_
        refine lv_aload_n hx hb dX3_go_252 rfl (lv_at hl 0 rfl) ?_
        refine mg_14 S hC hK hP dX3_go_253 ?_
        refine lv_isub hx hb dX3_go_256 ?_
        refine lv_iconst hx hb dX3_go_257 kc_i3 ?_
        refine lv_icmp_le (tgt := 265) hx hb dX3_go_258 (by decide) (fun c4 => ?_) (fun c4 => ?_)
        · replace hf := it_t c4 hf
          refine lv_iconst hx hb dX3_go_265 kc_i3 ?_
          exact (w266) (nI 3) fr tt kd nu wd ls H locs hP hS (lv_sub (l' := []) hl [] rfl) hf
        · replace hf := it_f c4 hf
          refine lv_iconst hx hb dX3_go_261 kc_i1 ?_
          refine lv_goto (tgt := 266) hx hb dX3_go_262 (by decide) ?_
          exact (w266) 1 fr tt kd nu wd ls H locs hP hS (lv_sub (l' := []) hl [] rfl) hf
      · replace hf := it_f c3 hf
        refine lv_aload_n hx hb dX3_go_198 rfl (lv_at hl 0 rfl) ?_
        refine mg_15 S hC hK hP dX3_go_199 ?_
        refine lv_aload_n hx hb dX3_go_202 rfl (lv_at hl 0 rfl) ?_
        refine mg_14 S hC hK hP dX3_go_203 ?_
        refine lv_isub hx hb dX3_go_206 ?_
        refine lv_iconst hx hb dX3_go_207 kc_i3 ?_
        refine lv_icmp_ge (tgt := 234) hx hb dX3_go_208 (by decide) (fun c5 => ?_) (fun c5 => ?_)
        · replace hf := it_t c5 hf
          exact (w234 (f_X3_go_184 n si ta) (ih)) fr tt kd nu wd ls H locs hP hS hl hf
        · replace hf := it_f c5 hf
          refine lv_aload_n hx hb dX3_go_211 rfl (lv_at hl 0 rfl) ?_
          refine lv_bipush hx hb dX3_go_212 kc_b10 ?_
          refine lv_aload_n hx hb dX3_go_214 rfl (lv_at hl 0 rfl) ?_
          refine mg_17 S hC hK hP dX3_go_215 ?_
          refine lv_imul hx hb dX3_go_218 ?_
          refine lv_aload_n hx hb dX3_go_219 rfl (lv_at hl 0 rfl) ?_
          refine lv_aload_n hx hb dX3_go_220 rfl (lv_at hl 0 rfl) ?_
          refine mg_15 S hC hK hP dX3_go_221 ?_
          obtain ⟨v6, hv6, hf⟩ := ob_s hf
          refine mc_X3_X3_byteAt S hC hK hP hv6 hl.1 ⟨Nat.le_of_ble_eq_true rfl, Nat.le_of_ble_eq_true rfl⟩ (Nat.le_of_ble_eq_true rfl) ⟨Nat.zero_le _, Nat.zero_le _⟩ dX3_go_224 (fun _ => ?_)
          refine lv_iadd hx hb dX3_go_227 ?_
          refine lv_bipush hx hb dX3_go_228 kc_b48 ?_
          refine lv_isub hx hb dX3_go_230 ?_
          refine mp_17 S hC hD hK hP hS dX3_go_231 (fun H locs hP hS => ?_)
          exact (w234 (f_X3_go_184 n si ta) (ih)) fr tt kd ((((nI 10) * nu) + v6) - (nI 48)) wd ls H locs hP hS hl hf
  have w294 : ∀ (y1 : Int32) (fr : Int32) (tt : Int32) (kd : Int32) (nu : Int32) (wd : Int64) (ls : Array Slot) (H : Heap) (locs : List Loc), va_P D cl (mW mi cI cJ cB o ad th tp st fk fp ac si fr tt kd nu fa pl fo wd ci gr lm om nw rd aa kp ta nm rn gv gt rw rh lg lh ou) H → va_S (mA o ad) s.heap H locs → lv_has ls 2 [] → f_X3_go_294 si ta y1 fr tt kd nu wd = some out → W p l e (rM 1 21) s m ([.ref o] : List Value).toArray below meth c H locs 0 0 (MQ below (gQ D cl none True (mW mi cI cJ cB o ad th tp st fk fp ac si out.1 out.2.1 out.2.2.1 out.2.2.2.1 fa pl fo out.2.2.2.2 ci gr lm om nw rd aa kp ta nm rn gv gt rw rh lg lh ou) (mA o ad)) ([.ref o] : List Value).toArray s 0 0 (mA o ad)) (F0 m 294 ls [.int y1, .ref o]) := by
    intro y1 fr tt kd nu wd ls H locs hP hS hl hf
    rw [f_X3_go_294] at hf
    refine mp_16 S hC hD hK hP hS dX3_go_294 (fun H locs hP hS => ?_)
    have hE := Option.some.inj hf
    subst hE
    exact gt_wv S hr hlocks trivial hP hS dX3_go_297
  have w0 : ∀ (n : Nat) , ∀ (fr : Int32) (tt : Int32) (kd : Int32) (nu : Int32) (wd : Int64) (ls : Array Slot) (H : Heap) (locs : List Loc), va_P D cl (mW mi cI cJ cB o ad th tp st fk fp ac si fr tt kd nu fa pl fo wd ci gr lm om nw rd aa kp ta nm rn gv gt rw rh lg lh ou) H → va_S (mA o ad) s.heap H locs → lv_has ls 2 [(0, .ref o)] → f_X3_go_0 n si ta fr tt kd nu wd = some out → W p l e (rM 1 21) s m ([.ref o] : List Value).toArray below meth c H locs 0 0 (MQ below (gQ D cl none True (mW mi cI cJ cB o ad th tp st fk fp ac si out.1 out.2.1 out.2.2.1 out.2.2.2.1 fa pl fo out.2.2.2.2 ci gr lm om nw rd aa kp ta nm rn gv gt rw rh lg lh ou) (mA o ad)) ([.ref o] : List Value).toArray s 0 0 (mA o ad)) (F0 m 0 ls []) := by
    intro n
    induction n with
    | zero =>
      intro fr tt kd nu wd ls H locs hP hS hl hf
      exact absurd hf (by rw [f_X3_go_0]; exact nofun)
    | succ n ih =>
      intro fr tt kd nu wd ls H locs hP hS hl hf
      rw [f_X3_go_0] at hf
      refine lv_aload_n hx hb dX3_go_0 rfl (lv_at hl 0 rfl) ?_
      refine lv_aload_n hx hb dX3_go_1 rfl (lv_at hl 0 rfl) ?_
      refine mg_15 S hC hK hP dX3_go_2 ?_
      obtain ⟨v1, hv1, hf⟩ := ob_s hf
      refine mc_X3_X3_byteAt S hC hK hP hv1 hl.1 ⟨Nat.le_of_ble_eq_true rfl, Nat.le_of_ble_eq_true rfl⟩ (Nat.le_of_ble_eq_true rfl) ⟨Nat.zero_le _, Nat.zero_le _⟩ dX3_go_5 (fun _ => ?_)
      refine lv_bipush hx hb dX3_go_8 kc_b32 ?_
      refine lv_icmp_eq (tgt := 26) hx hb dX3_go_10 (by decide) (fun c2 => ?_) (fun c2 => ?_)
      · replace hf := it_t c2 hf
        exact (w26 (f_X3_go_0 n si ta) (ih)) fr tt kd nu wd ls H locs hP hS hl hf
      · replace hf := it_f c2 hf
        refine lv_aload_n hx hb dX3_go_13 rfl (lv_at hl 0 rfl) ?_
        refine lv_aload_n hx hb dX3_go_14 rfl (lv_at hl 0 rfl) ?_
        refine mg_15 S hC hK hP dX3_go_15 ?_
        obtain ⟨v3, hv3, hf⟩ := ob_s hf
        refine mc_X3_X3_byteAt S hC hK hP hv3 hl.1 ⟨Nat.le_of_ble_eq_true rfl, Nat.le_of_ble_eq_true rfl⟩ (Nat.le_of_ble_eq_true rfl) ⟨Nat.zero_le _, Nat.zero_le _⟩ dX3_go_18 (fun _ => ?_)
        refine lv_bipush hx hb dX3_go_21 kc_b10 ?_
        refine lv_icmp_ne (tgt := 39) hx hb dX3_go_23 (by decide) (fun c4 => ?_) (fun c4 => ?_)
        · replace hf := it_f c4 hf
          refine lv_aload_n hx hb dX3_go_39 rfl (lv_at hl 0 rfl) ?_
          refine lv_aload_n hx hb dX3_go_40 rfl (lv_at hl 0 rfl) ?_
          refine mg_15 S hC hK hP dX3_go_41 ?_
          refine mp_14 S hC hD hK hP hS dX3_go_44 (fun H locs hP hS => ?_)
          refine lv_aload_n hx hb dX3_go_47 rfl (lv_at hl 0 rfl) ?_
          refine lv_aload_n hx hb dX3_go_48 rfl (lv_at hl 0 rfl) ?_
          refine mg_15 S hC hK hP dX3_go_49 ?_
          obtain ⟨v5, hv5, hf⟩ := ob_s hf
          refine mc_X3_X3_byteAt S hC hK hP hv5 hl.1 ⟨Nat.le_of_ble_eq_true rfl, Nat.le_of_ble_eq_true rfl⟩ (Nat.le_of_ble_eq_true rfl) ⟨Nat.zero_le _, Nat.zero_le _⟩ dX3_go_52 (fun _ => ?_)
          refine lv_istore_n (i := 1) (lv' := [(1, .int v5), (0, .ref o)]) hx hb dX3_go_55 rfl hl (by decide) rfl (fun ls hl => ?_)
          refine lv_iload_n hx hb dX3_go_56 rfl (lv_at hl 0 rfl) ?_
          refine lv_iconst hx hb dX3_go_57 kc_im1 ?_
          refine lv_icmp_ne (tgt := 69) hx hb dX3_go_58 (by decide) (fun c6 => ?_) (fun c6 => ?_)
          · replace hf := it_f c6 hf
            refine lv_iload_n hx hb dX3_go_69 rfl (lv_at hl 0 rfl) ?_
            obtain ⟨v7, hv7, hf⟩ := ob_s hf
            refine mc_X3_X3_isLetter S hK hv7 hl.1 ⟨Nat.le_of_ble_eq_true rfl, Nat.le_of_ble_eq_true rfl⟩ (Nat.le_of_ble_eq_true rfl) ⟨Nat.zero_le _, Nat.zero_le _⟩ dX3_go_70 (fun hnv7 => ?_)
            refine lv_if_eq (tgt := 172) hx hb dX3_go_73 (by decide) (fun c8 => ?_) (fun c8 => ?_)
            · replace hf := it_t c8 hf
              refine lv_iload_n hx hb dX3_go_172 rfl (lv_at hl 0 rfl) ?_
              obtain ⟨v9, hv9, hf⟩ := ob_s hf
              refine mc_X3_X3_isDigit S hK hv9 hl.1 ⟨Nat.le_of_ble_eq_true rfl, Nat.le_of_ble_eq_true rfl⟩ (Nat.le_of_ble_eq_true rfl) ⟨Nat.zero_le _, Nat.zero_le _⟩ dX3_go_173 (fun hnv9 => ?_)
              refine lv_if_eq (tgt := 272) hx hb dX3_go_176 (by decide) (fun c10 => ?_) (fun c10 => ?_)
              · replace hf := it_t c10 hf
                refine lv_aload_n hx hb dX3_go_272 rfl (lv_at hl 1 rfl) ?_
                refine lv_dup hx hb dX3_go_273 rfl ?_
                refine mg_15 S hC hK hP dX3_go_274 ?_
                refine lv_iconst hx hb dX3_go_277 kc_i1 ?_
                refine lv_iadd hx hb dX3_go_278 ?_
                refine mp_15 S hC hD hK hP hS dX3_go_279 (fun H locs hP hS => ?_)
                refine lv_aload_n hx hb dX3_go_282 rfl (lv_at hl 1 rfl) ?_
                refine lv_iload_n hx hb dX3_go_283 rfl (lv_at hl 0 rfl) ?_
                refine lv_bipush hx hb dX3_go_284 kc_b59 ?_
                refine lv_icmp_ne (tgt := 293) hx hb dX3_go_286 (by decide) (fun c11 => ?_) (fun c11 => ?_)
                · replace hf := it_f c11 hf
                  refine lv_iconst hx hb dX3_go_293 kc_i1 ?_
                  exact (w294) 1 tt (tt + 1) kd nu wd ls H locs hP hS (lv_sub (l' := []) hl [] rfl) hf
                · replace hf := it_t c11 hf
                  refine lv_iconst hx hb dX3_go_289 kc_i4 ?_
                  refine lv_goto (tgt := 294) hx hb dX3_go_290 (by decide) ?_
                  exact (w294) (nI 4) tt (tt + 1) kd nu wd ls H locs hP hS (lv_sub (l' := []) hl [] rfl) hf
              · replace hf := it_f c10 hf
                refine lv_aload_n hx hb dX3_go_179 rfl (lv_at hl 1 rfl) ?_
                refine lv_iconst hx hb dX3_go_180 kc_i0 ?_
                refine mp_17 S hC hD hK hP hS dX3_go_181 (fun H locs hP hS => ?_)
                exact (w184 FU) tt tt kd 0 wd ls H locs hP hS (lv_sub (l' := [(0, .ref o)]) hl [1] rfl) hf
            · replace hf := it_f c8 hf
              refine lv_aload_n hx hb dX3_go_76 rfl (lv_at hl 1 rfl) ?_
              refine lv_lconst (v := 0) hx hb dX3_go_77 (by decide) ?_
              refine mp_21 S hC hD hK hP hS dX3_go_78 (fun H locs hP hS => ?_)
              exact (w81 FU) tt tt kd nu 0 ls H locs hP hS (lv_sub (l' := [(0, .ref o)]) hl [1] rfl) hf
          · replace hf := it_t c6 hf
            refine lv_aload_n hx hb dX3_go_61 rfl (lv_at hl 1 rfl) ?_
            refine lv_iconst hx hb dX3_go_62 kc_i0 ?_
            refine mp_16 S hC hD hK hP hS dX3_go_63 (fun H locs hP hS => ?_)
            refine lv_goto (tgt := 297) hx hb dX3_go_66 (by decide) ?_
            have hE := Option.some.inj hf
            subst hE
            exact gt_wv S hr hlocks trivial hP hS dX3_go_297
        · replace hf := it_t c4 hf
          exact (w26 (f_X3_go_0 n si ta) (ih)) fr tt kd nu wd ls H locs hP hS hl hf
  suffices hg : ∀ (H : Heap) (locs : List Loc), va_P D cl (mW mi cI cJ cB o ad th tp st fk fp ac si fr tt kd nu fa pl fo wd ci gr lm om nw rd aa kp ta nm rn gv gt rw rh lg lh ou) H → va_S (mA o ad) s.heap H locs → W p l e (rM 1 21) s m ([.ref o] : List Value).toArray below meth c H locs 0 0 (MQ below (gQ D cl none True (mW mi cI cJ cB o ad th tp st fk fp ac si out.1 out.2.1 out.2.2.1 out.2.2.2.1 fa pl fo out.2.2.2.2 ci gr lm om nw rd aa kp ta nm rn gv gt rw rh lg lh ou) (mA o ad)) ([.ref o] : List Value).toArray s 0 0 (mA o ad)) (F0 m 0 ls []) from hg s.heap [] hP va_S.rf
  clear hP
  intro H locs hP hS
  rw [f_X3_go] at hf
  exact (w0 FU) fr tt kd nu wd ls H locs hP hS hl hf
set_option maxRecDepth 100000 in
theorem mc_X3_X3_go  {out : Int32 × Int32 × Int32 × Int32 × Int64} (S : CallFix p m c cc nL s args lw_all RX3) (hC : mC cl tys mi cI cJ cB) (hD : mD o ad) (hK : va_K D cl tys s) (hP : va_P D cl (mW mi cI cJ cB o ad th tp st fk fp ac si fr tt kd nu fa pl fo wd ci gr lm om nw rd aa kp ta nm rn gv gt rw rh lg lh ou) H) (hS : va_S (mA o ad) H0 H locs) (hf : f_X3_go si ta fr tt kd nu wd = some out) (hsz : ls.size = nL) (hR : 1 + 1 ≤ R.frames ∧ 8 + (2 + 11) + 21 ≤ R.locals) (hW : (rest.map fun v => v.category).sum ≤ 8) (hcs : cells ≤ R.cells ∧ slots ≤ R.slots) (hdg : decode cc pc = .ok (.invokevirtual 142, 3)) (kk : ∀ (H1 : Heap) (locs1 : List Loc), True → va_P D cl (mW mi cI cJ cB o ad th tp st fk fp ac si out.1 out.2.1 out.2.2.1 out.2.2.2.1 fa pl fo out.2.2.2.2 ci gr lm om nw rd aa kp ta nm rn gv gt rw rh lg lh ou) H1 → va_S (mA o ad) H0 H1 locs1 → W p l e R s m args below meth c H1 locs1 cells slots Q (F0 m (pc + 3) ls (rest))) : W p l e R s m args below meth c H locs cells slots Q (F0 m pc ls (.ref o :: rest)) :=
  gc_Vv (As := []) S (mm_X3_go hC hD hf) (cwV 0 S.2.2.2.2 (lw_V q2123 q2125 qs95 q189 q2126) rfl rfl rfl hd_X3_go hR) (gPreV hK hP hC.1 (q0 := 0) rfl) rfl hsz rfl hW hdg hcs hS kk
theorem hd_X3_refuse : yX3_refuse.cls = RX3 ∧ yX3_refuse.cls ≠ "java/lang/invoke/MethodHandle" ∧ yX3_refuse.cls ≠ "java/lang/invoke/VarHandle" ∧ (parseMethodDescriptor yX3_refuse.desc).map (fun d => d.parameters.length) = some 1 := by decide +kernel
set_option maxHeartbeats 4000000 in
set_option maxRecDepth 100000 in
theorem mm_X3_refuse {a0 : Int32} {out : Int32 × Int32 × Int32} (hC : mC cl tys mi cI cJ cB) (hD : mD o ad) (hf : f_X3_refuse th st a0 = some out) : Met l yX3_refuse (ws_ yX3_refuse cX3_refuse 2 (some .int)) (rM 0 0) (gPc D cl tys [.ref o, .int a0] (mW mi cI cJ cB o ad th tp st fk fp ac si fr tt kd nu fa pl fo wd ci gr lm om nw rd aa kp ta nm rn gv gt rw rh lg lh ou)) (gQ D cl (some (.int out.1)) True (mW mi cI cJ cB o ad out.2.1 tp out.2.2 fk fp ac si fr tt kd nu fa pl fo wd ci gr lm om nw rd aa kp ta nm rn gv gt rw rh lg lh ou) (mA o ad)) 0 0 (mA o ad) := by
  refine gGo (by decide +kernel) (Nat.le_of_ble_eq_true rfl) (fun p e s m below meth c ls S hr hlocks hK hP hl => ?_)
  have S : CallFix p m c cX3_refuse 2 s _ lw_all RX3 := S
  obtain ⟨hx, hb, hml, hown, hts⟩ := id S
  have hl : lv_has ls 2 [(0, .ref o), (1, .int a0)] := hl
  suffices hg : ∀ (H : Heap) (locs : List Loc), va_P D cl (mW mi cI cJ cB o ad th tp st fk fp ac si fr tt kd nu fa pl fo wd ci gr lm om nw rd aa kp ta nm rn gv gt rw rh lg lh ou) H → va_S (mA o ad) s.heap H locs → W p l e (rM 0 0) s m ([.ref o, .int a0] : List Value).toArray below meth c H locs 0 0 (MQ below (gQ D cl (some (.int out.1)) True (mW mi cI cJ cB o ad out.2.1 tp out.2.2 fk fp ac si fr tt kd nu fa pl fo wd ci gr lm om nw rd aa kp ta nm rn gv gt rw rh lg lh ou) (mA o ad)) ([.ref o, .int a0] : List Value).toArray s 0 0 (mA o ad)) (F0 m 0 ls []) from hg s.heap [] hP va_S.rf
  clear hP
  intro H locs hP hS
  rw [f_X3_refuse] at hf
  refine lv_aload_n hx hb dX3_refuse_0 rfl (lv_at hl 0 rfl) ?_
  refine lv_iconst hx hb dX3_refuse_1 kc_i0 ?_
  refine mp_0 S hC hD hK hP hS dX3_refuse_2 (fun H locs hP hS => ?_)
  refine lv_aload_n hx hb dX3_refuse_5 rfl (lv_at hl 0 rfl) ?_
  refine lv_iload_n hx hb dX3_refuse_6 rfl (lv_at hl 1 rfl) ?_
  refine mp_9 S hC hD hK hP hS dX3_refuse_7 (fun H locs hP hS => ?_)
  refine lv_iconst hx hb dX3_refuse_10 kc_im1 ?_
  have hE := Option.some.inj hf
  subst hE
  exact gt_wi S hr hlocks trivial hP hS dX3_refuse_11
set_option maxRecDepth 100000 in
theorem mc_X3_X3_refuse {a0 : Int32} {out : Int32 × Int32 × Int32} (S : CallFix p m c cc nL s args lw_all RX3) (hC : mC cl tys mi cI cJ cB) (hD : mD o ad) (hK : va_K D cl tys s) (hP : va_P D cl (mW mi cI cJ cB o ad th tp st fk fp ac si fr tt kd nu fa pl fo wd ci gr lm om nw rd aa kp ta nm rn gv gt rw rh lg lh ou) H) (hS : va_S (mA o ad) H0 H locs) (hf : f_X3_refuse th st a0 = some out) (hsz : ls.size = nL) (hR : 0 + 1 ≤ R.frames ∧ 8 + (2 + 11) + 0 ≤ R.locals) (hW : (rest.map fun v => v.category).sum ≤ 8) (hcs : cells ≤ R.cells ∧ slots ≤ R.slots) (hdg : decode cc pc = .ok (.invokevirtual 186, 3)) (kk : ∀ (H1 : Heap) (locs1 : List Loc), True → va_P D cl (mW mi cI cJ cB o ad out.2.1 tp out.2.2 fk fp ac si fr tt kd nu fa pl fo wd ci gr lm om nw rd aa kp ta nm rn gv gt rw rh lg lh ou) H1 → va_S (mA o ad) H0 H1 locs1 → W p l e R s m args below meth c H1 locs1 cells slots Q (F0 m (pc + 3) ls (.int out.1 :: rest))) : W p l e R s m args below meth c H locs cells slots Q (F0 m pc ls (.int a0 :: .ref o :: rest)) :=
  gc_Vw (As := [.int a0]) S (mm_X3_refuse hC hD hf) (cwV 1 S.2.2.2.2 (lw_V q2119 q2121 qs94 q189 q2122) rfl rfl rfl hd_X3_refuse hR) (gPreV hK hP hC.1 (q0 := 0) rfl) rfl hsz rfl hW hdg hcs hS kk
theorem hd_X3_joined : yX3_joined.cls ≠ "java/lang/invoke/MethodHandle" ∧ yX3_joined.cls ≠ "java/lang/invoke/VarHandle" ∧ (parseMethodDescriptor yX3_joined.desc).map (fun d => d.parameters.length) = some 2 := by decide +kernel
set_option maxHeartbeats 4000000 in
set_option maxRecDepth 100000 in
theorem mm_X3_joined {a0 : Int64} {a1 : Int32} {out : Int64} (hf : f_X3_joined a0 a1 = some out) : Met l yX3_joined (ws_ yX3_joined cX3_joined 3 (some .long)) (rM 0 0) (gPc D cl tys [.long a0, .int a1] []) (gR (some (.long out)) True) 0 0 (fun _ => False) := by
  refine gGo (by decide +kernel) (Nat.le_of_ble_eq_true rfl) (fun p e s m below meth c ls S hr hlocks hK hP hl => ?_)
  have S : CallFix p m c cX3_joined 3 s _ lw_all RX3 := S
  obtain ⟨hx, hb, hml, hown, hts⟩ := id S
  have hl : lv_has ls 3 [(0, .long a0), (2, .int a1)] := hl
  rw [f_X3_joined] at hf
  refine lv_iload_n hx hb dX3_joined_0 rfl (lv_at hl 1 rfl) ?_
  refine lv_if_ne (tgt := 8) hx hb dX3_joined_1 (by decide) (fun c1 => ?_) (fun c1 => ?_)
  · replace hf := it_f c1 hf
    refine lv_lload_n hx hb dX3_joined_8 rfl (lv_at hl 0 rfl) ?_
    refine lv_iconst hx hb dX3_joined_9 kc_i5 ?_
    refine lv_lshl hx hb dX3_joined_10 rfl ?_
    refine lv_iload_n hx hb dX3_joined_11 rfl (lv_at hl 1 rfl) ?_
    refine lv_i2l hx hb dX3_joined_12 rfl ?_
    refine lv_ldc2 hx hb hown (hts _ q2134) dX3_joined_13 ?_
    refine lv_lsub hx hb dX3_joined_16 ?_
    refine lv_lor hx hb dX3_joined_17 ?_
    have hE := Option.some.inj hf
    subst hE
    exact gt_rl S hr hlocks trivial dX3_joined_18
  · replace hf := it_t c1 hf
    refine lv_lload_n hx hb dX3_joined_4 rfl (lv_at hl 0 rfl) ?_
    refine lv_goto (tgt := 18) hx hb dX3_joined_5 (by decide) ?_
    have hE := Option.some.inj hf
    subst hE
    exact gt_rl S hr hlocks trivial dX3_joined_18
set_option maxRecDepth 100000 in
theorem mc_X3_X3_joined {a0 : Int64} {a1 : Int32} {out : Int64} (S : CallFix p m c cc nL s args lw_all RX3) (hK : va_K D cl tys s) (hf : f_X3_joined a0 a1 = some out) (hsz : ls.size = nL) (hR : 0 + 1 ≤ R.frames ∧ 8 + (3 + 11) + 0 ≤ R.locals) (hW : (rest.map fun v => v.category).sum ≤ 8) (hcs : cells ≤ R.cells ∧ slots ≤ R.slots) (hdg : decode cc pc = .ok (.invokestatic 118, 3)) (kk : True → W p l e R s m args below meth c H locs cells slots Q (F0 m (pc + 3) ls (.long out :: rest))) : W p l e R s m args below meth c H locs cells slots Q (F0 m pc ls (.int a1 :: .long a0 :: rest)) :=
  gc_Sr (As := [.long a0, .int a1]) S (mm_X3_joined hf) (va_cwS 2 S.2.2.2.2 (lw_S q2152 q2153 q189 q2154) rfl rfl rfl hd_X3_joined hR) (gPreS hK gP0) rfl hsz rfl hW hdg hcs kk
theorem hd_X3_spelt : yX3_spelt.cls ≠ "java/lang/invoke/MethodHandle" ∧ yX3_spelt.cls ≠ "java/lang/invoke/VarHandle" ∧ (parseMethodDescriptor yX3_spelt.desc).map (fun d => d.parameters.length) = some 6 := by decide +kernel
set_option maxHeartbeats 4000000 in
set_option maxRecDepth 100000 in
theorem mm_X3_spelt {a0 : Int32} {a1 : Int32} {a2 : Int32} {a3 : Int32} {a4 : Int32} {a5 : Int32} {out : Int64} (hf : f_X3_spelt a0 a1 a2 a3 a4 a5 = some out) : Met l yX3_spelt (ws_ yX3_spelt cX3_spelt 6 (some .long)) (rM 1 22) (gPc D cl tys [.int a0, .int a1, .int a2, .int a3, .int a4, .int a5] []) (gR (some (.long out)) True) 0 0 (fun _ => False) := by
  refine gGo (by decide +kernel) (Nat.le_of_ble_eq_true rfl) (fun p e s m below meth c ls S hr hlocks hK hP hl => ?_)
  have S : CallFix p m c cX3_spelt 6 s _ lw_all RX3 := S
  obtain ⟨hx, hb, hml, hown, hts⟩ := id S
  have hl : lv_has ls 6 [(0, .int a0), (1, .int a1), (2, .int a2), (3, .int a3), (4, .int a4), (5, .int a5)] := hl
  rw [f_X3_spelt] at hf
  refine lv_lconst (v := 0) hx hb dX3_spelt_0 (by decide) ?_
  refine lv_iload_n hx hb dX3_spelt_1 rfl (lv_at hl 0 rfl) ?_
  obtain ⟨v1, hv1, hf⟩ := ob_s hf
  refine mc_X3_X3_joined S hK hv1 hl.1 ⟨Nat.le_of_ble_eq_true rfl, Nat.le_of_ble_eq_true rfl⟩ (Nat.le_of_ble_eq_true rfl) ⟨Nat.zero_le _, Nat.zero_le _⟩ dX3_spelt_2 (fun _ => ?_)
  refine lv_iload_n hx hb dX3_spelt_5 rfl (lv_at hl 1 rfl) ?_
  obtain ⟨v2, hv2, hf⟩ := ob_s hf
  refine mc_X3_X3_joined S hK hv2 hl.1 ⟨Nat.le_of_ble_eq_true rfl, Nat.le_of_ble_eq_true rfl⟩ (Nat.le_of_ble_eq_true rfl) ⟨Nat.zero_le _, Nat.zero_le _⟩ dX3_spelt_6 (fun _ => ?_)
  refine lv_iload_n hx hb dX3_spelt_9 rfl (lv_at hl 2 rfl) ?_
  obtain ⟨v3, hv3, hf⟩ := ob_s hf
  refine mc_X3_X3_joined S hK hv3 hl.1 ⟨Nat.le_of_ble_eq_true rfl, Nat.le_of_ble_eq_true rfl⟩ (Nat.le_of_ble_eq_true rfl) ⟨Nat.zero_le _, Nat.zero_le _⟩ dX3_spelt_10 (fun _ => ?_)
  refine lv_iload_n hx hb dX3_spelt_13 rfl (lv_at hl 3 rfl) ?_
  obtain ⟨v4, hv4, hf⟩ := ob_s hf
  refine mc_X3_X3_joined S hK hv4 hl.1 ⟨Nat.le_of_ble_eq_true rfl, Nat.le_of_ble_eq_true rfl⟩ (Nat.le_of_ble_eq_true rfl) ⟨Nat.zero_le _, Nat.zero_le _⟩ dX3_spelt_14 (fun _ => ?_)
  refine lv_iload hx hb dX3_spelt_17 (lv_at hl 4 rfl) ?_
  obtain ⟨v5, hv5, hf⟩ := ob_s hf
  refine mc_X3_X3_joined S hK hv5 hl.1 ⟨Nat.le_of_ble_eq_true rfl, Nat.le_of_ble_eq_true rfl⟩ (Nat.le_of_ble_eq_true rfl) ⟨Nat.zero_le _, Nat.zero_le _⟩ dX3_spelt_19 (fun _ => ?_)
  refine lv_iload hx hb dX3_spelt_22 (lv_at hl 5 rfl) ?_
  obtain ⟨v6, hv6, hf⟩ := ob_s hf
  refine mc_X3_X3_joined S hK hv6 hl.1 ⟨Nat.le_of_ble_eq_true rfl, Nat.le_of_ble_eq_true rfl⟩ (Nat.le_of_ble_eq_true rfl) ⟨Nat.zero_le _, Nat.zero_le _⟩ dX3_spelt_24 (fun _ => ?_)
  have hE := Option.some.inj hf
  subst hE
  exact gt_rl S hr hlocks trivial dX3_spelt_27
set_option maxRecDepth 100000 in
theorem mc_X3_X3_spelt {a0 : Int32} {a1 : Int32} {a2 : Int32} {a3 : Int32} {a4 : Int32} {a5 : Int32} {out : Int64} (S : CallFix p m c cc nL s args lw_all RX3) (hK : va_K D cl tys s) (hf : f_X3_spelt a0 a1 a2 a3 a4 a5 = some out) (hsz : ls.size = nL) (hR : 1 + 1 ≤ R.frames ∧ 8 + (6 + 11) + 22 ≤ R.locals) (hW : (rest.map fun v => v.category).sum ≤ 8) (hcs : cells ≤ R.cells ∧ slots ≤ R.slots) (hdg : decode cc pc = .ok (.invokestatic 122, 3)) (kk : True → W p l e R s m args below meth c H locs cells slots Q (F0 m (pc + 3) ls (.long out :: rest))) : W p l e R s m args below meth c H locs cells slots Q (F0 m pc ls (.int a5 :: .int a4 :: .int a3 :: .int a2 :: .int a1 :: .int a0 :: rest)) :=
  gc_Sr (As := [.int a0, .int a1, .int a2, .int a3, .int a4, .int a5]) S (mm_X3_spelt hf) (va_cwS 6 S.2.2.2.2 (lw_S q2149 q2150 q189 q2151) rfl rfl rfl hd_X3_spelt hR) (gPreS hK gP0) rfl hsz rfl hW hdg hcs kk
theorem hd_X3_wordOf : yX3_wordOf.cls ≠ "java/lang/invoke/MethodHandle" ∧ yX3_wordOf.cls ≠ "java/lang/invoke/VarHandle" ∧ (parseMethodDescriptor yX3_wordOf.desc).map (fun d => d.parameters.length) = some 1 := by decide +kernel
set_option maxHeartbeats 4000000 in
set_option maxRecDepth 100000 in
theorem mm_X3_wordOf {a0 : Int32} {out : Int64} (hf : f_X3_wordOf a0 = some out) : Met l yX3_wordOf (ws_ yX3_wordOf cX3_wordOf 1 (some .long)) (rM 2 47) (gPc D cl tys [.int a0] []) (gR (some (.long out)) True) 0 0 (fun _ => False) := by
  refine gGo (by decide +kernel) (Nat.le_of_ble_eq_true rfl) (fun p e s m below meth c ls S hr hlocks hK hP hl => ?_)
  have S : CallFix p m c cX3_wordOf 1 s _ lw_all RX3 := S
  obtain ⟨hx, hb, hml, hown, hts⟩ := id S
  have hl : lv_has ls 1 [(0, .int a0)] := hl
  rw [f_X3_wordOf] at hf
  refine lv_iload_n hx hb dX3_wordOf_0 rfl (lv_at hl 0 rfl) ?_
  by_cases c1 : a0 = 0
  · replace hf := it_t c1 hf
    refine lv_tableIn (tgt := 52) (off := 51) hx hb dX3_wordOf_1 (by rw [c1]; decide) (by rw [c1]; decide) (by rw [c1]; decide) (by decide) ?_
    refine lv_bipush hx hb dX3_wordOf_52 kc_b114 ?_
    refine lv_bipush hx hb dX3_wordOf_54 kc_b101 ?_
    refine lv_bipush hx hb dX3_wordOf_56 kc_b102 ?_
    refine lv_bipush hx hb dX3_wordOf_58 kc_b117 ?_
    refine lv_bipush hx hb dX3_wordOf_60 kc_b115 ?_
    refine lv_bipush hx hb dX3_wordOf_62 kc_b101 ?_
    obtain ⟨v2, hv2, hf⟩ := ob_s hf
    refine mc_X3_X3_spelt S hK hv2 hl.1 ⟨Nat.le_of_ble_eq_true rfl, Nat.le_of_ble_eq_true rfl⟩ (Nat.le_of_ble_eq_true rfl) ⟨Nat.zero_le _, Nat.zero_le _⟩ dX3_wordOf_64 (fun _ => ?_)
    have hE := Option.some.inj hf
    subst hE
    exact gt_rl S hr hlocks trivial dX3_wordOf_67
  · replace hf := it_f c1 hf
    by_cases c3 : a0 = 1
    · replace hf := it_t c3 hf
      refine lv_tableIn (tgt := 68) (off := 67) hx hb dX3_wordOf_1 (by rw [c3]; decide) (by rw [c3]; decide) (by rw [c3]; decide) (by decide) ?_
      refine lv_bipush hx hb dX3_wordOf_68 kc_b98 ?_
      refine lv_bipush hx hb dX3_wordOf_70 kc_b97 ?_
      refine lv_bipush hx hb dX3_wordOf_72 kc_b114 ?_
      refine lv_iconst hx hb dX3_wordOf_74 kc_i0 ?_
      refine lv_iconst hx hb dX3_wordOf_75 kc_i0 ?_
      refine lv_iconst hx hb dX3_wordOf_76 kc_i0 ?_
      obtain ⟨v4, hv4, hf⟩ := ob_s hf
      refine mc_X3_X3_spelt S hK hv4 hl.1 ⟨Nat.le_of_ble_eq_true rfl, Nat.le_of_ble_eq_true rfl⟩ (Nat.le_of_ble_eq_true rfl) ⟨Nat.zero_le _, Nat.zero_le _⟩ dX3_wordOf_77 (fun _ => ?_)
      have hE := Option.some.inj hf
      subst hE
      exact gt_rl S hr hlocks trivial dX3_wordOf_80
    · replace hf := it_f c3 hf
      by_cases c5 : a0 = (nI 2)
      · replace hf := it_t c5 hf
        refine lv_tableIn (tgt := 81) (off := 80) hx hb dX3_wordOf_1 (by rw [c5]; decide) (by rw [c5]; decide) (by rw [c5]; decide) (by decide) ?_
        refine lv_bipush hx hb dX3_wordOf_81 kc_b108 ?_
        refine lv_bipush hx hb dX3_wordOf_83 kc_b111 ?_
        refine lv_bipush hx hb dX3_wordOf_85 kc_b99 ?_
        refine lv_bipush hx hb dX3_wordOf_87 kc_b97 ?_
        refine lv_bipush hx hb dX3_wordOf_89 kc_b108 ?_
        refine lv_iconst hx hb dX3_wordOf_91 kc_i0 ?_
        obtain ⟨v6, hv6, hf⟩ := ob_s hf
        refine mc_X3_X3_spelt S hK hv6 hl.1 ⟨Nat.le_of_ble_eq_true rfl, Nat.le_of_ble_eq_true rfl⟩ (Nat.le_of_ble_eq_true rfl) ⟨Nat.zero_le _, Nat.zero_le _⟩ dX3_wordOf_92 (fun _ => ?_)
        have hE := Option.some.inj hf
        subst hE
        exact gt_rl S hr hlocks trivial dX3_wordOf_95
      · replace hf := it_f c5 hf
        by_cases c7 : a0 = (nI 3)
        · replace hf := it_t c7 hf
          refine lv_tableIn (tgt := 96) (off := 95) hx hb dX3_wordOf_1 (by rw [c7]; decide) (by rw [c7]; decide) (by rw [c7]; decide) (by decide) ?_
          refine lv_bipush hx hb dX3_wordOf_96 kc_b113 ?_
          refine lv_bipush hx hb dX3_wordOf_98 kc_b117 ?_
          refine lv_bipush hx hb dX3_wordOf_100 kc_b111 ?_
          refine lv_bipush hx hb dX3_wordOf_102 kc_b116 ?_
          refine lv_bipush hx hb dX3_wordOf_104 kc_b97 ?_
          refine lv_iconst hx hb dX3_wordOf_106 kc_i0 ?_
          obtain ⟨v8, hv8, hf⟩ := ob_s hf
          refine mc_X3_X3_spelt S hK hv8 hl.1 ⟨Nat.le_of_ble_eq_true rfl, Nat.le_of_ble_eq_true rfl⟩ (Nat.le_of_ble_eq_true rfl) ⟨Nat.zero_le _, Nat.zero_le _⟩ dX3_wordOf_107 (fun _ => ?_)
          have hE := Option.some.inj hf
          subst hE
          exact gt_rl S hr hlocks trivial dX3_wordOf_110
        · replace hf := it_f c7 hf
          by_cases c9 : a0 = (nI 4)
          · replace hf := it_t c9 hf
            refine lv_tableIn (tgt := 111) (off := 110) hx hb dX3_wordOf_1 (by rw [c9]; decide) (by rw [c9]; decide) (by rw [c9]; decide) (by decide) ?_
            refine lv_bipush hx hb dX3_wordOf_111 kc_b97 ?_
            refine lv_bipush hx hb dX3_wordOf_113 kc_b103 ?_
            refine lv_bipush hx hb dX3_wordOf_115 kc_b101 ?_
            refine lv_iconst hx hb dX3_wordOf_117 kc_i0 ?_
            refine lv_iconst hx hb dX3_wordOf_118 kc_i0 ?_
            refine lv_iconst hx hb dX3_wordOf_119 kc_i0 ?_
            obtain ⟨v10, hv10, hf⟩ := ob_s hf
            refine mc_X3_X3_spelt S hK hv10 hl.1 ⟨Nat.le_of_ble_eq_true rfl, Nat.le_of_ble_eq_true rfl⟩ (Nat.le_of_ble_eq_true rfl) ⟨Nat.zero_le _, Nat.zero_le _⟩ dX3_wordOf_120 (fun _ => ?_)
            have hE := Option.some.inj hf
            subst hE
            exact gt_rl S hr hlocks trivial dX3_wordOf_123
          · replace hf := it_f c9 hf
            by_cases c11 : a0 = (nI 5)
            · replace hf := it_t c11 hf
              refine lv_tableIn (tgt := 124) (off := 123) hx hb dX3_wordOf_1 (by rw [c11]; decide) (by rw [c11]; decide) (by rw [c11]; decide) (by decide) ?_
              refine lv_bipush hx hb dX3_wordOf_124 kc_b98 ?_
              refine lv_bipush hx hb dX3_wordOf_126 kc_b105 ?_
              refine lv_bipush hx hb dX3_wordOf_128 kc_b100 ?_
              refine lv_bipush hx hb dX3_wordOf_130 kc_b115 ?_
              refine lv_iconst hx hb dX3_wordOf_132 kc_i0 ?_
              refine lv_iconst hx hb dX3_wordOf_133 kc_i0 ?_
              obtain ⟨v12, hv12, hf⟩ := ob_s hf
              refine mc_X3_X3_spelt S hK hv12 hl.1 ⟨Nat.le_of_ble_eq_true rfl, Nat.le_of_ble_eq_true rfl⟩ (Nat.le_of_ble_eq_true rfl) ⟨Nat.zero_le _, Nat.zero_le _⟩ dX3_wordOf_134 (fun _ => ?_)
              have hE := Option.some.inj hf
              subst hE
              exact gt_rl S hr hlocks trivial dX3_wordOf_137
            · replace hf := it_f c11 hf
              by_cases c13 : a0 = (nI 6)
              · replace hf := it_t c13 hf
                refine lv_tableIn (tgt := 138) (off := 137) hx hb dX3_wordOf_1 (by rw [c13]; decide) (by rw [c13]; decide) (by rw [c13]; decide) (by decide) ?_
                refine lv_bipush hx hb dX3_wordOf_138 kc_b104 ?_
                refine lv_bipush hx hb dX3_wordOf_140 kc_b111 ?_
                refine lv_bipush hx hb dX3_wordOf_142 kc_b109 ?_
                refine lv_bipush hx hb dX3_wordOf_144 kc_b101 ?_
                refine lv_iconst hx hb dX3_wordOf_146 kc_i0 ?_
                refine lv_iconst hx hb dX3_wordOf_147 kc_i0 ?_
                obtain ⟨v14, hv14, hf⟩ := ob_s hf
                refine mc_X3_X3_spelt S hK hv14 hl.1 ⟨Nat.le_of_ble_eq_true rfl, Nat.le_of_ble_eq_true rfl⟩ (Nat.le_of_ble_eq_true rfl) ⟨Nat.zero_le _, Nat.zero_le _⟩ dX3_wordOf_148 (fun _ => ?_)
                have hE := Option.some.inj hf
                subst hE
                exact gt_rl S hr hlocks trivial dX3_wordOf_151
              · replace hf := it_f c13 hf
                by_cases c15 : a0 = (nI 7)
                · replace hf := it_t c15 hf
                  refine lv_tableIn (tgt := 152) (off := 151) hx hb dX3_wordOf_1 (by rw [c15]; decide) (by rw [c15]; decide) (by rw [c15]; decide) (by decide) ?_
                  refine lv_bipush hx hb dX3_wordOf_152 kc_b104 ?_
                  refine lv_bipush hx hb dX3_wordOf_154 kc_b111 ?_
                  refine lv_bipush hx hb dX3_wordOf_156 kc_b117 ?_
                  refine lv_bipush hx hb dX3_wordOf_158 kc_b115 ?_
                  refine lv_bipush hx hb dX3_wordOf_160 kc_b101 ?_
                  refine lv_iconst hx hb dX3_wordOf_162 kc_i0 ?_
                  obtain ⟨v16, hv16, hf⟩ := ob_s hf
                  refine mc_X3_X3_spelt S hK hv16 hl.1 ⟨Nat.le_of_ble_eq_true rfl, Nat.le_of_ble_eq_true rfl⟩ (Nat.le_of_ble_eq_true rfl) ⟨Nat.zero_le _, Nat.zero_le _⟩ dX3_wordOf_163 (fun _ => ?_)
                  have hE := Option.some.inj hf
                  subst hE
                  exact gt_rl S hr hlocks trivial dX3_wordOf_166
                · replace hf := it_f c15 hf
                  by_cases c17 : a0 = (nI 8)
                  · replace hf := it_t c17 hf
                    refine lv_tableIn (tgt := 167) (off := 166) hx hb dX3_wordOf_1 (by rw [c17]; decide) (by rw [c17]; decide) (by rw [c17]; decide) (by decide) ?_
                    refine lv_bipush hx hb dX3_wordOf_167 kc_b114 ?_
                    refine lv_bipush hx hb dX3_wordOf_169 kc_b117 ?_
                    refine lv_bipush hx hb dX3_wordOf_171 kc_b108 ?_
                    refine lv_bipush hx hb dX3_wordOf_173 kc_b101 ?_
                    refine lv_iconst hx hb dX3_wordOf_175 kc_i0 ?_
                    refine lv_iconst hx hb dX3_wordOf_176 kc_i0 ?_
                    obtain ⟨v18, hv18, hf⟩ := ob_s hf
                    refine mc_X3_X3_spelt S hK hv18 hl.1 ⟨Nat.le_of_ble_eq_true rfl, Nat.le_of_ble_eq_true rfl⟩ (Nat.le_of_ble_eq_true rfl) ⟨Nat.zero_le _, Nat.zero_le _⟩ dX3_wordOf_177 (fun _ => ?_)
                    have hE := Option.some.inj hf
                    subst hE
                    exact gt_rl S hr hlocks trivial dX3_wordOf_180
                  · replace hf := it_f c17 hf
                    refine lv_tableOut (tgt := 181) hx hb dX3_wordOf_1 (by have n0 := lv_neT (a := 0) c1 (by decide); have n1 := lv_neT (a := 1) c3 (by decide); have n2 := lv_neT (a := 2) c5 (by decide); have n3 := lv_neT (a := 3) c7 (by decide); have n4 := lv_neT (a := 4) c9 (by decide); have n5 := lv_neT (a := 5) c11 (by decide); have n6 := lv_neT (a := 6) c13 (by decide); have n7 := lv_neT (a := 7) c15 (by decide); have n8 := lv_neT (a := 8) c17 (by decide); omega) (by decide) ?_
                    refine lv_bipush hx hb dX3_wordOf_181 kc_b105 ?_
                    refine lv_bipush hx hb dX3_wordOf_183 kc_b110 ?_
                    refine lv_iconst hx hb dX3_wordOf_185 kc_i0 ?_
                    refine lv_iconst hx hb dX3_wordOf_186 kc_i0 ?_
                    refine lv_iconst hx hb dX3_wordOf_187 kc_i0 ?_
                    refine lv_iconst hx hb dX3_wordOf_188 kc_i0 ?_
                    obtain ⟨v19, hv19, hf⟩ := ob_s hf
                    refine mc_X3_X3_spelt S hK hv19 hl.1 ⟨Nat.le_of_ble_eq_true rfl, Nat.le_of_ble_eq_true rfl⟩ (Nat.le_of_ble_eq_true rfl) ⟨Nat.zero_le _, Nat.zero_le _⟩ dX3_wordOf_189 (fun _ => ?_)
                    have hE := Option.some.inj hf
                    subst hE
                    exact gt_rl S hr hlocks trivial dX3_wordOf_192
set_option maxRecDepth 100000 in
theorem mc_X3_X3_wordOf {a0 : Int32} {out : Int64} (S : CallFix p m c cc nL s args lw_all RX3) (hK : va_K D cl tys s) (hf : f_X3_wordOf a0 = some out) (hsz : ls.size = nL) (hR : 2 + 1 ≤ R.frames ∧ 8 + (1 + 11) + 47 ≤ R.locals) (hW : (rest.map fun v => v.category).sum ≤ 8) (hcs : cells ≤ R.cells ∧ slots ≤ R.slots) (hdg : decode cc pc = .ok (.invokestatic 126, 3)) (kk : True → W p l e R s m args below meth c H locs cells slots Q (F0 m (pc + 3) ls (.long out :: rest))) : W p l e R s m args below meth c H locs cells slots Q (F0 m pc ls (.int a0 :: rest)) :=
  gc_Sr (As := [.int a0]) S (mm_X3_wordOf hf) (va_cwS 1 S.2.2.2.2 (lw_S q2146 q2147 q189 q2148) rfl rfl rfl hd_X3_wordOf hR) (gPreS hK gP0) rfl hsz rfl hW hdg hcs kk
theorem hd_X3_isWord : yX3_isWord.cls = RX3 ∧ yX3_isWord.cls ≠ "java/lang/invoke/MethodHandle" ∧ yX3_isWord.cls ≠ "java/lang/invoke/VarHandle" ∧ (parseMethodDescriptor yX3_isWord.desc).map (fun d => d.parameters.length) = some 1 := by decide +kernel
set_option maxHeartbeats 4000000 in
set_option maxRecDepth 100000 in
theorem mm_X3_isWord {a0 : Int32} {out : Int32} (hC : mC cl tys mi cI cJ cB) (hf : f_X3_isWord kd wd a0 = some out) : Met l yX3_isWord (ws_ yX3_isWord cX3_isWord 2 (some .boolean)) (rM 3 67) (gPc D cl tys [.ref o, .int a0] (mW mi cI cJ cB o ad th tp st fk fp ac si fr tt kd nu fa pl fo wd ci gr lm om nw rd aa kp ta nm rn gv gt rw rh lg lh ou)) (gR (some (.int out)) (narrow .boolean (.int out) = .int out)) 0 0 (fun _ => False) := by
  refine gGo (by decide +kernel) (Nat.le_of_ble_eq_true rfl) (fun p e s m below meth c ls S hr hlocks hK hP hl => ?_)
  have S : CallFix p m c cX3_isWord 2 s _ lw_all RX3 := S
  obtain ⟨hx, hb, hml, hown, hts⟩ := id S
  have hl : lv_has ls 2 [(0, .ref o), (1, .int a0)] := hl
  rw [f_X3_isWord] at hf
  refine lv_aload_n hx hb dX3_isWord_0 rfl (lv_at hl 0 rfl) ?_
  refine mg_16 S hC hK hP dX3_isWord_1 ?_
  refine lv_iconst hx hb dX3_isWord_4 kc_i2 ?_
  refine lv_icmp_ne (tgt := 24) hx hb dX3_isWord_5 (by decide) (fun c1 => ?_) (fun c1 => ?_)
  · replace hf := it_f c1 hf
    refine lv_iconst hx hb dX3_isWord_24 kc_i0 ?_
    have hE := Option.some.inj hf
    subst hE
    exact gt_rz S hr hlocks nb0 dX3_isWord_25
  · replace hf := it_t c1 hf
    refine lv_aload_n hx hb dX3_isWord_8 rfl (lv_at hl 0 rfl) ?_
    refine mg_21 S hC hK hP dX3_isWord_9 ?_
    refine lv_iload_n hx hb dX3_isWord_12 rfl (lv_at hl 1 rfl) ?_
    obtain ⟨v2, hv2, hf⟩ := ob_s hf
    refine mc_X3_X3_wordOf S hK hv2 hl.1 ⟨Nat.le_of_ble_eq_true rfl, Nat.le_of_ble_eq_true rfl⟩ (Nat.le_of_ble_eq_true rfl) ⟨Nat.zero_le _, Nat.zero_le _⟩ dX3_isWord_13 (fun _ => ?_)
    refine W.lcmp hx hb dX3_isWord_16 ?_
    refine lv_if_ne (tgt := 24) hx hb dX3_isWord_17 (by decide) (fun c3 => ?_) (fun c3 => ?_)
    · replace hf := it_f c3 hf
      refine lv_iconst hx hb dX3_isWord_24 kc_i0 ?_
      have hE := Option.some.inj hf
      subst hE
      exact gt_rz S hr hlocks nb0 dX3_isWord_25
    · replace hf := it_t c3 hf
      refine lv_iconst hx hb dX3_isWord_20 kc_i1 ?_
      refine lv_goto (tgt := 25) hx hb dX3_isWord_21 (by decide) ?_
      have hE := Option.some.inj hf
      subst hE
      exact gt_rz S hr hlocks nb1 dX3_isWord_25
set_option maxRecDepth 100000 in
theorem mc_X3_X3_isWord {a0 : Int32} {out : Int32} (S : CallFix p m c cc nL s args lw_all RX3) (hC : mC cl tys mi cI cJ cB) (hK : va_K D cl tys s) (hP : va_P D cl (mW mi cI cJ cB o ad th tp st fk fp ac si fr tt kd nu fa pl fo wd ci gr lm om nw rd aa kp ta nm rn gv gt rw rh lg lh ou) H) (hf : f_X3_isWord kd wd a0 = some out) (hsz : ls.size = nL) (hR : 3 + 1 ≤ R.frames ∧ 8 + (2 + 11) + 67 ≤ R.locals) (hW : (rest.map fun v => v.category).sum ≤ 8) (hcs : cells ≤ R.cells ∧ slots ≤ R.slots) (hdg : decode cc pc = .ok (.invokevirtual 130, 3)) (kk : (narrow .boolean (.int out) = .int out) → W p l e R s m args below meth c H locs cells slots Q (F0 m (pc + 3) ls (.int out :: rest))) : W p l e R s m args below meth c H locs cells slots Q (F0 m pc ls (.int a0 :: .ref o :: rest)) :=
  gc_Vr (As := [.int a0]) S (mm_X3_isWord hC hf) (cwV 1 S.2.2.2.2 (lw_V q2142 q2144 qs98 q189 q2145) rfl rfl rfl hd_X3_isWord hR) (gPreV hK hP hC.1 (q0 := 0) rfl) rfl hsz rfl hW hdg hcs kk
theorem hd_X3_bad : yX3_bad.cls = RX3 ∧ yX3_bad.cls ≠ "java/lang/invoke/MethodHandle" ∧ yX3_bad.cls ≠ "java/lang/invoke/VarHandle" ∧ (parseMethodDescriptor yX3_bad.desc).map (fun d => d.parameters.length) = some 1 := by decide +kernel
set_option maxHeartbeats 4000000 in
set_option maxRecDepth 100000 in
theorem mm_X3_bad {a0 : Int32} {out : Int32 × Int32 × Int32} (hC : mC cl tys mi cI cJ cB) (hD : mD o ad) (hf : f_X3_bad fr kd fa pl a0 = some out) : Met l yX3_bad (ws_ yX3_bad cX3_bad 2 (some .boolean)) (rM 0 0) (gPc D cl tys [.ref o, .int a0] (mW mi cI cJ cB o ad th tp st fk fp ac si fr tt kd nu fa pl fo wd ci gr lm om nw rd aa kp ta nm rn gv gt rw rh lg lh ou)) (gQ D cl (some (.int out.1)) (narrow .boolean (.int out.1) = .int out.1) (mW mi cI cJ cB o ad th tp st fk fp ac si fr tt kd nu out.2.1 out.2.2 fo wd ci gr lm om nw rd aa kp ta nm rn gv gt rw rh lg lh ou) (mA o ad)) 0 0 (mA o ad) := by
  refine gGo (by decide +kernel) (Nat.le_of_ble_eq_true rfl) (fun p e s m below meth c ls S hr hlocks hK hP hl => ?_)
  have S : CallFix p m c cX3_bad 2 s _ lw_all RX3 := S
  obtain ⟨hx, hb, hml, hown, hts⟩ := id S
  have hl : lv_has ls 2 [(0, .ref o), (1, .int a0)] := hl
  have w14 : ∀ (y1 : Int32) (fa : Int32) (pl : Int32) (ls : Array Slot) (H : Heap) (locs : List Loc), va_P D cl (mW mi cI cJ cB o ad th tp st fk fp ac si fr tt kd nu fa pl fo wd ci gr lm om nw rd aa kp ta nm rn gv gt rw rh lg lh ou) H → va_S (mA o ad) s.heap H locs → lv_has ls 2 [(0, .ref o)] → f_X3_bad_14 fr kd y1 fa pl = some out → W p l e (rM 0 0) s m ([.ref o, .int a0] : List Value).toArray below meth c H locs 0 0 (MQ below (gQ D cl (some (.int out.1)) (narrow .boolean (.int out.1) = .int out.1) (mW mi cI cJ cB o ad th tp st fk fp ac si fr tt kd nu out.2.1 out.2.2 fo wd ci gr lm om nw rd aa kp ta nm rn gv gt rw rh lg lh ou) (mA o ad)) ([.ref o, .int a0] : List Value).toArray s 0 0 (mA o ad)) (F0 m 14 ls [.int y1, .ref o]) := by
    intro y1 fa pl ls H locs hP hS hl hf
    rw [f_X3_bad_14] at hf
    refine mp_18 S hC hD hK hP hS dX3_bad_14 (fun H locs hP hS => ?_)
    refine lv_aload_n hx hb dX3_bad_17 rfl (lv_at hl 0 rfl) ?_
    refine lv_aload_n hx hb dX3_bad_18 rfl (lv_at hl 0 rfl) ?_
    refine mg_14 S hC hK hP dX3_bad_19 ?_
    refine mp_19 S hC hD hK hP hS dX3_bad_22 (fun H locs hP hS => ?_)
    refine lv_iconst hx hb dX3_bad_25 kc_i0 ?_
    have hE := Option.some.inj hf
    subst hE
    exact gt_wz S hr hlocks nb0 hP hS dX3_bad_26
  suffices hg : ∀ (H : Heap) (locs : List Loc), va_P D cl (mW mi cI cJ cB o ad th tp st fk fp ac si fr tt kd nu fa pl fo wd ci gr lm om nw rd aa kp ta nm rn gv gt rw rh lg lh ou) H → va_S (mA o ad) s.heap H locs → W p l e (rM 0 0) s m ([.ref o, .int a0] : List Value).toArray below meth c H locs 0 0 (MQ below (gQ D cl (some (.int out.1)) (narrow .boolean (.int out.1) = .int out.1) (mW mi cI cJ cB o ad th tp st fk fp ac si fr tt kd nu out.2.1 out.2.2 fo wd ci gr lm om nw rd aa kp ta nm rn gv gt rw rh lg lh ou) (mA o ad)) ([.ref o, .int a0] : List Value).toArray s 0 0 (mA o ad)) (F0 m 0 ls []) from hg s.heap [] hP va_S.rf
  clear hP
  intro H locs hP hS
  rw [f_X3_bad] at hf
  refine lv_aload_n hx hb dX3_bad_0 rfl (lv_at hl 0 rfl) ?_
  refine lv_aload_n hx hb dX3_bad_1 rfl (lv_at hl 0 rfl) ?_
  refine mg_16 S hC hK hP dX3_bad_2 ?_
  refine lv_iconst hx hb dX3_bad_5 kc_i1 ?_
  refine lv_icmp_ne (tgt := 13) hx hb dX3_bad_6 (by decide) (fun c1 => ?_) (fun c1 => ?_)
  · replace hf := it_f c1 hf
    refine lv_iload_n hx hb dX3_bad_13 rfl (lv_at hl 1 rfl) ?_
    exact (w14) a0 fa pl ls H locs hP hS (lv_sub (l' := [(0, .ref o)]) hl [0] rfl) hf
  · replace hf := it_t c1 hf
    refine lv_iconst hx hb dX3_bad_9 kc_i1 ?_
    refine lv_goto (tgt := 14) hx hb dX3_bad_10 (by decide) ?_
    exact (w14) 1 fa pl ls H locs hP hS (lv_sub (l' := [(0, .ref o)]) hl [0] rfl) hf
set_option maxRecDepth 100000 in
theorem mc_X3_X3_bad {a0 : Int32} {out : Int32 × Int32 × Int32} (S : CallFix p m c cc nL s args lw_all RX3) (hC : mC cl tys mi cI cJ cB) (hD : mD o ad) (hK : va_K D cl tys s) (hP : va_P D cl (mW mi cI cJ cB o ad th tp st fk fp ac si fr tt kd nu fa pl fo wd ci gr lm om nw rd aa kp ta nm rn gv gt rw rh lg lh ou) H) (hS : va_S (mA o ad) H0 H locs) (hf : f_X3_bad fr kd fa pl a0 = some out) (hsz : ls.size = nL) (hR : 0 + 1 ≤ R.frames ∧ 8 + (2 + 11) + 0 ≤ R.locals) (hW : (rest.map fun v => v.category).sum ≤ 8) (hcs : cells ≤ R.cells ∧ slots ≤ R.slots) (hdg : decode cc pc = .ok (.invokevirtual 139, 3)) (kk : ∀ (H1 : Heap) (locs1 : List Loc), (narrow .boolean (.int out.1) = .int out.1) → va_P D cl (mW mi cI cJ cB o ad th tp st fk fp ac si fr tt kd nu out.2.1 out.2.2 fo wd ci gr lm om nw rd aa kp ta nm rn gv gt rw rh lg lh ou) H1 → va_S (mA o ad) H0 H1 locs1 → W p l e R s m args below meth c H1 locs1 cells slots Q (F0 m (pc + 3) ls (.int out.1 :: rest))) : W p l e R s m args below meth c H locs cells slots Q (F0 m pc ls (.int a0 :: .ref o :: rest)) :=
  gc_Vw (As := [.int a0]) S (mm_X3_bad hC hD hf) (cwV 1 S.2.2.2.2 (lw_V q2159 q2161 qs100 q189 q2162) rfl rfl rfl hd_X3_bad hR) (gPreV hK hP hC.1 (q0 := 0) rfl) rfl hsz rfl hW hdg hcs hS kk
theorem hd_X3_leastOf : yX3_leastOf.cls ≠ "java/lang/invoke/MethodHandle" ∧ yX3_leastOf.cls ≠ "java/lang/invoke/VarHandle" ∧ (parseMethodDescriptor yX3_leastOf.desc).map (fun d => d.parameters.length) = some 1 := by decide +kernel
set_option maxHeartbeats 4000000 in
set_option maxRecDepth 100000 in
theorem mm_X3_leastOf {a0 : Int32} {out : Int32} (hf : f_X3_leastOf a0 = some out) : Met l yX3_leastOf (ws_ yX3_leastOf cX3_leastOf 1 (some .int)) (rM 0 0) (gPc D cl tys [.int a0] []) (gR (some (.int out)) True) 0 0 (fun _ => False) := by
  refine gGo (by decide +kernel) (Nat.le_of_ble_eq_true rfl) (fun p e s m below meth c ls S hr hlocks hK hP hl => ?_)
  have S : CallFix p m c cX3_leastOf 1 s _ lw_all RX3 := S
  obtain ⟨hx, hb, hml, hown, hts⟩ := id S
  have hl : lv_has ls 1 [(0, .int a0)] := hl
  rw [f_X3_leastOf] at hf
  refine lv_iload_n hx hb dX3_leastOf_0 rfl (lv_at hl 0 rfl) ?_
  refine lv_iconst hx hb dX3_leastOf_1 kc_i2 ?_
  refine lv_icmp_eq (tgt := 10) hx hb dX3_leastOf_2 (by decide) (fun c1 => ?_) (fun c1 => ?_)
  · replace hf := it_t c1 hf
    refine lv_iconst hx hb dX3_leastOf_10 kc_i0 ?_
    refine lv_goto (tgt := 15) hx hb dX3_leastOf_11 (by decide) ?_
    have hE := Option.some.inj hf
    subst hE
    exact gt_ri S hr hlocks trivial dX3_leastOf_15
  · replace hf := it_f c1 hf
    refine lv_iload_n hx hb dX3_leastOf_5 rfl (lv_at hl 0 rfl) ?_
    refine lv_iconst hx hb dX3_leastOf_6 kc_i3 ?_
    refine lv_icmp_ne (tgt := 14) hx hb dX3_leastOf_7 (by decide) (fun c2 => ?_) (fun c2 => ?_)
    · replace hf := it_f c2 hf
      refine lv_iconst hx hb dX3_leastOf_14 kc_i1 ?_
      have hE := Option.some.inj hf
      subst hE
      exact gt_ri S hr hlocks trivial dX3_leastOf_15
    · replace hf := it_t c2 hf
      refine lv_iconst hx hb dX3_leastOf_10 kc_i0 ?_
      refine lv_goto (tgt := 15) hx hb dX3_leastOf_11 (by decide) ?_
      have hE := Option.some.inj hf
      subst hE
      exact gt_ri S hr hlocks trivial dX3_leastOf_15
set_option maxRecDepth 100000 in
theorem mc_X3_X3_leastOf {a0 : Int32} {out : Int32} (S : CallFix p m c cc nL s args lw_all RX3) (hK : va_K D cl tys s) (hf : f_X3_leastOf a0 = some out) (hsz : ls.size = nL) (hR : 0 + 1 ≤ R.frames ∧ 8 + (1 + 11) + 0 ≤ R.locals) (hW : (rest.map fun v => v.category).sum ≤ 8) (hcs : cells ≤ R.cells ∧ slots ≤ R.slots) (hdg : decode cc pc = .ok (.invokestatic 171, 3)) (kk : True → W p l e R s m args below meth c H locs cells slots Q (F0 m (pc + 3) ls (.int out :: rest))) : W p l e R s m args below meth c H locs cells slots Q (F0 m pc ls (.int a0 :: rest)) :=
  gc_Sr (As := [.int a0]) S (mm_X3_leastOf hf) (va_cwS 1 S.2.2.2.2 (lw_S q2206 q2207 q189 q2208) rfl rfl rfl hd_X3_leastOf hR) (gPreS hK gP0) rfl hsz rfl hW hdg hcs kk
theorem hd_X3_mostOf : yX3_mostOf.cls ≠ "java/lang/invoke/MethodHandle" ∧ yX3_mostOf.cls ≠ "java/lang/invoke/VarHandle" ∧ (parseMethodDescriptor yX3_mostOf.desc).map (fun d => d.parameters.length) = some 1 := by decide +kernel
set_option maxHeartbeats 4000000 in
set_option maxRecDepth 100000 in
theorem mm_X3_mostOf {a0 : Int32} {out : Int32} (hf : f_X3_mostOf a0 = some out) : Met l yX3_mostOf (ws_ yX3_mostOf cX3_mostOf 1 (some .int)) (rM 0 0) (gPc D cl tys [.int a0] []) (gR (some (.int out)) True) 0 0 (fun _ => False) := by
  refine gGo (by decide +kernel) (Nat.le_of_ble_eq_true rfl) (fun p e s m below meth c ls S hr hlocks hK hP hl => ?_)
  have S : CallFix p m c cX3_mostOf 1 s _ lw_all RX3 := S
  obtain ⟨hx, hb, hml, hown, hts⟩ := id S
  have hl : lv_has ls 1 [(0, .int a0)] := hl
  rw [f_X3_mostOf] at hf
  refine lv_iload_n hx hb dX3_mostOf_0 rfl (lv_at hl 0 rfl) ?_
  refine lv_if_eq (tgt := 9) hx hb dX3_mostOf_1 (by decide) (fun c1 => ?_) (fun c1 => ?_)
  · replace hf := it_t c1 hf
    refine lv_bipush hx hb dX3_mostOf_9 kc_b9 ?_
    refine lv_goto (tgt := 46) hx hb dX3_mostOf_11 (by decide) ?_
    have hE := Option.some.inj hf
    subst hE
    exact gt_ri S hr hlocks trivial dX3_mostOf_46
  · replace hf := it_f c1 hf
    refine lv_iload_n hx hb dX3_mostOf_4 rfl (lv_at hl 0 rfl) ?_
    refine lv_iconst hx hb dX3_mostOf_5 kc_i2 ?_
    refine lv_icmp_ne (tgt := 14) hx hb dX3_mostOf_6 (by decide) (fun c2 => ?_) (fun c2 => ?_)
    · replace hf := it_f c2 hf
      refine lv_iload_n hx hb dX3_mostOf_14 rfl (lv_at hl 0 rfl) ?_
      refine lv_iconst hx hb dX3_mostOf_15 kc_i1 ?_
      refine lv_icmp_ne (tgt := 24) hx hb dX3_mostOf_16 (by decide) (fun c3 => ?_) (fun c3 => ?_)
      · replace hf := it_f c3 hf
        refine lv_iload_n hx hb dX3_mostOf_24 rfl (lv_at hl 0 rfl) ?_
        refine lv_iconst hx hb dX3_mostOf_25 kc_i3 ?_
        refine lv_icmp_ne (tgt := 34) hx hb dX3_mostOf_26 (by decide) (fun c4 => ?_) (fun c4 => ?_)
        · replace hf := it_f c4 hf
          refine lv_iload_n hx hb dX3_mostOf_34 rfl (lv_at hl 0 rfl) ?_
          refine lv_iconst hx hb dX3_mostOf_35 kc_i4 ?_
          refine lv_icmp_ne (tgt := 45) hx hb dX3_mostOf_36 (by decide) (fun c5 => ?_) (fun c5 => ?_)
          · replace hf := it_f c5 hf
            refine lv_iconst hx hb dX3_mostOf_45 kc_i3 ?_
            have hE := Option.some.inj hf
            subst hE
            exact gt_ri S hr hlocks trivial dX3_mostOf_46
          · replace hf := it_t c5 hf
            refine lv_sipush hx hb dX3_mostOf_39 kc_s999 ?_
            refine lv_goto (tgt := 46) hx hb dX3_mostOf_42 (by decide) ?_
            have hE := Option.some.inj hf
            subst hE
            exact gt_ri S hr hlocks trivial dX3_mostOf_46
        · replace hf := it_t c4 hf
          refine lv_bipush hx hb dX3_mostOf_29 kc_b100 ?_
          refine lv_goto (tgt := 46) hx hb dX3_mostOf_31 (by decide) ?_
          have hE := Option.some.inj hf
          subst hE
          exact gt_ri S hr hlocks trivial dX3_mostOf_46
      · replace hf := it_t c3 hf
        refine lv_bipush hx hb dX3_mostOf_19 kc_b52 ?_
        refine lv_goto (tgt := 46) hx hb dX3_mostOf_21 (by decide) ?_
        have hE := Option.some.inj hf
        subst hE
        exact gt_ri S hr hlocks trivial dX3_mostOf_46
    · replace hf := it_t c2 hf
      refine lv_bipush hx hb dX3_mostOf_9 kc_b9 ?_
      refine lv_goto (tgt := 46) hx hb dX3_mostOf_11 (by decide) ?_
      have hE := Option.some.inj hf
      subst hE
      exact gt_ri S hr hlocks trivial dX3_mostOf_46
set_option maxRecDepth 100000 in
theorem mc_X3_X3_mostOf {a0 : Int32} {out : Int32} (S : CallFix p m c cc nL s args lw_all RX3) (hK : va_K D cl tys s) (hf : f_X3_mostOf a0 = some out) (hsz : ls.size = nL) (hR : 0 + 1 ≤ R.frames ∧ 8 + (1 + 11) + 0 ≤ R.locals) (hW : (rest.map fun v => v.category).sum ≤ 8) (hcs : cells ≤ R.cells ∧ slots ≤ R.slots) (hdg : decode cc pc = .ok (.invokestatic 174, 3)) (kk : True → W p l e R s m args below meth c H locs cells slots Q (F0 m (pc + 3) ls (.int out :: rest))) : W p l e R s m args below meth c H locs cells slots Q (F0 m pc ls (.int a0 :: rest)) :=
  gc_Sr (As := [.int a0]) S (mm_X3_mostOf hf) (va_cwS 1 S.2.2.2.2 (lw_S q2209 q2210 q189 q2211) rfl rfl rfl hd_X3_mostOf hR) (gPreS hK gP0) rfl hsz rfl hW hdg hcs kk
theorem hd_X3_readNumber : yX3_readNumber.cls = RX3 ∧ yX3_readNumber.cls ≠ "java/lang/invoke/MethodHandle" ∧ yX3_readNumber.cls ≠ "java/lang/invoke/VarHandle" ∧ (parseMethodDescriptor yX3_readNumber.desc).map (fun d => d.parameters.length) = some 3 := by decide +kernel
set_option maxHeartbeats 4000000 in
set_option maxRecDepth 100000 in
theorem mm_X3_readNumber {a0 : Int32} {a1 : Int32} {a2 : Int32} {out : Int32 × Int32 × Int32 × Int32 × Int32 × Int32 × Int32 × Int64 × (Nat → Int32)} (hC : mC cl tys mi cI cJ cB) (hD : mD o ad) (hf : f_X3_readNumber si ta fr tt kd nu fa pl wd rd a0 a1 a2 = some out) : Met l yX3_readNumber (ws_ yX3_readNumber cX3_readNumber 4 (some .boolean)) (rM 2 42) (gPc D cl tys [.ref o, .int a0, .int a1, .int a2] (mW mi cI cJ cB o ad th tp st fk fp ac si fr tt kd nu fa pl fo wd ci gr lm om nw rd aa kp ta nm rn gv gt rw rh lg lh ou)) (gQ D cl (some (.int out.1)) (narrow .boolean (.int out.1) = .int out.1) (mW mi cI cJ cB o ad th tp st fk fp ac si out.2.1 out.2.2.1 out.2.2.2.1 out.2.2.2.2.1 out.2.2.2.2.2.1 out.2.2.2.2.2.2.1 fo out.2.2.2.2.2.2.2.1 ci gr lm om nw out.2.2.2.2.2.2.2.2 aa kp ta nm rn gv gt rw rh lg lh ou) (mA o ad)) 0 0 (mA o ad) := by
  refine gGo (by decide +kernel) (Nat.le_of_ble_eq_true rfl) (fun p e s m below meth c ls S hr hlocks hK hP hl => ?_)
  have S : CallFix p m c cX3_readNumber 4 s _ lw_all RX3 := S
  obtain ⟨hx, hb, hml, hown, hts⟩ := id S
  have hl : lv_has ls 4 [(0, .ref o), (1, .int a0), (2, .int a1), (3, .int a2)] := hl
  suffices hg : ∀ (H : Heap) (locs : List Loc), va_P D cl (mW mi cI cJ cB o ad th tp st fk fp ac si fr tt kd nu fa pl fo wd ci gr lm om nw rd aa kp ta nm rn gv gt rw rh lg lh ou) H → va_S (mA o ad) s.heap H locs → W p l e (rM 2 42) s m ([.ref o, .int a0, .int a1, .int a2] : List Value).toArray below meth c H locs 0 0 (MQ below (gQ D cl (some (.int out.1)) (narrow .boolean (.int out.1) = .int out.1) (mW mi cI cJ cB o ad th tp st fk fp ac si out.2.1 out.2.2.1 out.2.2.2.1 out.2.2.2.2.1 out.2.2.2.2.2.1 out.2.2.2.2.2.2.1 fo out.2.2.2.2.2.2.2.1 ci gr lm om nw out.2.2.2.2.2.2.2.2 aa kp ta nm rn gv gt rw rh lg lh ou) (mA o ad)) ([.ref o, .int a0, .int a1, .int a2] : List Value).toArray s 0 0 (mA o ad)) (F0 m 0 ls []) from hg s.heap [] hP va_S.rf
  clear hP
  intro H locs hP hS
  rw [f_X3_readNumber] at hf
  refine lv_aload_n hx hb dX3_readNumber_0 rfl (lv_at hl 0 rfl) ?_
  refine mg_16 S hC hK hP dX3_readNumber_1 ?_
  refine lv_iconst hx hb dX3_readNumber_4 kc_i3 ?_
  refine lv_icmp_eq (tgt := 14) hx hb dX3_readNumber_5 (by decide) (fun c1 => ?_) (fun c1 => ?_)
  · replace hf := it_t c1 hf
    refine lv_aload_n hx hb dX3_readNumber_14 rfl (lv_at hl 0 rfl) ?_
    refine mg_17 S hC hK hP dX3_readNumber_15 ?_
    refine lv_iload_n hx hb dX3_readNumber_18 rfl (lv_at hl 2 rfl) ?_
    refine lv_iload_n hx hb dX3_readNumber_19 rfl (lv_at hl 3 rfl) ?_
    obtain ⟨v2, hv2, hf⟩ := ob_s hf
    refine mc_X3_X3_isFrom S hK hv2 hl.1 ⟨Nat.le_of_ble_eq_true rfl, Nat.le_of_ble_eq_true rfl⟩ (Nat.le_of_ble_eq_true rfl) ⟨Nat.zero_le _, Nat.zero_le _⟩ dX3_readNumber_20 (fun hnv2 => ?_)
    refine lv_if_ne (tgt := 32) hx hb dX3_readNumber_23 (by decide) (fun c3 => ?_) (fun c3 => ?_)
    · replace hf := it_f c3 hf
      refine lv_aload_n hx hb dX3_readNumber_32 rfl (lv_at hl 0 rfl) ?_
      refine mg_2 S hC hK hP dX3_readNumber_33 ?_
      refine lv_iload_n hx hb dX3_readNumber_36 rfl (lv_at hl 1 rfl) ?_
      refine lv_aload_n hx hb dX3_readNumber_37 rfl (lv_at hl 0 rfl) ?_
      refine mg_17 S hC hK hP dX3_readNumber_38 ?_
      obtain ⟨g4, hf⟩ := gd_t hf
      refine ms_2 S hC hD hK hP hS (inR_vp g4) rfl dX3_readNumber_41 (fun H locs hP hS => ?_)
      refine lv_aload_n hx hb dX3_readNumber_42 rfl (lv_at hl 0 rfl) ?_
      obtain ⟨v5, hv5, hf⟩ := ob_s hf
      refine mc_X3_X3_go S hC hD hK hP hS hv5 hl.1 ⟨Nat.le_of_ble_eq_true rfl, Nat.le_of_ble_eq_true rfl⟩ (Nat.le_of_ble_eq_true rfl) ⟨Nat.zero_le _, Nat.zero_le _⟩ dX3_readNumber_43 (fun H locs _ hP hS => ?_)
      refine lv_iconst hx hb dX3_readNumber_46 kc_i1 ?_
      have hE := Option.some.inj hf
      subst hE
      exact gt_wz S hr hlocks nb1 hP hS dX3_readNumber_47
    · replace hf := it_t c3 hf
      refine lv_aload_n hx hb dX3_readNumber_26 rfl (lv_at hl 0 rfl) ?_
      refine lv_iconst hx hb dX3_readNumber_27 kc_i3 ?_
      obtain ⟨v6, hv6, hf⟩ := ob_s hf
      refine mc_X3_X3_bad S hC hD hK hP hS hv6 hl.1 ⟨Nat.le_of_ble_eq_true rfl, Nat.le_of_ble_eq_true rfl⟩ (Nat.le_of_ble_eq_true rfl) ⟨Nat.zero_le _, Nat.zero_le _⟩ dX3_readNumber_28 (fun H locs hnv6 hP hS => ?_)
      have hE := Option.some.inj hf
      subst hE
      exact gt_wz S hr hlocks hnv6 hP hS dX3_readNumber_31
  · replace hf := it_f c1 hf
    refine lv_aload_n hx hb dX3_readNumber_8 rfl (lv_at hl 0 rfl) ?_
    refine lv_iconst hx hb dX3_readNumber_9 kc_i2 ?_
    obtain ⟨v7, hv7, hf⟩ := ob_s hf
    refine mc_X3_X3_bad S hC hD hK hP hS hv7 hl.1 ⟨Nat.le_of_ble_eq_true rfl, Nat.le_of_ble_eq_true rfl⟩ (Nat.le_of_ble_eq_true rfl) ⟨Nat.zero_le _, Nat.zero_le _⟩ dX3_readNumber_10 (fun H locs hnv7 hP hS => ?_)
    have hE := Option.some.inj hf
    subst hE
    exact gt_wz S hr hlocks hnv7 hP hS dX3_readNumber_13
set_option maxRecDepth 100000 in
theorem mc_X3_X3_readNumber {a0 : Int32} {a1 : Int32} {a2 : Int32} {out : Int32 × Int32 × Int32 × Int32 × Int32 × Int32 × Int32 × Int64 × (Nat → Int32)} (S : CallFix p m c cc nL s args lw_all RX3) (hC : mC cl tys mi cI cJ cB) (hD : mD o ad) (hK : va_K D cl tys s) (hP : va_P D cl (mW mi cI cJ cB o ad th tp st fk fp ac si fr tt kd nu fa pl fo wd ci gr lm om nw rd aa kp ta nm rn gv gt rw rh lg lh ou) H) (hS : va_S (mA o ad) H0 H locs) (hf : f_X3_readNumber si ta fr tt kd nu fa pl wd rd a0 a1 a2 = some out) (hsz : ls.size = nL) (hR : 2 + 1 ≤ R.frames ∧ 8 + (4 + 11) + 42 ≤ R.locals) (hW : (rest.map fun v => v.category).sum ≤ 8) (hcs : cells ≤ R.cells ∧ slots ≤ R.slots) (hdg : decode cc pc = .ok (.invokevirtual 159, 3)) (kk : ∀ (H1 : Heap) (locs1 : List Loc), (narrow .boolean (.int out.1) = .int out.1) → va_P D cl (mW mi cI cJ cB o ad th tp st fk fp ac si out.2.1 out.2.2.1 out.2.2.2.1 out.2.2.2.2.1 out.2.2.2.2.2.1 out.2.2.2.2.2.2.1 fo out.2.2.2.2.2.2.2.1 ci gr lm om nw out.2.2.2.2.2.2.2.2 aa kp ta nm rn gv gt rw rh lg lh ou) H1 → va_S (mA o ad) H0 H1 locs1 → W p l e R s m args below meth c H1 locs1 cells slots Q (F0 m (pc + 3) ls (.int out.1 :: rest))) : W p l e R s m args below meth c H locs cells slots Q (F0 m pc ls (.int a2 :: .int a1 :: .int a0 :: .ref o :: rest)) :=
  gc_Vw (As := [.int a0, .int a1, .int a2]) S (mm_X3_readNumber hC hD hf) (cwV 3 S.2.2.2.2 (lw_V q2179 q2181 qs105 q189 q2182) rfl rfl rfl hd_X3_readNumber hR) (gPreV hK hP hC.1 (q0 := 0) rfl) rfl hsz rfl hW hdg hcs hS kk
theorem hd_X3_readEnd : yX3_readEnd.cls = RX3 ∧ yX3_readEnd.cls ≠ "java/lang/invoke/MethodHandle" ∧ yX3_readEnd.cls ≠ "java/lang/invoke/VarHandle" ∧ (parseMethodDescriptor yX3_readEnd.desc).map (fun d => d.parameters.length) = some 0 := by decide +kernel
set_option maxHeartbeats 4000000 in
set_option maxRecDepth 100000 in
theorem mm_X3_readEnd  {out : Int32 × Int32 × Int32 × Int32 × Int32 × Int32 × Int32 × Int64} (hC : mC cl tys mi cI cJ cB) (hD : mD o ad) (hf : f_X3_readEnd si ta fr tt kd nu fa pl wd = some out) : Met l yX3_readEnd (ws_ yX3_readEnd cX3_readEnd 1 (some .boolean)) (rM 2 42) (gPc D cl tys [.ref o] (mW mi cI cJ cB o ad th tp st fk fp ac si fr tt kd nu fa pl fo wd ci gr lm om nw rd aa kp ta nm rn gv gt rw rh lg lh ou)) (gQ D cl (some (.int out.1)) (narrow .boolean (.int out.1) = .int out.1) (mW mi cI cJ cB o ad th tp st fk fp ac si out.2.1 out.2.2.1 out.2.2.2.1 out.2.2.2.2.1 out.2.2.2.2.2.1 out.2.2.2.2.2.2.1 fo out.2.2.2.2.2.2.2 ci gr lm om nw rd aa kp ta nm rn gv gt rw rh lg lh ou) (mA o ad)) 0 0 (mA o ad) := by
  refine gGo (by decide +kernel) (Nat.le_of_ble_eq_true rfl) (fun p e s m below meth c ls S hr hlocks hK hP hl => ?_)
  have S : CallFix p m c cX3_readEnd 1 s _ lw_all RX3 := S
  obtain ⟨hx, hb, hml, hown, hts⟩ := id S
  have hl : lv_has ls 1 [(0, .ref o)] := hl
  suffices hg : ∀ (H : Heap) (locs : List Loc), va_P D cl (mW mi cI cJ cB o ad th tp st fk fp ac si fr tt kd nu fa pl fo wd ci gr lm om nw rd aa kp ta nm rn gv gt rw rh lg lh ou) H → va_S (mA o ad) s.heap H locs → W p l e (rM 2 42) s m ([.ref o] : List Value).toArray below meth c H locs 0 0 (MQ below (gQ D cl (some (.int out.1)) (narrow .boolean (.int out.1) = .int out.1) (mW mi cI cJ cB o ad th tp st fk fp ac si out.2.1 out.2.2.1 out.2.2.2.1 out.2.2.2.2.1 out.2.2.2.2.2.1 out.2.2.2.2.2.2.1 fo out.2.2.2.2.2.2.2 ci gr lm om nw rd aa kp ta nm rn gv gt rw rh lg lh ou) (mA o ad)) ([.ref o] : List Value).toArray s 0 0 (mA o ad)) (F0 m 0 ls []) from hg s.heap [] hP va_S.rf
  clear hP
  intro H locs hP hS
  rw [f_X3_readEnd] at hf
  refine lv_aload_n hx hb dX3_readEnd_0 rfl (lv_at hl 0 rfl) ?_
  refine mg_16 S hC hK hP dX3_readEnd_1 ?_
  refine lv_iconst hx hb dX3_readEnd_4 kc_i4 ?_
  refine lv_icmp_eq (tgt := 14) hx hb dX3_readEnd_5 (by decide) (fun c1 => ?_) (fun c1 => ?_)
  · replace hf := it_t c1 hf
    refine lv_aload_n hx hb dX3_readEnd_14 rfl (lv_at hl 0 rfl) ?_
    obtain ⟨v2, hv2, hf⟩ := ob_s hf
    refine mc_X3_X3_go S hC hD hK hP hS hv2 hl.1 ⟨Nat.le_of_ble_eq_true rfl, Nat.le_of_ble_eq_true rfl⟩ (Nat.le_of_ble_eq_true rfl) ⟨Nat.zero_le _, Nat.zero_le _⟩ dX3_readEnd_15 (fun H locs _ hP hS => ?_)
    refine lv_iconst hx hb dX3_readEnd_18 kc_i1 ?_
    have hE := Option.some.inj hf
    subst hE
    exact gt_wz S hr hlocks nb1 hP hS dX3_readEnd_19
  · replace hf := it_f c1 hf
    refine lv_aload_n hx hb dX3_readEnd_8 rfl (lv_at hl 0 rfl) ?_
    refine lv_iconst hx hb dX3_readEnd_9 kc_i2 ?_
    obtain ⟨v3, hv3, hf⟩ := ob_s hf
    refine mc_X3_X3_bad S hC hD hK hP hS hv3 hl.1 ⟨Nat.le_of_ble_eq_true rfl, Nat.le_of_ble_eq_true rfl⟩ (Nat.le_of_ble_eq_true rfl) ⟨Nat.zero_le _, Nat.zero_le _⟩ dX3_readEnd_10 (fun H locs hnv3 hP hS => ?_)
    have hE := Option.some.inj hf
    subst hE
    exact gt_wz S hr hlocks hnv3 hP hS dX3_readEnd_13
set_option maxRecDepth 100000 in
theorem mc_X3_X3_readEnd  {out : Int32 × Int32 × Int32 × Int32 × Int32 × Int32 × Int32 × Int64} (S : CallFix p m c cc nL s args lw_all RX3) (hC : mC cl tys mi cI cJ cB) (hD : mD o ad) (hK : va_K D cl tys s) (hP : va_P D cl (mW mi cI cJ cB o ad th tp st fk fp ac si fr tt kd nu fa pl fo wd ci gr lm om nw rd aa kp ta nm rn gv gt rw rh lg lh ou) H) (hS : va_S (mA o ad) H0 H locs) (hf : f_X3_readEnd si ta fr tt kd nu fa pl wd = some out) (hsz : ls.size = nL) (hR : 2 + 1 ≤ R.frames ∧ 8 + (1 + 11) + 42 ≤ R.locals) (hW : (rest.map fun v => v.category).sum ≤ 8) (hcs : cells ≤ R.cells ∧ slots ≤ R.slots) (hdg : decode cc pc = .ok (.invokevirtual 162, 3)) (kk : ∀ (H1 : Heap) (locs1 : List Loc), (narrow .boolean (.int out.1) = .int out.1) → va_P D cl (mW mi cI cJ cB o ad th tp st fk fp ac si out.2.1 out.2.2.1 out.2.2.2.1 out.2.2.2.2.1 out.2.2.2.2.2.1 out.2.2.2.2.2.2.1 fo out.2.2.2.2.2.2.2 ci gr lm om nw rd aa kp ta nm rn gv gt rw rh lg lh ou) H1 → va_S (mA o ad) H0 H1 locs1 → W p l e R s m args below meth c H1 locs1 cells slots Q (F0 m (pc + 3) ls (.int out.1 :: rest))) : W p l e R s m args below meth c H locs cells slots Q (F0 m pc ls (.ref o :: rest)) :=
  gc_Vw (As := []) S (mm_X3_readEnd hC hD hf) (cwV 0 S.2.2.2.2 (lw_V q2183 q2185 qs106 q189 q2186) rfl rfl rfl hd_X3_readEnd hR) (gPreV hK hP hC.1 (q0 := 0) rfl) rfl hsz rfl hW hdg hcs hS kk
theorem hd_X3_readRule : yX3_readRule.cls = RX3 ∧ yX3_readRule.cls ≠ "java/lang/invoke/MethodHandle" ∧ yX3_readRule.cls ≠ "java/lang/invoke/VarHandle" ∧ (parseMethodDescriptor yX3_readRule.desc).map (fun d => d.parameters.length) = some 0 := by decide +kernel
set_option maxHeartbeats 4000000 in
set_option maxRecDepth 100000 in
theorem mm_X3_readRule  {out : Int32 × Int32 × Int32 × Int32 × Int32 × Int32 × Int32 × Int64 × (Nat → Int32)} (hC : mC cl tys mi cI cJ cB) (hD : mD o ad) (hf : f_X3_readRule si ta fr tt kd nu fa pl wd rd = some out) : Met l yX3_readRule (ws_ yX3_readRule cX3_readRule 2 (some .boolean)) (rM 4 88) (gPc D cl tys [.ref o] (mW mi cI cJ cB o ad th tp st fk fp ac si fr tt kd nu fa pl fo wd ci gr lm om nw rd aa kp ta nm rn gv gt rw rh lg lh ou)) (gQ D cl (some (.int out.1)) (narrow .boolean (.int out.1) = .int out.1) (mW mi cI cJ cB o ad th tp st fk fp ac si out.2.1 out.2.2.1 out.2.2.2.1 out.2.2.2.2.1 out.2.2.2.2.2.1 out.2.2.2.2.2.2.1 fo out.2.2.2.2.2.2.2.1 ci gr lm om nw out.2.2.2.2.2.2.2.2 aa kp ta nm rn gv gt rw rh lg lh ou) (mA o ad)) 0 0 (mA o ad) := by
  refine gGo (by decide +kernel) (Nat.le_of_ble_eq_true rfl) (fun p e s m below meth c ls S hr hlocks hK hP hl => ?_)
  have S : CallFix p m c cX3_readRule 2 s _ lw_all RX3 := S
  obtain ⟨hx, hb, hml, hown, hts⟩ := id S
  have hl : lv_has ls 2 [(0, .ref o)] := hl
  have w26 : ∀ (x1 : Int32) (fr : Int32) (tt : Int32) (kd : Int32) (nu : Int32) (fa : Int32) (pl : Int32) (wd : Int64) (rd : (Nat → Int32)) (ls : Array Slot) (H : Heap) (locs : List Loc), va_P D cl (mW mi cI cJ cB o ad th tp st fk fp ac si fr tt kd nu fa pl fo wd ci gr lm om nw rd aa kp ta nm rn gv gt rw rh lg lh ou) H → va_S (mA o ad) s.heap H locs → lv_has ls 2 [(0, .ref o), (1, .int x1)] → f_X3_readRule_26 si ta x1 fr tt kd nu fa pl wd rd = some out → W p l e (rM 4 88) s m ([.ref o] : List Value).toArray below meth c H locs 0 0 (MQ below (gQ D cl (some (.int out.1)) (narrow .boolean (.int out.1) = .int out.1) (mW mi cI cJ cB o ad th tp st fk fp ac si out.2.1 out.2.2.1 out.2.2.2.1 out.2.2.2.2.1 out.2.2.2.2.2.1 out.2.2.2.2.2.2.1 fo out.2.2.2.2.2.2.2.1 ci gr lm om nw out.2.2.2.2.2.2.2.2 aa kp ta nm rn gv gt rw rh lg lh ou) (mA o ad)) ([.ref o] : List Value).toArray s 0 0 (mA o ad)) (F0 m 26 ls []) := by
    intro x1 fr tt kd nu fa pl wd rd ls H locs hP hS hl hf
    rw [f_X3_readRule_26] at hf
    refine lv_iload_n hx hb dX3_readRule_26 rfl (lv_at hl 1 rfl) ?_
    refine lv_bipush hx hb dX3_readRule_27 kc_b6 ?_
    refine lv_icmp_ne (tgt := 38) hx hb dX3_readRule_29 (by decide) (fun c1 => ?_) (fun c1 => ?_)
    · replace hf := it_f c1 hf
      refine lv_aload_n hx hb dX3_readRule_38 rfl (lv_at hl 0 rfl) ?_
      obtain ⟨v2, hv2, hf⟩ := ob_s hf
      refine mc_X3_X3_go S hC hD hK hP hS hv2 hl.1 ⟨Nat.le_of_ble_eq_true rfl, Nat.le_of_ble_eq_true rfl⟩ (Nat.le_of_ble_eq_true rfl) ⟨Nat.zero_le _, Nat.zero_le _⟩ dX3_readRule_39 (fun H locs _ hP hS => ?_)
      refine lv_aload_n hx hb dX3_readRule_42 rfl (lv_at hl 0 rfl) ?_
      refine lv_sipush hx hb dX3_readRule_43 kc_s224 ?_
      refine lv_iload_n hx hb dX3_readRule_46 rfl (lv_at hl 1 rfl) ?_
      refine lv_iadd hx hb dX3_readRule_47 ?_
      refine lv_iload_n hx hb dX3_readRule_48 rfl (lv_at hl 1 rfl) ?_
      obtain ⟨v3, hv3, hf⟩ := ob_s hf
      refine mc_X3_X3_leastOf S hK hv3 hl.1 ⟨Nat.le_of_ble_eq_true rfl, Nat.le_of_ble_eq_true rfl⟩ (Nat.le_of_ble_eq_true rfl) ⟨Nat.zero_le _, Nat.zero_le _⟩ dX3_readRule_49 (fun _ => ?_)
      refine lv_iload_n hx hb dX3_readRule_52 rfl (lv_at hl 1 rfl) ?_
      obtain ⟨v4, hv4, hf⟩ := ob_s hf
      refine mc_X3_X3_mostOf S hK hv4 hl.1 ⟨Nat.le_of_ble_eq_true rfl, Nat.le_of_ble_eq_true rfl⟩ (Nat.le_of_ble_eq_true rfl) ⟨Nat.zero_le _, Nat.zero_le _⟩ dX3_readRule_53 (fun _ => ?_)
      obtain ⟨v5, hv5, hf⟩ := ob_s hf
      refine mc_X3_X3_readNumber S hC hD hK hP hS hv5 hl.1 ⟨Nat.le_of_ble_eq_true rfl, Nat.le_of_ble_eq_true rfl⟩ (Nat.le_of_ble_eq_true rfl) ⟨Nat.zero_le _, Nat.zero_le _⟩ dX3_readRule_56 (fun H locs hnv5 hP hS => ?_)
      refine lv_if_eq (tgt := 73) hx hb dX3_readRule_59 (by decide) (fun c6 => ?_) (fun c6 => ?_)
      · replace hf := it_t c6 hf
        refine lv_iconst hx hb dX3_readRule_73 kc_i0 ?_
        have hE := Option.some.inj hf
        subst hE
        exact gt_wz S hr hlocks nb0 hP hS dX3_readRule_74
      · replace hf := it_f c6 hf
        refine lv_aload_n hx hb dX3_readRule_62 rfl (lv_at hl 0 rfl) ?_
        obtain ⟨v7, hv7, hf⟩ := ob_s hf
        refine mc_X3_X3_readEnd S hC hD hK hP hS hv7 hl.1 ⟨Nat.le_of_ble_eq_true rfl, Nat.le_of_ble_eq_true rfl⟩ (Nat.le_of_ble_eq_true rfl) ⟨Nat.zero_le _, Nat.zero_le _⟩ dX3_readRule_63 (fun H locs hnv7 hP hS => ?_)
        refine lv_if_eq (tgt := 73) hx hb dX3_readRule_66 (by decide) (fun c8 => ?_) (fun c8 => ?_)
        · replace hf := it_t c8 hf
          refine lv_iconst hx hb dX3_readRule_73 kc_i0 ?_
          have hE := Option.some.inj hf
          subst hE
          exact gt_wz S hr hlocks nb0 hP hS dX3_readRule_74
        · replace hf := it_f c8 hf
          refine lv_iconst hx hb dX3_readRule_69 kc_i1 ?_
          refine lv_goto (tgt := 74) hx hb dX3_readRule_70 (by decide) ?_
          have hE := Option.some.inj hf
          subst hE
          exact gt_wz S hr hlocks nb1 hP hS dX3_readRule_74
    · replace hf := it_t c1 hf
      refine lv_aload_n hx hb dX3_readRule_32 rfl (lv_at hl 0 rfl) ?_
      refine lv_iconst hx hb dX3_readRule_33 kc_i2 ?_
      obtain ⟨v9, hv9, hf⟩ := ob_s hf
      refine mc_X3_X3_bad S hC hD hK hP hS hv9 hl.1 ⟨Nat.le_of_ble_eq_true rfl, Nat.le_of_ble_eq_true rfl⟩ (Nat.le_of_ble_eq_true rfl) ⟨Nat.zero_le _, Nat.zero_le _⟩ dX3_readRule_34 (fun H locs hnv9 hP hS => ?_)
      have hE := Option.some.inj hf
      subst hE
      exact gt_wz S hr hlocks hnv9 hP hS dX3_readRule_37
  have w6 : ∀ (n : Nat) , ∀ (x1 : Int32) (fr : Int32) (tt : Int32) (kd : Int32) (nu : Int32) (fa : Int32) (pl : Int32) (wd : Int64) (rd : (Nat → Int32)) (ls : Array Slot) (H : Heap) (locs : List Loc), va_P D cl (mW mi cI cJ cB o ad th tp st fk fp ac si fr tt kd nu fa pl fo wd ci gr lm om nw rd aa kp ta nm rn gv gt rw rh lg lh ou) H → va_S (mA o ad) s.heap H locs → lv_has ls 2 [(0, .ref o), (1, .int x1)] → f_X3_readRule_6 n si ta x1 fr tt kd nu fa pl wd rd = some out → W p l e (rM 4 88) s m ([.ref o] : List Value).toArray below meth c H locs 0 0 (MQ below (gQ D cl (some (.int out.1)) (narrow .boolean (.int out.1) = .int out.1) (mW mi cI cJ cB o ad th tp st fk fp ac si out.2.1 out.2.2.1 out.2.2.2.1 out.2.2.2.2.1 out.2.2.2.2.2.1 out.2.2.2.2.2.2.1 fo out.2.2.2.2.2.2.2.1 ci gr lm om nw out.2.2.2.2.2.2.2.2 aa kp ta nm rn gv gt rw rh lg lh ou) (mA o ad)) ([.ref o] : List Value).toArray s 0 0 (mA o ad)) (F0 m 6 ls []) := by
    intro n
    induction n with
    | zero =>
      intro x1 fr tt kd nu fa pl wd rd ls H locs hP hS hl hf
      exact absurd hf (by rw [f_X3_readRule_6]; exact nofun)
    | succ n ih =>
      intro x1 fr tt kd nu fa pl wd rd ls H locs hP hS hl hf
      rw [f_X3_readRule_6] at hf
      refine lv_iload_n hx hb dX3_readRule_6 rfl (lv_at hl 1 rfl) ?_
      refine lv_bipush hx hb dX3_readRule_7 kc_b6 ?_
      refine lv_icmp_ge (tgt := 26) hx hb dX3_readRule_9 (by decide) (fun c1 => ?_) (fun c1 => ?_)
      · replace hf := it_t c1 hf
        exact (w26) x1 fr tt kd nu fa pl wd rd ls H locs hP hS hl hf
      · replace hf := it_f c1 hf
        refine lv_aload_n hx hb dX3_readRule_12 rfl (lv_at hl 0 rfl) ?_
        refine lv_iload_n hx hb dX3_readRule_13 rfl (lv_at hl 1 rfl) ?_
        obtain ⟨v2, hv2, hf⟩ := ob_s hf
        refine mc_X3_X3_isWord S hC hK hP hv2 hl.1 ⟨Nat.le_of_ble_eq_true rfl, Nat.le_of_ble_eq_true rfl⟩ (Nat.le_of_ble_eq_true rfl) ⟨Nat.zero_le _, Nat.zero_le _⟩ dX3_readRule_14 (fun hnv2 => ?_)
        refine lv_if_ne (tgt := 26) hx hb dX3_readRule_17 (by decide) (fun c3 => ?_) (fun c3 => ?_)
        · replace hf := it_f c3 hf
          exact (w26) x1 fr tt kd nu fa pl wd rd ls H locs hP hS hl hf
        · replace hf := it_t c3 hf
          refine lv_iinc (v := (x1 + 1)) (lv' := [(1, .int (x1 + 1)), (0, .ref o)]) hx hb dX3_readRule_20 hl (k := 1) rfl rfl (by decide) rfl (fun ls hl => ?_)
          refine lv_goto (tgt := 6) hx hb dX3_readRule_23 (by decide) ?_
          exact (ih) (x1 + 1) fr tt kd nu fa pl wd rd ls H locs hP hS (lv_sub (l' := [(0, .ref o), (1, .int (x1 + 1))]) hl [1, 0] rfl) hf
  suffices hg : ∀ (H : Heap) (locs : List Loc), va_P D cl (mW mi cI cJ cB o ad th tp st fk fp ac si fr tt kd nu fa pl fo wd ci gr lm om nw rd aa kp ta nm rn gv gt rw rh lg lh ou) H → va_S (mA o ad) s.heap H locs → W p l e (rM 4 88) s m ([.ref o] : List Value).toArray below meth c H locs 0 0 (MQ below (gQ D cl (some (.int out.1)) (narrow .boolean (.int out.1) = .int out.1) (mW mi cI cJ cB o ad th tp st fk fp ac si out.2.1 out.2.2.1 out.2.2.2.1 out.2.2.2.2.1 out.2.2.2.2.2.1 out.2.2.2.2.2.2.1 fo out.2.2.2.2.2.2.2.1 ci gr lm om nw out.2.2.2.2.2.2.2.2 aa kp ta nm rn gv gt rw rh lg lh ou) (mA o ad)) ([.ref o] : List Value).toArray s 0 0 (mA o ad)) (F0 m 0 ls []) from hg s.heap [] hP va_S.rf
  clear hP
  intro H locs hP hS
  rw [f_X3_readRule] at hf
  refine lv_aload_n hx hb dX3_readRule_0 rfl (lv_at hl 0 rfl) ?_
  obtain ⟨v1, hv1, hf⟩ := ob_s hf
  refine mc_X3_X3_go S hC hD hK hP hS hv1 hl.1 ⟨Nat.le_of_ble_eq_true rfl, Nat.le_of_ble_eq_true rfl⟩ (Nat.le_of_ble_eq_true rfl) ⟨Nat.zero_le _, Nat.zero_le _⟩ dX3_readRule_1 (fun H locs _ hP hS => ?_)
  refine lv_iconst hx hb dX3_readRule_4 kc_i0 ?_
  refine lv_istore_n (i := 1) (lv' := [(1, .int 0), (0, .ref o)]) hx hb dX3_readRule_5 rfl hl (by decide) rfl (fun ls hl => ?_)
  exact (w6 FU) 0 v1.1 v1.2.1 v1.2.2.1 v1.2.2.2.1 fa pl v1.2.2.2.2 rd ls H locs hP hS (lv_sub (l' := [(0, .ref o), (1, .int 0)]) hl [1, 0] rfl) hf
set_option maxRecDepth 100000 in
theorem mc_X3_X3_readRule  {out : Int32 × Int32 × Int32 × Int32 × Int32 × Int32 × Int32 × Int64 × (Nat → Int32)} (S : CallFix p m c cc nL s args lw_all RX3) (hC : mC cl tys mi cI cJ cB) (hD : mD o ad) (hK : va_K D cl tys s) (hP : va_P D cl (mW mi cI cJ cB o ad th tp st fk fp ac si fr tt kd nu fa pl fo wd ci gr lm om nw rd aa kp ta nm rn gv gt rw rh lg lh ou) H) (hS : va_S (mA o ad) H0 H locs) (hf : f_X3_readRule si ta fr tt kd nu fa pl wd rd = some out) (hsz : ls.size = nL) (hR : 4 + 1 ≤ R.frames ∧ 8 + (2 + 11) + 88 ≤ R.locals) (hW : (rest.map fun v => v.category).sum ≤ 8) (hcs : cells ≤ R.cells ∧ slots ≤ R.slots) (hdg : decode cc pc = .ok (.invokevirtual 183, 3)) (kk : ∀ (H1 : Heap) (locs1 : List Loc), (narrow .boolean (.int out.1) = .int out.1) → va_P D cl (mW mi cI cJ cB o ad th tp st fk fp ac si out.2.1 out.2.2.1 out.2.2.2.1 out.2.2.2.2.1 out.2.2.2.2.2.1 out.2.2.2.2.2.2.1 fo out.2.2.2.2.2.2.2.1 ci gr lm om nw out.2.2.2.2.2.2.2.2 aa kp ta nm rn gv gt rw rh lg lh ou) H1 → va_S (mA o ad) H0 H1 locs1 → W p l e R s m args below meth c H1 locs1 cells slots Q (F0 m (pc + 3) ls (.int out.1 :: rest))) : W p l e R s m args below meth c H locs cells slots Q (F0 m pc ls (.ref o :: rest)) :=
  gc_Vw (As := []) S (mm_X3_readRule hC hD hf) (cwV 0 S.2.2.2.2 (lw_V q2202 q2204 qs110 q189 q2205) rfl rfl rfl hd_X3_readRule hR) (gPreV hK hP hC.1 (q0 := 0) rfl) rfl hsz rfl hW hdg hcs hS kk
theorem hd_X3_isName : yX3_isName.cls = RX3 ∧ yX3_isName.cls ≠ "java/lang/invoke/MethodHandle" ∧ yX3_isName.cls ≠ "java/lang/invoke/VarHandle" ∧ (parseMethodDescriptor yX3_isName.desc).map (fun d => d.parameters.length) = some 0 := by decide +kernel
set_option maxHeartbeats 4000000 in
set_option maxRecDepth 100000 in
theorem mm_X3_isName  {out : Int32} (hC : mC cl tys mi cI cJ cB) (hf : f_X3_isName kd wd = some out) : Met l yX3_isName (ws_ yX3_isName cX3_isName 2 (some .boolean)) (rM 4 88) (gPc D cl tys [.ref o] (mW mi cI cJ cB o ad th tp st fk fp ac si fr tt kd nu fa pl fo wd ci gr lm om nw rd aa kp ta nm rn gv gt rw rh lg lh ou)) (gR (some (.int out)) (narrow .boolean (.int out) = .int out)) 0 0 (fun _ => False) := by
  refine gGo (by decide +kernel) (Nat.le_of_ble_eq_true rfl) (fun p e s m below meth c ls S hr hlocks hK hP hl => ?_)
  have S : CallFix p m c cX3_isName 2 s _ lw_all RX3 := S
  obtain ⟨hx, hb, hml, hown, hts⟩ := id S
  have hl : lv_has ls 2 [(0, .ref o)] := hl
  have w2 : ∀ (n : Nat) , ∀ (x1 : Int32) (ls : Array Slot), lv_has ls 2 [(0, .ref o), (1, .int x1)] → f_X3_isName_2 n kd wd x1 = some out → W p l e (rM 4 88) s m ([.ref o] : List Value).toArray below meth c s.heap [] 0 0 (MQ below (gR (some (.int out)) (narrow .boolean (.int out) = .int out)) ([.ref o] : List Value).toArray s 0 0 (fun _ => False)) (F0 m 2 ls []) := by
    intro n
    induction n with
    | zero =>
      intro x1 ls hl hf
      exact absurd hf (by rw [f_X3_isName_2]; exact nofun)
    | succ n ih =>
      intro x1 ls hl hf
      rw [f_X3_isName_2] at hf
      refine lv_iload_n hx hb dX3_isName_2 rfl (lv_at hl 1 rfl) ?_
      refine lv_bipush hx hb dX3_isName_3 kc_b9 ?_
      refine lv_icmp_gt (tgt := 24) hx hb dX3_isName_5 (by decide) (fun c1 => ?_) (fun c1 => ?_)
      · replace hf := it_t c1 hf
        refine lv_aload_n hx hb dX3_isName_24 rfl (lv_at hl 0 rfl) ?_
        refine mg_16 S hC hK hP dX3_isName_25 ?_
        refine lv_iconst hx hb dX3_isName_28 kc_i2 ?_
        refine lv_icmp_ne (tgt := 36) hx hb dX3_isName_29 (by decide) (fun c2 => ?_) (fun c2 => ?_)
        · replace hf := it_f c2 hf
          refine lv_iconst hx hb dX3_isName_36 kc_i0 ?_
          have hE := Option.some.inj hf
          subst hE
          exact gt_rz S hr hlocks nb0 dX3_isName_37
        · replace hf := it_t c2 hf
          refine lv_iconst hx hb dX3_isName_32 kc_i1 ?_
          refine lv_goto (tgt := 37) hx hb dX3_isName_33 (by decide) ?_
          have hE := Option.some.inj hf
          subst hE
          exact gt_rz S hr hlocks nb1 dX3_isName_37
      · replace hf := it_f c1 hf
        refine lv_aload_n hx hb dX3_isName_8 rfl (lv_at hl 0 rfl) ?_
        refine lv_iload_n hx hb dX3_isName_9 rfl (lv_at hl 1 rfl) ?_
        obtain ⟨v3, hv3, hf⟩ := ob_s hf
        refine mc_X3_X3_isWord S hC hK hP hv3 hl.1 ⟨Nat.le_of_ble_eq_true rfl, Nat.le_of_ble_eq_true rfl⟩ (Nat.le_of_ble_eq_true rfl) ⟨Nat.zero_le _, Nat.zero_le _⟩ dX3_isName_10 (fun hnv3 => ?_)
        refine lv_if_eq (tgt := 18) hx hb dX3_isName_13 (by decide) (fun c4 => ?_) (fun c4 => ?_)
        · replace hf := it_t c4 hf
          refine lv_iinc (v := (x1 + 1)) (lv' := [(1, .int (x1 + 1)), (0, .ref o)]) hx hb dX3_isName_18 hl (k := 1) rfl rfl (by decide) rfl (fun ls hl => ?_)
          refine lv_goto (tgt := 2) hx hb dX3_isName_21 (by decide) ?_
          exact (ih) (x1 + 1) ls (lv_sub (l' := [(0, .ref o), (1, .int (x1 + 1))]) hl [1, 0] rfl) hf
        · replace hf := it_f c4 hf
          refine lv_iconst hx hb dX3_isName_16 kc_i0 ?_
          have hE := Option.some.inj hf
          subst hE
          exact gt_rz S hr hlocks nb0 dX3_isName_17
  rw [f_X3_isName] at hf
  refine lv_iconst hx hb dX3_isName_0 kc_i0 ?_
  refine lv_istore_n (i := 1) (lv' := [(1, .int 0), (0, .ref o)]) hx hb dX3_isName_1 rfl hl (by decide) rfl (fun ls hl => ?_)
  exact (w2 FU) 0 ls (lv_sub (l' := [(0, .ref o), (1, .int 0)]) hl [1, 0] rfl) hf
set_option maxRecDepth 100000 in
theorem mc_X3_X3_isName  {out : Int32} (S : CallFix p m c cc nL s args lw_all RX3) (hC : mC cl tys mi cI cJ cB) (hK : va_K D cl tys s) (hP : va_P D cl (mW mi cI cJ cB o ad th tp st fk fp ac si fr tt kd nu fa pl fo wd ci gr lm om nw rd aa kp ta nm rn gv gt rw rh lg lh ou) H) (hf : f_X3_isName kd wd = some out) (hsz : ls.size = nL) (hR : 4 + 1 ≤ R.frames ∧ 8 + (2 + 11) + 88 ≤ R.locals) (hW : (rest.map fun v => v.category).sum ≤ 8) (hcs : cells ≤ R.cells ∧ slots ≤ R.slots) (hdg : decode cc pc = .ok (.invokevirtual 149, 3)) (kk : (narrow .boolean (.int out) = .int out) → W p l e R s m args below meth c H locs cells slots Q (F0 m (pc + 3) ls (.int out :: rest))) : W p l e R s m args below meth c H locs cells slots Q (F0 m pc ls (.ref o :: rest)) :=
  gc_Vr (As := []) S (mm_X3_isName hC hf) (cwV 0 S.2.2.2.2 (lw_V q2167 q2169 qs102 q189 q2170) rfl rfl rfl hd_X3_isName hR) (gPreV hK hP hC.1 (q0 := 0) rfl) rfl hsz rfl hW hdg hcs kk
theorem hd_X3_homeHere : yX3_homeHere.cls = RX3 ∧ yX3_homeHere.cls ≠ "java/lang/invoke/MethodHandle" ∧ yX3_homeHere.cls ≠ "java/lang/invoke/VarHandle" ∧ (parseMethodDescriptor yX3_homeHere.desc).map (fun d => d.parameters.length) = some 0 := by decide +kernel
set_option maxHeartbeats 4000000 in
set_option maxRecDepth 100000 in
theorem mm_X3_homeHere  {out : Int32} (hC : mC cl tys mi cI cJ cB) (hf : f_X3_homeHere wd rd rn = some out) : Met l yX3_homeHere (ws_ yX3_homeHere cX3_homeHere 2 (some .int)) (rM 0 0) (gPc D cl tys [.ref o] (mW mi cI cJ cB o ad th tp st fk fp ac si fr tt kd nu fa pl fo wd ci gr lm om nw rd aa kp ta nm rn gv gt rw rh lg lh ou)) (gR (some (.int out)) True) 0 0 (fun _ => False) := by
  refine gGo (by decide +kernel) (Nat.le_of_ble_eq_true rfl) (fun p e s m below meth c ls S hr hlocks hK hP hl => ?_)
  have S : CallFix p m c cX3_homeHere 2 s _ lw_all RX3 := S
  obtain ⟨hx, hb, hml, hown, hts⟩ := id S
  have hl : lv_has ls 2 [(0, .ref o)] := hl
  have w2 : ∀ (n : Nat) , ∀ (x1 : Int32) (ls : Array Slot), lv_has ls 2 [(0, .ref o), (1, .int x1)] → f_X3_homeHere_2 n wd rd rn x1 = some out → W p l e (rM 0 0) s m ([.ref o] : List Value).toArray below meth c s.heap [] 0 0 (MQ below (gR (some (.int out)) True) ([.ref o] : List Value).toArray s 0 0 (fun _ => False)) (F0 m 2 ls []) := by
    intro n
    induction n with
    | zero =>
      intro x1 ls hl hf
      exact absurd hf (by rw [f_X3_homeHere_2]; exact nofun)
    | succ n ih =>
      intro x1 ls hl hf
      rw [f_X3_homeHere_2] at hf
      refine lv_iload_n hx hb dX3_homeHere_2 rfl (lv_at hl 1 rfl) ?_
      refine lv_aload_n hx hb dX3_homeHere_3 rfl (lv_at hl 0 rfl) ?_
      refine mg_2 S hC hK hP dX3_homeHere_4 ?_
      refine lv_sipush hx hb dX3_homeHere_7 kc_s230 ?_
      refine ma_2 S hC hK hP kv_230_390 kn_230 dX3_homeHere_10 ?_
      refine lv_icmp_ge (tgt := 36) hx hb dX3_homeHere_11 (by decide) (fun c1 => ?_) (fun c1 => ?_)
      · replace hf := it_t c1 hf
        refine lv_iconst hx hb dX3_homeHere_36 kc_im1 ?_
        have hE := Option.some.inj hf
        subst hE
        exact gt_ri S hr hlocks trivial dX3_homeHere_37
      · replace hf := it_f c1 hf
        refine lv_aload_n hx hb dX3_homeHere_14 rfl (lv_at hl 0 rfl) ?_
        refine mg_7 S hC hK hP dX3_homeHere_15 ?_
        refine lv_iload_n hx hb dX3_homeHere_18 rfl (lv_at hl 1 rfl) ?_
        obtain ⟨g2, hf⟩ := gd_t hf
        refine ma_7 S hC hK hP (inR_vp g2) rfl dX3_homeHere_19 ?_
        refine lv_aload_n hx hb dX3_homeHere_20 rfl (lv_at hl 0 rfl) ?_
        refine mg_21 S hC hK hP dX3_homeHere_21 ?_
        refine W.lcmp hx hb dX3_homeHere_24 ?_
        refine lv_if_ne (tgt := 30) hx hb dX3_homeHere_25 (by decide) (fun c3 => ?_) (fun c3 => ?_)
        · replace hf := it_f c3 hf
          refine lv_iinc (v := (x1 + 1)) (lv' := [(1, .int (x1 + 1)), (0, .ref o)]) hx hb dX3_homeHere_30 hl (k := 1) rfl rfl (by decide) rfl (fun ls hl => ?_)
          refine lv_goto (tgt := 2) hx hb dX3_homeHere_33 (by decide) ?_
          exact (ih) (x1 + 1) ls (lv_sub (l' := [(0, .ref o), (1, .int (x1 + 1))]) hl [1, 0] rfl) hf
        · replace hf := it_t c3 hf
          refine lv_iload_n hx hb dX3_homeHere_28 rfl (lv_at hl 1 rfl) ?_
          have hE := Option.some.inj hf
          subst hE
          exact gt_ri S hr hlocks trivial dX3_homeHere_29
  rw [f_X3_homeHere] at hf
  refine lv_iconst hx hb dX3_homeHere_0 kc_i0 ?_
  refine lv_istore_n (i := 1) (lv' := [(1, .int 0), (0, .ref o)]) hx hb dX3_homeHere_1 rfl hl (by decide) rfl (fun ls hl => ?_)
  exact (w2 FU) 0 ls (lv_sub (l' := [(0, .ref o), (1, .int 0)]) hl [1, 0] rfl) hf
set_option maxRecDepth 100000 in
theorem mc_X3_X3_homeHere  {out : Int32} (S : CallFix p m c cc nL s args lw_all RX3) (hC : mC cl tys mi cI cJ cB) (hK : va_K D cl tys s) (hP : va_P D cl (mW mi cI cJ cB o ad th tp st fk fp ac si fr tt kd nu fa pl fo wd ci gr lm om nw rd aa kp ta nm rn gv gt rw rh lg lh ou) H) (hf : f_X3_homeHere wd rd rn = some out) (hsz : ls.size = nL) (hR : 0 + 1 ≤ R.frames ∧ 8 + (2 + 11) + 0 ≤ R.locals) (hW : (rest.map fun v => v.category).sum ≤ 8) (hcs : cells ≤ R.cells ∧ slots ≤ R.slots) (hdg : decode cc pc = .ok (.invokevirtual 145, 3)) (kk : True → W p l e R s m args below meth c H locs cells slots Q (F0 m (pc + 3) ls (.int out :: rest))) : W p l e R s m args below meth c H locs cells slots Q (F0 m pc ls (.ref o :: rest)) :=
  gc_Vr (As := []) S (mm_X3_homeHere hC hf) (cwV 0 S.2.2.2.2 (lw_V q2175 q2177 qs104 q189 q2178) rfl rfl rfl hd_X3_homeHere hR) (gPreV hK hP hC.1 (q0 := 0) rfl) rfl hsz rfl hW hdg hcs kk
theorem hd_X3_isTaken : yX3_isTaken.cls = RX3 ∧ yX3_isTaken.cls ≠ "java/lang/invoke/MethodHandle" ∧ yX3_isTaken.cls ≠ "java/lang/invoke/VarHandle" ∧ (parseMethodDescriptor yX3_isTaken.desc).map (fun d => d.parameters.length) = some 0 := by decide +kernel
set_option maxHeartbeats 4000000 in
set_option maxRecDepth 100000 in
theorem mm_X3_isTaken  {out : Int32} (hC : mC cl tys mi cI cJ cB) (hf : f_X3_isTaken wd rd rn = some out) : Met l yX3_isTaken (ws_ yX3_isTaken cX3_isTaken 2 (some .boolean)) (rM 1 21) (gPc D cl tys [.ref o] (mW mi cI cJ cB o ad th tp st fk fp ac si fr tt kd nu fa pl fo wd ci gr lm om nw rd aa kp ta nm rn gv gt rw rh lg lh ou)) (gR (some (.int out)) (narrow .boolean (.int out) = .int out)) 0 0 (fun _ => False) := by
  refine gGo (by decide +kernel) (Nat.le_of_ble_eq_true rfl) (fun p e s m below meth c ls S hr hlocks hK hP hl => ?_)
  have S : CallFix p m c cX3_isTaken 2 s _ lw_all RX3 := S
  obtain ⟨hx, hb, hml, hown, hts⟩ := id S
  have hl : lv_has ls 2 [(0, .ref o)] := hl
  have w2 : ∀ (n : Nat) , ∀ (x1 : Int32) (ls : Array Slot), lv_has ls 2 [(0, .ref o), (1, .int x1)] → f_X3_isTaken_2 n wd rd rn x1 = some out → W p l e (rM 1 21) s m ([.ref o] : List Value).toArray below meth c s.heap [] 0 0 (MQ below (gR (some (.int out)) (narrow .boolean (.int out) = .int out)) ([.ref o] : List Value).toArray s 0 0 (fun _ => False)) (F0 m 2 ls []) := by
    intro n
    induction n with
    | zero =>
      intro x1 ls hl hf
      exact absurd hf (by rw [f_X3_isTaken_2]; exact nofun)
    | succ n ih =>
      intro x1 ls hl hf
      rw [f_X3_isTaken_2] at hf
      refine lv_iload_n hx hb dX3_isTaken_2 rfl (lv_at hl 1 rfl) ?_
      refine lv_aload_n hx hb dX3_isTaken_3 rfl (lv_at hl 0 rfl) ?_
      refine mg_2 S hC hK hP dX3_isTaken_4 ?_
      refine lv_sipush hx hb dX3_isTaken_7 kc_s231 ?_
      refine ma_2 S hC hK hP kv_231_390 kn_231 dX3_isTaken_10 ?_
      refine lv_icmp_ge (tgt := 39) hx hb dX3_isTaken_11 (by decide) (fun c1 => ?_) (fun c1 => ?_)
      · replace hf := it_t c1 hf
        refine lv_aload_n hx hb dX3_isTaken_39 rfl (lv_at hl 0 rfl) ?_
        obtain ⟨v2, hv2, hf⟩ := ob_s hf
        refine mc_X3_X3_homeHere S hC hK hP hv2 hl.1 ⟨Nat.le_of_ble_eq_true rfl, Nat.le_of_ble_eq_true rfl⟩ (Nat.le_of_ble_eq_true rfl) ⟨Nat.zero_le _, Nat.zero_le _⟩ dX3_isTaken_40 (fun _ => ?_)
        refine lv_iconst hx hb dX3_isTaken_43 kc_im1 ?_
        refine lv_icmp_eq (tgt := 51) hx hb dX3_isTaken_44 (by decide) (fun c3 => ?_) (fun c3 => ?_)
        · replace hf := it_t c3 hf
          refine lv_iconst hx hb dX3_isTaken_51 kc_i0 ?_
          have hE := Option.some.inj hf
          subst hE
          exact gt_rz S hr hlocks nb0 dX3_isTaken_52
        · replace hf := it_f c3 hf
          refine lv_iconst hx hb dX3_isTaken_47 kc_i1 ?_
          refine lv_goto (tgt := 52) hx hb dX3_isTaken_48 (by decide) ?_
          have hE := Option.some.inj hf
          subst hE
          exact gt_rz S hr hlocks nb1 dX3_isTaken_52
      · replace hf := it_f c1 hf
        refine lv_aload_n hx hb dX3_isTaken_14 rfl (lv_at hl 0 rfl) ?_
        refine mg_7 S hC hK hP dX3_isTaken_15 ?_
        refine lv_bipush hx hb dX3_isTaken_18 kc_b10 ?_
        refine lv_iload_n hx hb dX3_isTaken_20 rfl (lv_at hl 1 rfl) ?_
        refine lv_iadd hx hb dX3_isTaken_21 ?_
        obtain ⟨g4, hf⟩ := gd_t hf
        refine ma_7 S hC hK hP (inR_vp g4) rfl dX3_isTaken_22 ?_
        refine lv_aload_n hx hb dX3_isTaken_23 rfl (lv_at hl 0 rfl) ?_
        refine mg_21 S hC hK hP dX3_isTaken_24 ?_
        refine W.lcmp hx hb dX3_isTaken_27 ?_
        refine lv_if_ne (tgt := 33) hx hb dX3_isTaken_28 (by decide) (fun c5 => ?_) (fun c5 => ?_)
        · replace hf := it_f c5 hf
          refine lv_iinc (v := (x1 + 1)) (lv' := [(1, .int (x1 + 1)), (0, .ref o)]) hx hb dX3_isTaken_33 hl (k := 1) rfl rfl (by decide) rfl (fun ls hl => ?_)
          refine lv_goto (tgt := 2) hx hb dX3_isTaken_36 (by decide) ?_
          exact (ih) (x1 + 1) ls (lv_sub (l' := [(0, .ref o), (1, .int (x1 + 1))]) hl [1, 0] rfl) hf
        · replace hf := it_t c5 hf
          refine lv_iconst hx hb dX3_isTaken_31 kc_i1 ?_
          have hE := Option.some.inj hf
          subst hE
          exact gt_rz S hr hlocks nb1 dX3_isTaken_32
  rw [f_X3_isTaken] at hf
  refine lv_iconst hx hb dX3_isTaken_0 kc_i0 ?_
  refine lv_istore_n (i := 1) (lv' := [(1, .int 0), (0, .ref o)]) hx hb dX3_isTaken_1 rfl hl (by decide) rfl (fun ls hl => ?_)
  exact (w2 FU) 0 ls (lv_sub (l' := [(0, .ref o), (1, .int 0)]) hl [1, 0] rfl) hf
set_option maxRecDepth 100000 in
theorem mc_X3_X3_isTaken  {out : Int32} (S : CallFix p m c cc nL s args lw_all RX3) (hC : mC cl tys mi cI cJ cB) (hK : va_K D cl tys s) (hP : va_P D cl (mW mi cI cJ cB o ad th tp st fk fp ac si fr tt kd nu fa pl fo wd ci gr lm om nw rd aa kp ta nm rn gv gt rw rh lg lh ou) H) (hf : f_X3_isTaken wd rd rn = some out) (hsz : ls.size = nL) (hR : 1 + 1 ≤ R.frames ∧ 8 + (2 + 11) + 21 ≤ R.locals) (hW : (rest.map fun v => v.category).sum ≤ 8) (hcs : cells ≤ R.cells ∧ slots ≤ R.slots) (hdg : decode cc pc = .ok (.invokevirtual 153, 3)) (kk : (narrow .boolean (.int out) = .int out) → W p l e R s m args below meth c H locs cells slots Q (F0 m (pc + 3) ls (.int out :: rest))) : W p l e R s m args below meth c H locs cells slots Q (F0 m pc ls (.ref o :: rest)) :=
  gc_Vr (As := []) S (mm_X3_isTaken hC hf) (cwV 0 S.2.2.2.2 (lw_V q2171 q2173 qs103 q189 q2174) rfl rfl rfl hd_X3_isTaken hR) (gPreV hK hP hC.1 (q0 := 0) rfl) rfl hsz rfl hW hdg hcs kk
theorem hd_X3_readName : yX3_readName.cls = RX3 ∧ yX3_readName.cls ≠ "java/lang/invoke/MethodHandle" ∧ yX3_readName.cls ≠ "java/lang/invoke/VarHandle" ∧ (parseMethodDescriptor yX3_readName.desc).map (fun d => d.parameters.length) = some 1 := by decide +kernel
set_option maxHeartbeats 4000000 in
set_option maxRecDepth 100000 in
theorem mm_X3_readName {a0 : Int32} {out : Int32 × Int32 × Int32 × Int32 × Int32 × Int32 × Int32 × Int64 × (Nat → Int64)} (hC : mC cl tys mi cI cJ cB) (hD : mD o ad) (hf : f_X3_readName si rd ta fr tt kd nu fa pl wd rn a0 = some out) : Met l yX3_readName (ws_ yX3_readName cX3_readName 2 (some .boolean)) (rM 5 109) (gPc D cl tys [.ref o, .int a0] (mW mi cI cJ cB o ad th tp st fk fp ac si fr tt kd nu fa pl fo wd ci gr lm om nw rd aa kp ta nm rn gv gt rw rh lg lh ou)) (gQ D cl (some (.int out.1)) (narrow .boolean (.int out.1) = .int out.1) (mW mi cI cJ cB o ad th tp st fk fp ac si out.2.1 out.2.2.1 out.2.2.2.1 out.2.2.2.2.1 out.2.2.2.2.2.1 out.2.2.2.2.2.2.1 fo out.2.2.2.2.2.2.2.1 ci gr lm om nw rd aa kp ta nm out.2.2.2.2.2.2.2.2 gv gt rw rh lg lh ou) (mA o ad)) 0 0 (mA o ad) := by
  refine gGo (by decide +kernel) (Nat.le_of_ble_eq_true rfl) (fun p e s m below meth c ls S hr hlocks hK hP hl => ?_)
  have S : CallFix p m c cX3_readName 2 s _ lw_all RX3 := S
  obtain ⟨hx, hb, hml, hown, hts⟩ := id S
  have hl : lv_has ls 2 [(0, .ref o), (1, .int a0)] := hl
  suffices hg : ∀ (H : Heap) (locs : List Loc), va_P D cl (mW mi cI cJ cB o ad th tp st fk fp ac si fr tt kd nu fa pl fo wd ci gr lm om nw rd aa kp ta nm rn gv gt rw rh lg lh ou) H → va_S (mA o ad) s.heap H locs → W p l e (rM 5 109) s m ([.ref o, .int a0] : List Value).toArray below meth c H locs 0 0 (MQ below (gQ D cl (some (.int out.1)) (narrow .boolean (.int out.1) = .int out.1) (mW mi cI cJ cB o ad th tp st fk fp ac si out.2.1 out.2.2.1 out.2.2.2.1 out.2.2.2.2.1 out.2.2.2.2.2.1 out.2.2.2.2.2.2.1 fo out.2.2.2.2.2.2.2.1 ci gr lm om nw rd aa kp ta nm out.2.2.2.2.2.2.2.2 gv gt rw rh lg lh ou) (mA o ad)) ([.ref o, .int a0] : List Value).toArray s 0 0 (mA o ad)) (F0 m 0 ls []) from hg s.heap [] hP va_S.rf
  clear hP
  intro H locs hP hS
  rw [f_X3_readName] at hf
  refine lv_aload_n hx hb dX3_readName_0 rfl (lv_at hl 0 rfl) ?_
  obtain ⟨v1, hv1, hf⟩ := ob_s hf
  refine mc_X3_X3_isName S hC hK hP hv1 hl.1 ⟨Nat.le_of_ble_eq_true rfl, Nat.le_of_ble_eq_true rfl⟩ (Nat.le_of_ble_eq_true rfl) ⟨Nat.zero_le _, Nat.zero_le _⟩ dX3_readName_1 (fun hnv1 => ?_)
  refine lv_if_ne (tgt := 13) hx hb dX3_readName_4 (by decide) (fun c2 => ?_) (fun c2 => ?_)
  · replace hf := it_f c2 hf
    refine lv_aload_n hx hb dX3_readName_13 rfl (lv_at hl 0 rfl) ?_
    obtain ⟨v3, hv3, hf⟩ := ob_s hf
    refine mc_X3_X3_isTaken S hC hK hP hv3 hl.1 ⟨Nat.le_of_ble_eq_true rfl, Nat.le_of_ble_eq_true rfl⟩ (Nat.le_of_ble_eq_true rfl) ⟨Nat.zero_le _, Nat.zero_le _⟩ dX3_readName_14 (fun hnv3 => ?_)
    refine lv_if_eq (tgt := 26) hx hb dX3_readName_17 (by decide) (fun c4 => ?_) (fun c4 => ?_)
    · replace hf := it_t c4 hf
      refine lv_aload_n hx hb dX3_readName_26 rfl (lv_at hl 0 rfl) ?_
      refine mg_7 S hC hK hP dX3_readName_27 ?_
      refine lv_iload_n hx hb dX3_readName_30 rfl (lv_at hl 1 rfl) ?_
      refine lv_aload_n hx hb dX3_readName_31 rfl (lv_at hl 0 rfl) ?_
      refine mg_21 S hC hK hP dX3_readName_32 ?_
      obtain ⟨g5, hf⟩ := gd_t hf
      refine ms_7 S hC hD hK hP hS (inR_vp g5) rfl dX3_readName_35 (fun H locs hP hS => ?_)
      refine lv_aload_n hx hb dX3_readName_36 rfl (lv_at hl 0 rfl) ?_
      obtain ⟨v6, hv6, hf⟩ := ob_s hf
      refine mc_X3_X3_go S hC hD hK hP hS hv6 hl.1 ⟨Nat.le_of_ble_eq_true rfl, Nat.le_of_ble_eq_true rfl⟩ (Nat.le_of_ble_eq_true rfl) ⟨Nat.zero_le _, Nat.zero_le _⟩ dX3_readName_37 (fun H locs _ hP hS => ?_)
      refine lv_iconst hx hb dX3_readName_40 kc_i1 ?_
      have hE := Option.some.inj hf
      subst hE
      exact gt_wz S hr hlocks nb1 hP hS dX3_readName_41
    · replace hf := it_f c4 hf
      refine lv_aload_n hx hb dX3_readName_20 rfl (lv_at hl 0 rfl) ?_
      refine lv_iconst hx hb dX3_readName_21 kc_i4 ?_
      obtain ⟨v7, hv7, hf⟩ := ob_s hf
      refine mc_X3_X3_bad S hC hD hK hP hS hv7 hl.1 ⟨Nat.le_of_ble_eq_true rfl, Nat.le_of_ble_eq_true rfl⟩ (Nat.le_of_ble_eq_true rfl) ⟨Nat.zero_le _, Nat.zero_le _⟩ dX3_readName_22 (fun H locs hnv7 hP hS => ?_)
      have hE := Option.some.inj hf
      subst hE
      exact gt_wz S hr hlocks hnv7 hP hS dX3_readName_25
  · replace hf := it_t c2 hf
    refine lv_aload_n hx hb dX3_readName_7 rfl (lv_at hl 0 rfl) ?_
    refine lv_iconst hx hb dX3_readName_8 kc_i2 ?_
    obtain ⟨v8, hv8, hf⟩ := ob_s hf
    refine mc_X3_X3_bad S hC hD hK hP hS hv8 hl.1 ⟨Nat.le_of_ble_eq_true rfl, Nat.le_of_ble_eq_true rfl⟩ (Nat.le_of_ble_eq_true rfl) ⟨Nat.zero_le _, Nat.zero_le _⟩ dX3_readName_9 (fun H locs hnv8 hP hS => ?_)
    have hE := Option.some.inj hf
    subst hE
    exact gt_wz S hr hlocks hnv8 hP hS dX3_readName_12
set_option maxRecDepth 100000 in
theorem mc_X3_X3_readName {a0 : Int32} {out : Int32 × Int32 × Int32 × Int32 × Int32 × Int32 × Int32 × Int64 × (Nat → Int64)} (S : CallFix p m c cc nL s args lw_all RX3) (hC : mC cl tys mi cI cJ cB) (hD : mD o ad) (hK : va_K D cl tys s) (hP : va_P D cl (mW mi cI cJ cB o ad th tp st fk fp ac si fr tt kd nu fa pl fo wd ci gr lm om nw rd aa kp ta nm rn gv gt rw rh lg lh ou) H) (hS : va_S (mA o ad) H0 H locs) (hf : f_X3_readName si rd ta fr tt kd nu fa pl wd rn a0 = some out) (hsz : ls.size = nL) (hR : 5 + 1 ≤ R.frames ∧ 8 + (2 + 11) + 109 ≤ R.locals) (hW : (rest.map fun v => v.category).sum ≤ 8) (hcs : cells ≤ R.cells ∧ slots ≤ R.slots) (hdg : decode cc pc = .ok (.invokevirtual 156, 3)) (kk : ∀ (H1 : Heap) (locs1 : List Loc), (narrow .boolean (.int out.1) = .int out.1) → va_P D cl (mW mi cI cJ cB o ad th tp st fk fp ac si out.2.1 out.2.2.1 out.2.2.2.1 out.2.2.2.2.1 out.2.2.2.2.2.1 out.2.2.2.2.2.2.1 fo out.2.2.2.2.2.2.2.1 ci gr lm om nw rd aa kp ta nm out.2.2.2.2.2.2.2.2 gv gt rw rh lg lh ou) H1 → va_S (mA o ad) H0 H1 locs1 → W p l e R s m args below meth c H1 locs1 cells slots Q (F0 m (pc + 3) ls (.int out.1 :: rest))) : W p l e R s m args below meth c H locs cells slots Q (F0 m pc ls (.int a0 :: .ref o :: rest)) :=
  gc_Vw (As := [.int a0]) S (mm_X3_readName hC hD hf) (cwV 1 S.2.2.2.2 (lw_V q2163 q2165 qs101 q189 q2166) rfl rfl rfl hd_X3_readName hR) (gPreV hK hP hC.1 (q0 := 0) rfl) rfl hsz rfl hW hdg hcs hS kk
theorem hd_X3_at : yX3_at.cls ≠ "java/lang/invoke/MethodHandle" ∧ yX3_at.cls ≠ "java/lang/invoke/VarHandle" ∧ (parseMethodDescriptor yX3_at.desc).map (fun d => d.parameters.length) = some 2 := by decide +kernel
set_option maxHeartbeats 4000000 in
set_option maxRecDepth 100000 in
theorem mm_X3_at {a0 : Int32} {a1 : Int32} {out : Int32} (hf : f_X3_at a0 a1 = some out) : Met l yX3_at (ws_ yX3_at cX3_at 2 (some .int)) (rM 0 0) (gPc D cl tys [.int a0, .int a1] []) (gR (some (.int out)) True) 0 0 (fun _ => False) := by
  refine gGo (by decide +kernel) (Nat.le_of_ble_eq_true rfl) (fun p e s m below meth c ls S hr hlocks hK hP hl => ?_)
  have S : CallFix p m c cX3_at 2 s _ lw_all RX3 := S
  obtain ⟨hx, hb, hml, hown, hts⟩ := id S
  have hl : lv_has ls 2 [(0, .int a0), (1, .int a1)] := hl
  rw [f_X3_at] at hf
  refine lv_bipush hx hb dX3_at_0 kc_b80 ?_
  refine lv_bipush hx hb dX3_at_2 kc_b18 ?_
  refine lv_iload_n hx hb dX3_at_4 rfl (lv_at hl 0 rfl) ?_
  refine lv_imul hx hb dX3_at_5 ?_
  refine lv_iadd hx hb dX3_at_6 ?_
  refine lv_iload_n hx hb dX3_at_7 rfl (lv_at hl 1 rfl) ?_
  refine lv_iadd hx hb dX3_at_8 ?_
  have hE := Option.some.inj hf
  subst hE
  exact gt_ri S hr hlocks trivial dX3_at_9
set_option maxRecDepth 100000 in
theorem mc_X3_X3_at {a0 : Int32} {a1 : Int32} {out : Int32} (S : CallFix p m c cc nL s args lw_all RX3) (hK : va_K D cl tys s) (hf : f_X3_at a0 a1 = some out) (hsz : ls.size = nL) (hR : 0 + 1 ≤ R.frames ∧ 8 + (2 + 11) + 0 ≤ R.locals) (hW : (rest.map fun v => v.category).sum ≤ 8) (hcs : cells ≤ R.cells ∧ slots ≤ R.slots) (hdg : decode cc pc = .ok (.invokestatic 75, 3)) (kk : True → W p l e R s m args below meth c H locs cells slots Q (F0 m (pc + 3) ls (.int out :: rest))) : W p l e R s m args below meth c H locs cells slots Q (F0 m pc ls (.int a1 :: .int a0 :: rest)) :=
  gc_Sr (As := [.int a0, .int a1]) S (mm_X3_at hf) (va_cwS 2 S.2.2.2.2 (lw_S q2191 q2192 q189 q2193) rfl rfl rfl hd_X3_at hR) (gPreS hK gP0) rfl hsz rfl hW hdg hcs kk
theorem hd_X3_readIn : yX3_readIn.cls = RX3 ∧ yX3_readIn.cls ≠ "java/lang/invoke/MethodHandle" ∧ yX3_readIn.cls ≠ "java/lang/invoke/VarHandle" ∧ (parseMethodDescriptor yX3_readIn.desc).map (fun d => d.parameters.length) = some 1 := by decide +kernel
set_option maxHeartbeats 4000000 in
set_option maxRecDepth 100000 in
theorem mm_X3_readIn {a0 : Int32} {out : Int32 × Int32 × Int32 × Int32 × Int32 × Int32 × Int32 × Int64 × (Nat → Int32)} (hC : mC cl tys mi cI cJ cB) (hD : mD o ad) (hf : f_X3_readIn si ta rn fr tt kd nu fa pl wd rd a0 = some out) : Met l yX3_readIn (ws_ yX3_readIn cX3_readIn 3 (some .boolean)) (rM 5 109) (gPc D cl tys [.ref o, .int a0] (mW mi cI cJ cB o ad th tp st fk fp ac si fr tt kd nu fa pl fo wd ci gr lm om nw rd aa kp ta nm rn gv gt rw rh lg lh ou)) (gQ D cl (some (.int out.1)) (narrow .boolean (.int out.1) = .int out.1) (mW mi cI cJ cB o ad th tp st fk fp ac si out.2.1 out.2.2.1 out.2.2.2.1 out.2.2.2.2.1 out.2.2.2.2.2.1 out.2.2.2.2.2.2.1 fo out.2.2.2.2.2.2.2.1 ci gr lm om nw out.2.2.2.2.2.2.2.2 aa kp ta nm rn gv gt rw rh lg lh ou) (mA o ad)) 0 0 (mA o ad) := by
  refine gGo (by decide +kernel) (Nat.le_of_ble_eq_true rfl) (fun p e s m below meth c ls S hr hlocks hK hP hl => ?_)
  have S : CallFix p m c cX3_readIn 3 s _ lw_all RX3 := S
  obtain ⟨hx, hb, hml, hown, hts⟩ := id S
  have hl : lv_has ls 3 [(0, .ref o), (1, .int a0)] := hl
  have w42 : ∀ (fr : Int32) (tt : Int32) (kd : Int32) (nu : Int32) (fa : Int32) (pl : Int32) (wd : Int64) (rd : (Nat → Int32)) (ls : Array Slot) (H : Heap) (locs : List Loc), va_P D cl (mW mi cI cJ cB o ad th tp st fk fp ac si fr tt kd nu fa pl fo wd ci gr lm om nw rd aa kp ta nm rn gv gt rw rh lg lh ou) H → va_S (mA o ad) s.heap H locs → lv_has ls 3 [(0, .ref o)] → f_X3_readIn_42 si ta rn fr tt kd nu fa pl wd rd = some out → W p l e (rM 5 109) s m ([.ref o, .int a0] : List Value).toArray below meth c H locs 0 0 (MQ below (gQ D cl (some (.int out.1)) (narrow .boolean (.int out.1) = .int out.1) (mW mi cI cJ cB o ad th tp st fk fp ac si out.2.1 out.2.2.1 out.2.2.2.1 out.2.2.2.2.1 out.2.2.2.2.2.1 out.2.2.2.2.2.2.1 fo out.2.2.2.2.2.2.2.1 ci gr lm om nw out.2.2.2.2.2.2.2.2 aa kp ta nm rn gv gt rw rh lg lh ou) (mA o ad)) ([.ref o, .int a0] : List Value).toArray s 0 0 (mA o ad)) (F0 m 42 ls []) := by
    intro fr tt kd nu fa pl wd rd ls H locs hP hS hl hf
    rw [f_X3_readIn_42] at hf
    refine lv_aload_n hx hb dX3_readIn_42 rfl (lv_at hl 0 rfl) ?_
    refine lv_iconst hx hb dX3_readIn_43 kc_i4 ?_
    obtain ⟨v1, hv1, hf⟩ := ob_s hf
    refine mc_X3_X3_bad S hC hD hK hP hS hv1 hl.1 ⟨Nat.le_of_ble_eq_true rfl, Nat.le_of_ble_eq_true rfl⟩ (Nat.le_of_ble_eq_true rfl) ⟨Nat.zero_le _, Nat.zero_le _⟩ dX3_readIn_44 (fun H locs hnv1 hP hS => ?_)
    have hE := Option.some.inj hf
    subst hE
    exact gt_wz S hr hlocks hnv1 hP hS dX3_readIn_47
  suffices hg : ∀ (H : Heap) (locs : List Loc), va_P D cl (mW mi cI cJ cB o ad th tp st fk fp ac si fr tt kd nu fa pl fo wd ci gr lm om nw rd aa kp ta nm rn gv gt rw rh lg lh ou) H → va_S (mA o ad) s.heap H locs → W p l e (rM 5 109) s m ([.ref o, .int a0] : List Value).toArray below meth c H locs 0 0 (MQ below (gQ D cl (some (.int out.1)) (narrow .boolean (.int out.1) = .int out.1) (mW mi cI cJ cB o ad th tp st fk fp ac si out.2.1 out.2.2.1 out.2.2.2.1 out.2.2.2.2.1 out.2.2.2.2.2.1 out.2.2.2.2.2.2.1 fo out.2.2.2.2.2.2.2.1 ci gr lm om nw out.2.2.2.2.2.2.2.2 aa kp ta nm rn gv gt rw rh lg lh ou) (mA o ad)) ([.ref o, .int a0] : List Value).toArray s 0 0 (mA o ad)) (F0 m 0 ls []) from hg s.heap [] hP va_S.rf
  clear hP
  intro H locs hP hS
  rw [f_X3_readIn] at hf
  refine lv_aload_n hx hb dX3_readIn_0 rfl (lv_at hl 0 rfl) ?_
  obtain ⟨v1, hv1, hf⟩ := ob_s hf
  refine mc_X3_X3_go S hC hD hK hP hS hv1 hl.1 ⟨Nat.le_of_ble_eq_true rfl, Nat.le_of_ble_eq_true rfl⟩ (Nat.le_of_ble_eq_true rfl) ⟨Nat.zero_le _, Nat.zero_le _⟩ dX3_readIn_1 (fun H locs _ hP hS => ?_)
  refine lv_aload_n hx hb dX3_readIn_4 rfl (lv_at hl 0 rfl) ?_
  obtain ⟨v2, hv2, hf⟩ := ob_s hf
  refine mc_X3_X3_isName S hC hK hP hv2 hl.1 ⟨Nat.le_of_ble_eq_true rfl, Nat.le_of_ble_eq_true rfl⟩ (Nat.le_of_ble_eq_true rfl) ⟨Nat.zero_le _, Nat.zero_le _⟩ dX3_readIn_5 (fun hnv2 => ?_)
  refine lv_if_ne (tgt := 17) hx hb dX3_readIn_8 (by decide) (fun c3 => ?_) (fun c3 => ?_)
  · replace hf := it_f c3 hf
    refine lv_aload_n hx hb dX3_readIn_17 rfl (lv_at hl 0 rfl) ?_
    obtain ⟨v4, hv4, hf⟩ := ob_s hf
    refine mc_X3_X3_homeHere S hC hK hP hv4 hl.1 ⟨Nat.le_of_ble_eq_true rfl, Nat.le_of_ble_eq_true rfl⟩ (Nat.le_of_ble_eq_true rfl) ⟨Nat.zero_le _, Nat.zero_le _⟩ dX3_readIn_18 (fun _ => ?_)
    refine lv_istore_n (i := 2) (lv' := [(2, .int v4), (0, .ref o), (1, .int a0)]) hx hb dX3_readIn_21 rfl hl (by decide) rfl (fun ls hl => ?_)
    refine lv_iload_n hx hb dX3_readIn_22 rfl (lv_at hl 0 rfl) ?_
    refine lv_iconst hx hb dX3_readIn_23 kc_im1 ?_
    refine lv_icmp_eq (tgt := 42) hx hb dX3_readIn_24 (by decide) (fun c5 => ?_) (fun c5 => ?_)
    · replace hf := it_t c5 hf
      exact (w42) v1.1 v1.2.1 v1.2.2.1 v1.2.2.2.1 fa pl v1.2.2.2.2 rd ls H locs hP hS (lv_sub (l' := [(0, .ref o)]) hl [1] rfl) hf
    · replace hf := it_f c5 hf
      refine lv_aload_n hx hb dX3_readIn_27 rfl (lv_at hl 1 rfl) ?_
      refine mg_2 S hC hK hP dX3_readIn_28 ?_
      refine lv_bipush hx hb dX3_readIn_31 kc_b8 ?_
      refine lv_iload_n hx hb dX3_readIn_33 rfl (lv_at hl 0 rfl) ?_
      refine lv_imul hx hb dX3_readIn_34 ?_
      refine lv_iconst hx hb dX3_readIn_35 kc_i2 ?_
      refine lv_iadd hx hb dX3_readIn_36 ?_
      obtain ⟨g6, hf⟩ := gd_t hf
      refine ma_2 S hC hK hP (inR_vp g6) rfl dX3_readIn_37 ?_
      refine lv_iconst hx hb dX3_readIn_38 kc_im1 ?_
      refine lv_icmp_eq (tgt := 48) hx hb dX3_readIn_39 (by decide) (fun c7 => ?_) (fun c7 => ?_)
      · replace hf := it_t c7 hf
        refine lv_aload_n hx hb dX3_readIn_48 rfl (lv_at hl 1 rfl) ?_
        refine mg_2 S hC hK hP dX3_readIn_49 ?_
        refine lv_iload_n hx hb dX3_readIn_52 rfl (lv_at hl 2 rfl) ?_
        refine lv_iconst hx hb dX3_readIn_53 kc_i4 ?_
        obtain ⟨v8, hv8, hf⟩ := ob_s hf
        refine mc_X3_X3_at S hK hv8 hl.1 ⟨Nat.le_of_ble_eq_true rfl, Nat.le_of_ble_eq_true rfl⟩ (Nat.le_of_ble_eq_true rfl) ⟨Nat.zero_le _, Nat.zero_le _⟩ dX3_readIn_54 (fun _ => ?_)
        refine lv_iload_n hx hb dX3_readIn_57 rfl (lv_at hl 0 rfl) ?_
        obtain ⟨g9, hf⟩ := gd_t hf
        refine ms_2 S hC hD hK hP hS (inR_vp g9) rfl dX3_readIn_58 (fun H locs hP hS => ?_)
        refine lv_aload_n hx hb dX3_readIn_59 rfl (lv_at hl 1 rfl) ?_
        refine mg_2 S hC hK hP dX3_readIn_60 ?_
        refine lv_bipush hx hb dX3_readIn_63 kc_b8 ?_
        refine lv_iload_n hx hb dX3_readIn_65 rfl (lv_at hl 0 rfl) ?_
        refine lv_imul hx hb dX3_readIn_66 ?_
        refine lv_iconst hx hb dX3_readIn_67 kc_i2 ?_
        refine lv_iadd hx hb dX3_readIn_68 ?_
        refine lv_iload_n hx hb dX3_readIn_69 rfl (lv_at hl 2 rfl) ?_
        obtain ⟨g10, hf⟩ := gd_t hf
        refine ms_2 S hC hD hK hP hS (inR_vp g10) rfl dX3_readIn_70 (fun H locs hP hS => ?_)
        refine lv_aload_n hx hb dX3_readIn_71 rfl (lv_at hl 1 rfl) ?_
        obtain ⟨v11, hv11, hf⟩ := ob_s hf
        refine mc_X3_X3_go S hC hD hK hP hS hv11 hl.1 ⟨Nat.le_of_ble_eq_true rfl, Nat.le_of_ble_eq_true rfl⟩ (Nat.le_of_ble_eq_true rfl) ⟨Nat.zero_le _, Nat.zero_le _⟩ dX3_readIn_72 (fun H locs _ hP hS => ?_)
        refine lv_iconst hx hb dX3_readIn_75 kc_i1 ?_
        have hE := Option.some.inj hf
        subst hE
        exact gt_wz S hr hlocks nb1 hP hS dX3_readIn_76
      · replace hf := it_f c7 hf
        exact (w42) v1.1 v1.2.1 v1.2.2.1 v1.2.2.2.1 fa pl v1.2.2.2.2 rd ls H locs hP hS (lv_sub (l' := [(0, .ref o)]) hl [1] rfl) hf
  · replace hf := it_t c3 hf
    refine lv_aload_n hx hb dX3_readIn_11 rfl (lv_at hl 0 rfl) ?_
    refine lv_iconst hx hb dX3_readIn_12 kc_i2 ?_
    obtain ⟨v12, hv12, hf⟩ := ob_s hf
    refine mc_X3_X3_bad S hC hD hK hP hS hv12 hl.1 ⟨Nat.le_of_ble_eq_true rfl, Nat.le_of_ble_eq_true rfl⟩ (Nat.le_of_ble_eq_true rfl) ⟨Nat.zero_le _, Nat.zero_le _⟩ dX3_readIn_13 (fun H locs hnv12 hP hS => ?_)
    have hE := Option.some.inj hf
    subst hE
    exact gt_wz S hr hlocks hnv12 hP hS dX3_readIn_16
set_option maxRecDepth 100000 in
theorem mc_X3_X3_readIn {a0 : Int32} {out : Int32 × Int32 × Int32 × Int32 × Int32 × Int32 × Int32 × Int64 × (Nat → Int32)} (S : CallFix p m c cc nL s args lw_all RX3) (hC : mC cl tys mi cI cJ cB) (hD : mD o ad) (hK : va_K D cl tys s) (hP : va_P D cl (mW mi cI cJ cB o ad th tp st fk fp ac si fr tt kd nu fa pl fo wd ci gr lm om nw rd aa kp ta nm rn gv gt rw rh lg lh ou) H) (hS : va_S (mA o ad) H0 H locs) (hf : f_X3_readIn si ta rn fr tt kd nu fa pl wd rd a0 = some out) (hsz : ls.size = nL) (hR : 5 + 1 ≤ R.frames ∧ 8 + (3 + 11) + 109 ≤ R.locals) (hW : (rest.map fun v => v.category).sum ≤ 8) (hcs : cells ≤ R.cells ∧ slots ≤ R.slots) (hdg : decode cc pc = .ok (.invokevirtual 165, 3)) (kk : ∀ (H1 : Heap) (locs1 : List Loc), (narrow .boolean (.int out.1) = .int out.1) → va_P D cl (mW mi cI cJ cB o ad th tp st fk fp ac si out.2.1 out.2.2.1 out.2.2.2.1 out.2.2.2.2.1 out.2.2.2.2.2.1 out.2.2.2.2.2.2.1 fo out.2.2.2.2.2.2.2.1 ci gr lm om nw out.2.2.2.2.2.2.2.2 aa kp ta nm rn gv gt rw rh lg lh ou) H1 → va_S (mA o ad) H0 H1 locs1 → W p l e R s m args below meth c H1 locs1 cells slots Q (F0 m (pc + 3) ls (.int out.1 :: rest))) : W p l e R s m args below meth c H locs cells slots Q (F0 m pc ls (.int a0 :: .ref o :: rest)) :=
  gc_Vw (As := [.int a0]) S (mm_X3_readIn hC hD hf) (cwV 1 S.2.2.2.2 (lw_V q2194 q2196 qs108 q189 q2197) rfl rfl rfl hd_X3_readIn hR) (gPreV hK hP hC.1 (q0 := 0) rfl) rfl hsz rfl hW hdg hcs hS kk
theorem hd_X3_readWish : yX3_readWish.cls = RX3 ∧ yX3_readWish.cls ≠ "java/lang/invoke/MethodHandle" ∧ yX3_readWish.cls ≠ "java/lang/invoke/VarHandle" ∧ (parseMethodDescriptor yX3_readWish.desc).map (fun d => d.parameters.length) = some 1 := by decide +kernel
set_option maxHeartbeats 4000000 in
set_option maxRecDepth 100000 in
theorem mm_X3_readWish {a0 : Int32} {out : Int32 × Int32 × Int32 × Int32 × Int32 × Int32 × Int32 × Int64 × (Nat → Int32)} (hC : mC cl tys mi cI cJ cB) (hD : mD o ad) (hf : f_X3_readWish si ta rn fr tt kd nu fa pl wd rd a0 = some out) : Met l yX3_readWish (ws_ yX3_readWish cX3_readWish 5 (some .boolean)) (rM 2 42) (gPc D cl tys [.ref o, .int a0] (mW mi cI cJ cB o ad th tp st fk fp ac si fr tt kd nu fa pl fo wd ci gr lm om nw rd aa kp ta nm rn gv gt rw rh lg lh ou)) (gQ D cl (some (.int out.1)) (narrow .boolean (.int out.1) = .int out.1) (mW mi cI cJ cB o ad th tp st fk fp ac si out.2.1 out.2.2.1 out.2.2.2.1 out.2.2.2.2.1 out.2.2.2.2.2.1 out.2.2.2.2.2.2.1 fo out.2.2.2.2.2.2.2.1 ci gr lm om nw out.2.2.2.2.2.2.2.2 aa kp ta nm rn gv gt rw rh lg lh ou) (mA o ad)) 0 0 (mA o ad) := by
  refine gGo (by decide +kernel) (Nat.le_of_ble_eq_true rfl) (fun p e s m below meth c ls S hr hlocks hK hP hl => ?_)
  have S : CallFix p m c cX3_readWish 5 s _ lw_all RX3 := S
  obtain ⟨hx, hb, hml, hown, hts⟩ := id S
  have hl : lv_has ls 5 [(0, .ref o), (1, .int a0)] := hl
  have w31 : ∀ (n : Nat) , ∀ (x1 : Int32) (x2 : Int32) (x3 : Int32) (x4 : Int32) (fr : Int32) (tt : Int32) (kd : Int32) (nu : Int32) (fa : Int32) (pl : Int32) (wd : Int64) (rd : (Nat → Int32)) (ls : Array Slot) (H : Heap) (locs : List Loc), va_P D cl (mW mi cI cJ cB o ad th tp st fk fp ac si fr tt kd nu fa pl fo wd ci gr lm om nw rd aa kp ta nm rn gv gt rw rh lg lh ou) H → va_S (mA o ad) s.heap H locs → lv_has ls 5 [(0, .ref o), (1, .int x1), (2, .int x2), (3, .int x3), (4, .int x4)] → f_X3_readWish_31 n si ta rn x1 x2 x3 x4 fr tt kd nu fa pl wd rd = some out → W p l e (rM 2 42) s m ([.ref o, .int a0] : List Value).toArray below meth c H locs 0 0 (MQ below (gQ D cl (some (.int out.1)) (narrow .boolean (.int out.1) = .int out.1) (mW mi cI cJ cB o ad th tp st fk fp ac si out.2.1 out.2.2.1 out.2.2.2.1 out.2.2.2.2.1 out.2.2.2.2.2.1 out.2.2.2.2.2.2.1 fo out.2.2.2.2.2.2.2.1 ci gr lm om nw out.2.2.2.2.2.2.2.2 aa kp ta nm rn gv gt rw rh lg lh ou) (mA o ad)) ([.ref o, .int a0] : List Value).toArray s 0 0 (mA o ad)) (F0 m 31 ls []) := by
    intro n
    induction n with
    | zero =>
      intro x1 x2 x3 x4 fr tt kd nu fa pl wd rd ls H locs hP hS hl hf
      exact absurd hf (by rw [f_X3_readWish_31]; exact nofun)
    | succ n ih =>
      intro x1 x2 x3 x4 fr tt kd nu fa pl wd rd ls H locs hP hS hl hf
      rw [f_X3_readWish_31] at hf
      refine lv_iload hx hb dX3_readWish_31 (lv_at hl 4 rfl) ?_
      refine lv_iload_n hx hb dX3_readWish_33 rfl (lv_at hl 3 rfl) ?_
      refine lv_icmp_ge (tgt := 67) hx hb dX3_readWish_34 (by decide) (fun c1 => ?_) (fun c1 => ?_)
      · replace hf := it_t c1 hf
        refine lv_iload_n hx hb dX3_readWish_67 rfl (lv_at hl 3 rfl) ?_
        refine lv_bipush hx hb dX3_readWish_68 kc_b6 ?_
        refine lv_icmp_ne (tgt := 79) hx hb dX3_readWish_70 (by decide) (fun c2 => ?_) (fun c2 => ?_)
        · replace hf := it_f c2 hf
          refine lv_aload_n hx hb dX3_readWish_79 rfl (lv_at hl 0 rfl) ?_
          refine mg_2 S hC hK hP dX3_readWish_80 ?_
          refine lv_iload_n hx hb dX3_readWish_83 rfl (lv_at hl 1 rfl) ?_
          refine lv_bipush hx hb dX3_readWish_84 kc_b12 ?_
          refine lv_iload_n hx hb dX3_readWish_86 rfl (lv_at hl 3 rfl) ?_
          refine lv_iadd hx hb dX3_readWish_87 ?_
          obtain ⟨v3, hv3, hf⟩ := ob_s hf
          refine mc_X3_X3_at S hK hv3 hl.1 ⟨Nat.le_of_ble_eq_true rfl, Nat.le_of_ble_eq_true rfl⟩ (Nat.le_of_ble_eq_true rfl) ⟨Nat.zero_le _, Nat.zero_le _⟩ dX3_readWish_88 (fun _ => ?_)
          refine lv_iload_n hx hb dX3_readWish_91 rfl (lv_at hl 2 rfl) ?_
          obtain ⟨g4, hf⟩ := gd_t hf
          refine ms_2 S hC hD hK hP hS (inR_vp g4) rfl dX3_readWish_92 (fun H locs hP hS => ?_)
          refine lv_aload_n hx hb dX3_readWish_93 rfl (lv_at hl 0 rfl) ?_
          refine mg_2 S hC hK hP dX3_readWish_94 ?_
          refine lv_iload_n hx hb dX3_readWish_97 rfl (lv_at hl 1 rfl) ?_
          refine lv_bipush hx hb dX3_readWish_98 kc_b11 ?_
          obtain ⟨v5, hv5, hf⟩ := ob_s hf
          refine mc_X3_X3_at S hK hv5 hl.1 ⟨Nat.le_of_ble_eq_true rfl, Nat.le_of_ble_eq_true rfl⟩ (Nat.le_of_ble_eq_true rfl) ⟨Nat.zero_le _, Nat.zero_le _⟩ dX3_readWish_100 (fun _ => ?_)
          refine lv_dup2_11 hx hb dX3_readWish_103 rfl rfl ?_
          obtain ⟨g6, hf⟩ := gd_t hf
          refine ma_2 S hC hK hP (inR_vp g6) rfl dX3_readWish_104 ?_
          refine lv_iconst hx hb dX3_readWish_105 kc_i1 ?_
          refine lv_iadd hx hb dX3_readWish_106 ?_
          obtain ⟨g7, hf⟩ := gd_t hf
          refine ms_2 S hC hD hK hP hS (inR_vp g7) rfl dX3_readWish_107 (fun H locs hP hS => ?_)
          obtain ⟨m8, em8⟩ : ∃ z, z = (upd (upd rd v3.toNatClampNeg x2) v5.toNatClampNeg (((upd rd v3.toNatClampNeg x2) v5.toNatClampNeg) + 1)) := ⟨_, rfl⟩
          replace hf := bd_e em8 hf
          rw [← em8] at hP
          refine lv_aload_n hx hb dX3_readWish_108 rfl (lv_at hl 0 rfl) ?_
          obtain ⟨v9, hv9, hf⟩ := ob_s hf
          refine mc_X3_X3_go S hC hD hK hP hS hv9 hl.1 ⟨Nat.le_of_ble_eq_true rfl, Nat.le_of_ble_eq_true rfl⟩ (Nat.le_of_ble_eq_true rfl) ⟨Nat.zero_le _, Nat.zero_le _⟩ dX3_readWish_109 (fun H locs _ hP hS => ?_)
          refine lv_iconst hx hb dX3_readWish_112 kc_i1 ?_
          have hE := Option.some.inj hf
          subst hE
          exact gt_wz S hr hlocks nb1 hP hS dX3_readWish_113
        · replace hf := it_t c2 hf
          refine lv_aload_n hx hb dX3_readWish_73 rfl (lv_at hl 0 rfl) ?_
          refine lv_iconst hx hb dX3_readWish_74 kc_i5 ?_
          obtain ⟨v10, hv10, hf⟩ := ob_s hf
          refine mc_X3_X3_bad S hC hD hK hP hS hv10 hl.1 ⟨Nat.le_of_ble_eq_true rfl, Nat.le_of_ble_eq_true rfl⟩ (Nat.le_of_ble_eq_true rfl) ⟨Nat.zero_le _, Nat.zero_le _⟩ dX3_readWish_75 (fun H locs hnv10 hP hS => ?_)
          have hE := Option.some.inj hf
          subst hE
          exact gt_wz S hr hlocks hnv10 hP hS dX3_readWish_78
      · replace hf := it_f c1 hf
        refine lv_aload_n hx hb dX3_readWish_37 rfl (lv_at hl 0 rfl) ?_
        refine mg_2 S hC hK hP dX3_readWish_38 ?_
        refine lv_iload_n hx hb dX3_readWish_41 rfl (lv_at hl 1 rfl) ?_
        refine lv_bipush hx hb dX3_readWish_42 kc_b12 ?_
        refine lv_iload hx hb dX3_readWish_44 (lv_at hl 4 rfl) ?_
        refine lv_iadd hx hb dX3_readWish_46 ?_
        obtain ⟨v11, hv11, hf⟩ := ob_s hf
        refine mc_X3_X3_at S hK hv11 hl.1 ⟨Nat.le_of_ble_eq_true rfl, Nat.le_of_ble_eq_true rfl⟩ (Nat.le_of_ble_eq_true rfl) ⟨Nat.zero_le _, Nat.zero_le _⟩ dX3_readWish_47 (fun _ => ?_)
        obtain ⟨g12, hf⟩ := gd_t hf
        refine ma_2 S hC hK hP (inR_vp g12) rfl dX3_readWish_50 ?_
        refine lv_iload_n hx hb dX3_readWish_51 rfl (lv_at hl 2 rfl) ?_
        refine lv_icmp_ne (tgt := 61) hx hb dX3_readWish_52 (by decide) (fun c13 => ?_) (fun c13 => ?_)
        · replace hf := it_f c13 hf
          refine lv_iinc (v := (x4 + 1)) (lv' := [(4, .int (x4 + 1)), (0, .ref o), (1, .int x1), (2, .int x2), (3, .int x3)]) hx hb dX3_readWish_61 hl (k := 4) rfl rfl (by decide) rfl (fun ls hl => ?_)
          refine lv_goto (tgt := 31) hx hb dX3_readWish_64 (by decide) ?_
          exact (ih) x1 x2 x3 (x4 + 1) fr tt kd nu fa pl wd rd ls H locs hP hS (lv_sub (l' := [(0, .ref o), (1, .int x1), (2, .int x2), (3, .int x3), (4, .int (x4 + 1))]) hl [1, 2, 3, 4, 0] rfl) hf
        · replace hf := it_t c13 hf
          refine lv_aload_n hx hb dX3_readWish_55 rfl (lv_at hl 0 rfl) ?_
          refine lv_iconst hx hb dX3_readWish_56 kc_i4 ?_
          obtain ⟨v14, hv14, hf⟩ := ob_s hf
          refine mc_X3_X3_bad S hC hD hK hP hS hv14 hl.1 ⟨Nat.le_of_ble_eq_true rfl, Nat.le_of_ble_eq_true rfl⟩ (Nat.le_of_ble_eq_true rfl) ⟨Nat.zero_le _, Nat.zero_le _⟩ dX3_readWish_57 (fun H locs hnv14 hP hS => ?_)
          have hE := Option.some.inj hf
          subst hE
          exact gt_wz S hr hlocks hnv14 hP hS dX3_readWish_60
  suffices hg : ∀ (H : Heap) (locs : List Loc), va_P D cl (mW mi cI cJ cB o ad th tp st fk fp ac si fr tt kd nu fa pl fo wd ci gr lm om nw rd aa kp ta nm rn gv gt rw rh lg lh ou) H → va_S (mA o ad) s.heap H locs → W p l e (rM 2 42) s m ([.ref o, .int a0] : List Value).toArray below meth c H locs 0 0 (MQ below (gQ D cl (some (.int out.1)) (narrow .boolean (.int out.1) = .int out.1) (mW mi cI cJ cB o ad th tp st fk fp ac si out.2.1 out.2.2.1 out.2.2.2.1 out.2.2.2.2.1 out.2.2.2.2.2.1 out.2.2.2.2.2.2.1 fo out.2.2.2.2.2.2.2.1 ci gr lm om nw out.2.2.2.2.2.2.2.2 aa kp ta nm rn gv gt rw rh lg lh ou) (mA o ad)) ([.ref o, .int a0] : List Value).toArray s 0 0 (mA o ad)) (F0 m 0 ls []) from hg s.heap [] hP va_S.rf
  clear hP
  intro H locs hP hS
  rw [f_X3_readWish] at hf
  refine lv_aload_n hx hb dX3_readWish_0 rfl (lv_at hl 0 rfl) ?_
  obtain ⟨v1, hv1, hf⟩ := ob_s hf
  refine mc_X3_X3_homeHere S hC hK hP hv1 hl.1 ⟨Nat.le_of_ble_eq_true rfl, Nat.le_of_ble_eq_true rfl⟩ (Nat.le_of_ble_eq_true rfl) ⟨Nat.zero_le _, Nat.zero_le _⟩ dX3_readWish_1 (fun _ => ?_)
  refine lv_istore_n (i := 2) (lv' := [(2, .int v1), (0, .ref o), (1, .int a0)]) hx hb dX3_readWish_4 rfl hl (by decide) rfl (fun ls hl => ?_)
  refine lv_iload_n hx hb dX3_readWish_5 rfl (lv_at hl 0 rfl) ?_
  refine lv_iconst hx hb dX3_readWish_6 kc_im1 ?_
  refine lv_icmp_ne (tgt := 16) hx hb dX3_readWish_7 (by decide) (fun c2 => ?_) (fun c2 => ?_)
  · replace hf := it_f c2 hf
    refine lv_aload_n hx hb dX3_readWish_16 rfl (lv_at hl 1 rfl) ?_
    refine mg_2 S hC hK hP dX3_readWish_17 ?_
    refine lv_iload_n hx hb dX3_readWish_20 rfl (lv_at hl 2 rfl) ?_
    refine lv_bipush hx hb dX3_readWish_21 kc_b11 ?_
    obtain ⟨v3, hv3, hf⟩ := ob_s hf
    refine mc_X3_X3_at S hK hv3 hl.1 ⟨Nat.le_of_ble_eq_true rfl, Nat.le_of_ble_eq_true rfl⟩ (Nat.le_of_ble_eq_true rfl) ⟨Nat.zero_le _, Nat.zero_le _⟩ dX3_readWish_23 (fun _ => ?_)
    obtain ⟨g4, hf⟩ := gd_t hf
    refine ma_2 S hC hK hP (inR_vp g4) rfl dX3_readWish_26 ?_
    refine lv_istore_n (i := 3) (lv' := [(3, .int (rd v3.toNatClampNeg)), (2, .int v1), (0, .ref o), (1, .int a0)]) hx hb dX3_readWish_27 rfl hl (by decide) rfl (fun ls hl => ?_)
    refine lv_iconst hx hb dX3_readWish_28 kc_i0 ?_
    refine lv_istore (lv' := [(4, .int 0), (3, .int (rd v3.toNatClampNeg)), (2, .int v1), (0, .ref o), (1, .int a0)]) hx hb dX3_readWish_29 hl (by decide) rfl (fun ls hl => ?_)
    exact (w31 FU) a0 v1 (rd v3.toNatClampNeg) 0 fr tt kd nu fa pl wd rd ls H locs hP hS (lv_sub (l' := [(0, .ref o), (1, .int a0), (2, .int v1), (3, .int (rd v3.toNatClampNeg)), (4, .int 0)]) hl [3, 4, 2, 1, 0] rfl) hf
  · replace hf := it_t c2 hf
    refine lv_aload_n hx hb dX3_readWish_10 rfl (lv_at hl 1 rfl) ?_
    refine lv_iconst hx hb dX3_readWish_11 kc_i4 ?_
    obtain ⟨v5, hv5, hf⟩ := ob_s hf
    refine mc_X3_X3_bad S hC hD hK hP hS hv5 hl.1 ⟨Nat.le_of_ble_eq_true rfl, Nat.le_of_ble_eq_true rfl⟩ (Nat.le_of_ble_eq_true rfl) ⟨Nat.zero_le _, Nat.zero_le _⟩ dX3_readWish_12 (fun H locs hnv5 hP hS => ?_)
    have hE := Option.some.inj hf
    subst hE
    exact gt_wz S hr hlocks hnv5 hP hS dX3_readWish_15
set_option maxRecDepth 100000 in
theorem mc_X3_X3_readWish {a0 : Int32} {out : Int32 × Int32 × Int32 × Int32 × Int32 × Int32 × Int32 × Int64 × (Nat → Int32)} (S : CallFix p m c cc nL s args lw_all RX3) (hC : mC cl tys mi cI cJ cB) (hD : mD o ad) (hK : va_K D cl tys s) (hP : va_P D cl (mW mi cI cJ cB o ad th tp st fk fp ac si fr tt kd nu fa pl fo wd ci gr lm om nw rd aa kp ta nm rn gv gt rw rh lg lh ou) H) (hS : va_S (mA o ad) H0 H locs) (hf : f_X3_readWish si ta rn fr tt kd nu fa pl wd rd a0 = some out) (hsz : ls.size = nL) (hR : 2 + 1 ≤ R.frames ∧ 8 + (5 + 11) + 42 ≤ R.locals) (hW : (rest.map fun v => v.category).sum ≤ 8) (hcs : cells ≤ R.cells ∧ slots ≤ R.slots) (hdg : decode cc pc = .ok (.invokevirtual 168, 3)) (kk : ∀ (H1 : Heap) (locs1 : List Loc), (narrow .boolean (.int out.1) = .int out.1) → va_P D cl (mW mi cI cJ cB o ad th tp st fk fp ac si out.2.1 out.2.2.1 out.2.2.2.1 out.2.2.2.2.1 out.2.2.2.2.2.1 out.2.2.2.2.2.2.1 fo out.2.2.2.2.2.2.2.1 ci gr lm om nw out.2.2.2.2.2.2.2.2 aa kp ta nm rn gv gt rw rh lg lh ou) H1 → va_S (mA o ad) H0 H1 locs1 → W p l e R s m args below meth c H1 locs1 cells slots Q (F0 m (pc + 3) ls (.int out.1 :: rest))) : W p l e R s m args below meth c H locs cells slots Q (F0 m pc ls (.int a0 :: .ref o :: rest)) :=
  gc_Vw (As := [.int a0]) S (mm_X3_readWish hC hD hf) (cwV 1 S.2.2.2.2 (lw_V q2198 q2200 qs109 q189 q2201) rfl rfl rfl hd_X3_readWish hR) (gPreV hK hP hC.1 (q0 := 0) rfl) rfl hsz rfl hW hdg hcs hS kk
theorem hd_X3_readHouse : yX3_readHouse.cls = RX3 ∧ yX3_readHouse.cls ≠ "java/lang/invoke/MethodHandle" ∧ yX3_readHouse.cls ≠ "java/lang/invoke/VarHandle" ∧ (parseMethodDescriptor yX3_readHouse.desc).map (fun d => d.parameters.length) = some 0 := by decide +kernel
set_option maxHeartbeats 4000000 in
set_option maxRecDepth 100000 in
theorem mm_X3_readHouse  {out : Int32 × Int32 × Int32 × Int32 × Int32 × Int32 × Int32 × Int64 × (Nat → Int32) × (Nat → Int64)} (hC : mC cl tys mi cI cJ cB) (hD : mD o ad) (hf : f_X3_readHouse si ta fr tt kd nu fa pl wd rd rn = some out) : Met l yX3_readHouse (ws_ yX3_readHouse cX3_readHouse 2 (some .boolean)) (rM 6 131) (gPc D cl tys [.ref o] (mW mi cI cJ cB o ad th tp st fk fp ac si fr tt kd nu fa pl fo wd ci gr lm om nw rd aa kp ta nm rn gv gt rw rh lg lh ou)) (gQ D cl (some (.int out.1)) (narrow .boolean (.int out.1) = .int out.1) (mW mi cI cJ cB o ad th tp st fk fp ac si out.2.1 out.2.2.1 out.2.2.2.1 out.2.2.2.2.1 out.2.2.2.2.2.1 out.2.2.2.2.2.2.1 fo out.2.2.2.2.2.2.2.1 ci gr lm om nw out.2.2.2.2.2.2.2.2.1 aa kp ta nm out.2.2.2.2.2.2.2.2.2 gv gt rw rh lg lh ou) (mA o ad)) 0 0 (mA o ad) := by
  refine gGo (by decide +kernel) (Nat.le_of_ble_eq_true rfl) (fun p e s m below meth c ls S hr hlocks hK hP hl => ?_)
  have S : CallFix p m c cX3_readHouse 2 s _ lw_all RX3 := S
  obtain ⟨hx, hb, hml, hown, hts⟩ := id S
  have hl : lv_has ls 2 [(0, .ref o)] := hl
  have w129 : ∀ (n : Nat) , ∀ (x1 : Int32) (fr : Int32) (tt : Int32) (kd : Int32) (nu : Int32) (fa : Int32) (pl : Int32) (wd : Int64) (rd : (Nat → Int32)) (rn : (Nat → Int64)) (ls : Array Slot) (H : Heap) (locs : List Loc), va_P D cl (mW mi cI cJ cB o ad th tp st fk fp ac si fr tt kd nu fa pl fo wd ci gr lm om nw rd aa kp ta nm rn gv gt rw rh lg lh ou) H → va_S (mA o ad) s.heap H locs → lv_has ls 2 [(0, .ref o), (1, .int x1)] → f_X3_readHouse_129 n si ta x1 fr tt kd nu fa pl wd rd rn = some out → W p l e (rM 6 131) s m ([.ref o] : List Value).toArray below meth c H locs 0 0 (MQ below (gQ D cl (some (.int out.1)) (narrow .boolean (.int out.1) = .int out.1) (mW mi cI cJ cB o ad th tp st fk fp ac si out.2.1 out.2.2.1 out.2.2.2.1 out.2.2.2.2.1 out.2.2.2.2.2.1 out.2.2.2.2.2.2.1 fo out.2.2.2.2.2.2.2.1 ci gr lm om nw out.2.2.2.2.2.2.2.2.1 aa kp ta nm out.2.2.2.2.2.2.2.2.2 gv gt rw rh lg lh ou) (mA o ad)) ([.ref o] : List Value).toArray s 0 0 (mA o ad)) (F0 m 129 ls []) := by
    intro n
    induction n with
    | zero =>
      intro x1 fr tt kd nu fa pl wd rd rn ls H locs hP hS hl hf
      exact absurd hf (by rw [f_X3_readHouse_129]; exact nofun)
    | succ n ih =>
      intro x1 fr tt kd nu fa pl wd rd rn ls H locs hP hS hl hf
      rw [f_X3_readHouse_129] at hf
      refine lv_aload_n hx hb dX3_readHouse_129 rfl (lv_at hl 0 rfl) ?_
      obtain ⟨v1, hv1, hf⟩ := ob_s hf
      refine mc_X3_X3_isName S hC hK hP hv1 hl.1 ⟨Nat.le_of_ble_eq_true rfl, Nat.le_of_ble_eq_true rfl⟩ (Nat.le_of_ble_eq_true rfl) ⟨Nat.zero_le _, Nat.zero_le _⟩ dX3_readHouse_130 (fun hnv1 => ?_)
      refine lv_if_eq (tgt := 146) hx hb dX3_readHouse_133 (by decide) (fun c2 => ?_) (fun c2 => ?_)
      · replace hf := it_t c2 hf
        refine lv_aload_n hx hb dX3_readHouse_146 rfl (lv_at hl 0 rfl) ?_
        refine mg_2 S hC hK hP dX3_readHouse_147 ?_
        refine lv_sipush hx hb dX3_readHouse_150 kc_s231 ?_
        refine lv_dup2_11 hx hb dX3_readHouse_153 rfl rfl ?_
        refine ma_2 S hC hK hP kv_231_390 kn_231 dX3_readHouse_154 ?_
        refine lv_iconst hx hb dX3_readHouse_155 kc_i1 ?_
        refine lv_iadd hx hb dX3_readHouse_156 ?_
        refine ms_2 S hC hD hK hP hS kv_231_390 kn_231 dX3_readHouse_157 (fun H locs hP hS => ?_)
        refine lv_aload_n hx hb dX3_readHouse_158 rfl (lv_at hl 0 rfl) ?_
        obtain ⟨v3, hv3, hf⟩ := ob_s hf
        refine mc_X3_X3_readEnd S hC hD hK hP hS hv3 hl.1 ⟨Nat.le_of_ble_eq_true rfl, Nat.le_of_ble_eq_true rfl⟩ (Nat.le_of_ble_eq_true rfl) ⟨Nat.zero_le _, Nat.zero_le _⟩ dX3_readHouse_159 (fun H locs hnv3 hP hS => ?_)
        have hE := Option.some.inj hf
        subst hE
        exact gt_wz S hr hlocks hnv3 hP hS dX3_readHouse_162
      · replace hf := it_f c2 hf
        refine lv_aload_n hx hb dX3_readHouse_136 rfl (lv_at hl 0 rfl) ?_
        refine lv_iload_n hx hb dX3_readHouse_137 rfl (lv_at hl 1 rfl) ?_
        obtain ⟨v4, hv4, hf⟩ := ob_s hf
        refine mc_X3_X3_readWish S hC hD hK hP hS hv4 hl.1 ⟨Nat.le_of_ble_eq_true rfl, Nat.le_of_ble_eq_true rfl⟩ (Nat.le_of_ble_eq_true rfl) ⟨Nat.zero_le _, Nat.zero_le _⟩ dX3_readHouse_138 (fun H locs hnv4 hP hS => ?_)
        refine lv_if_ne (tgt := 129) hx hb dX3_readHouse_141 (by decide) (fun c5 => ?_) (fun c5 => ?_)
        · replace hf := it_f c5 hf
          exact (ih) x1 v4.2.1 v4.2.2.1 v4.2.2.2.1 v4.2.2.2.2.1 v4.2.2.2.2.2.1 v4.2.2.2.2.2.2.1 v4.2.2.2.2.2.2.2.1 v4.2.2.2.2.2.2.2.2 rn ls H locs hP hS hl hf
        · replace hf := it_t c5 hf
          refine lv_iconst hx hb dX3_readHouse_144 kc_i0 ?_
          have hE := Option.some.inj hf
          subst hE
          exact gt_wz S hr hlocks nb0 hP hS dX3_readHouse_145
  suffices hg : ∀ (H : Heap) (locs : List Loc), va_P D cl (mW mi cI cJ cB o ad th tp st fk fp ac si fr tt kd nu fa pl fo wd ci gr lm om nw rd aa kp ta nm rn gv gt rw rh lg lh ou) H → va_S (mA o ad) s.heap H locs → W p l e (rM 6 131) s m ([.ref o] : List Value).toArray below meth c H locs 0 0 (MQ below (gQ D cl (some (.int out.1)) (narrow .boolean (.int out.1) = .int out.1) (mW mi cI cJ cB o ad th tp st fk fp ac si out.2.1 out.2.2.1 out.2.2.2.1 out.2.2.2.2.1 out.2.2.2.2.2.1 out.2.2.2.2.2.2.1 fo out.2.2.2.2.2.2.2.1 ci gr lm om nw out.2.2.2.2.2.2.2.2.1 aa kp ta nm out.2.2.2.2.2.2.2.2.2 gv gt rw rh lg lh ou) (mA o ad)) ([.ref o] : List Value).toArray s 0 0 (mA o ad)) (F0 m 0 ls []) from hg s.heap [] hP va_S.rf
  clear hP
  intro H locs hP hS
  rw [f_X3_readHouse] at hf
  refine lv_aload_n hx hb dX3_readHouse_0 rfl (lv_at hl 0 rfl) ?_
  refine mg_2 S hC hK hP dX3_readHouse_1 ?_
  refine lv_sipush hx hb dX3_readHouse_4 kc_s231 ?_
  refine ma_2 S hC hK hP kv_231_390 kn_231 dX3_readHouse_7 ?_
  refine lv_istore_n (i := 1) (lv' := [(1, .int (rd 231)), (0, .ref o)]) hx hb dX3_readHouse_8 rfl hl (by decide) rfl (fun ls hl => ?_)
  refine lv_iload_n hx hb dX3_readHouse_9 rfl (lv_at hl 0 rfl) ?_
  refine lv_bipush hx hb dX3_readHouse_10 kc_b8 ?_
  refine lv_icmp_ne (tgt := 21) hx hb dX3_readHouse_12 (by decide) (fun c1 => ?_) (fun c1 => ?_)
  · replace hf := it_f c1 hf
    refine lv_aload_n hx hb dX3_readHouse_21 rfl (lv_at hl 1 rfl) ?_
    obtain ⟨v2, hv2, hf⟩ := ob_s hf
    refine mc_X3_X3_go S hC hD hK hP hS hv2 hl.1 ⟨Nat.le_of_ble_eq_true rfl, Nat.le_of_ble_eq_true rfl⟩ (Nat.le_of_ble_eq_true rfl) ⟨Nat.zero_le _, Nat.zero_le _⟩ dX3_readHouse_22 (fun H locs _ hP hS => ?_)
    refine lv_aload_n hx hb dX3_readHouse_25 rfl (lv_at hl 1 rfl) ?_
    refine lv_bipush hx hb dX3_readHouse_26 kc_b10 ?_
    refine lv_iload_n hx hb dX3_readHouse_28 rfl (lv_at hl 0 rfl) ?_
    refine lv_iadd hx hb dX3_readHouse_29 ?_
    obtain ⟨v3, hv3, hf⟩ := ob_s hf
    refine mc_X3_X3_readName S hC hD hK hP hS hv3 hl.1 ⟨Nat.le_of_ble_eq_true rfl, Nat.le_of_ble_eq_true rfl⟩ (Nat.le_of_ble_eq_true rfl) ⟨Nat.zero_le _, Nat.zero_le _⟩ dX3_readHouse_30 (fun H locs hnv3 hP hS => ?_)
    refine lv_if_eq (tgt := 64) hx hb dX3_readHouse_33 (by decide) (fun c4 => ?_) (fun c4 => ?_)
    · replace hf := it_t c4 hf
      refine lv_iconst hx hb dX3_readHouse_64 kc_i0 ?_
      have hE := Option.some.inj hf
      subst hE
      exact gt_wz S hr hlocks nb0 hP hS dX3_readHouse_65
    · replace hf := it_f c4 hf
      refine lv_aload_n hx hb dX3_readHouse_36 rfl (lv_at hl 1 rfl) ?_
      refine lv_iload_n hx hb dX3_readHouse_37 rfl (lv_at hl 0 rfl) ?_
      refine lv_iconst hx hb dX3_readHouse_38 kc_i0 ?_
      obtain ⟨v5, hv5, hf⟩ := ob_s hf
      refine mc_X3_X3_at S hK hv5 hl.1 ⟨Nat.le_of_ble_eq_true rfl, Nat.le_of_ble_eq_true rfl⟩ (Nat.le_of_ble_eq_true rfl) ⟨Nat.zero_le _, Nat.zero_le _⟩ dX3_readHouse_39 (fun _ => ?_)
      refine lv_iconst hx hb dX3_readHouse_42 kc_i1 ?_
      refine lv_iconst hx hb dX3_readHouse_43 kc_i4 ?_
      obtain ⟨v6, hv6, hf⟩ := ob_s hf
      refine mc_X3_X3_readNumber S hC hD hK hP hS hv6 hl.1 ⟨Nat.le_of_ble_eq_true rfl, Nat.le_of_ble_eq_true rfl⟩ (Nat.le_of_ble_eq_true rfl) ⟨Nat.zero_le _, Nat.zero_le _⟩ dX3_readHouse_44 (fun H locs hnv6 hP hS => ?_)
      refine lv_if_eq (tgt := 64) hx hb dX3_readHouse_47 (by decide) (fun c7 => ?_) (fun c7 => ?_)
      · replace hf := it_t c7 hf
        refine lv_iconst hx hb dX3_readHouse_64 kc_i0 ?_
        have hE := Option.some.inj hf
        subst hE
        exact gt_wz S hr hlocks nb0 hP hS dX3_readHouse_65
      · replace hf := it_f c7 hf
        refine lv_aload_n hx hb dX3_readHouse_50 rfl (lv_at hl 1 rfl) ?_
        refine lv_iload_n hx hb dX3_readHouse_51 rfl (lv_at hl 0 rfl) ?_
        refine lv_iconst hx hb dX3_readHouse_52 kc_i1 ?_
        obtain ⟨v8, hv8, hf⟩ := ob_s hf
        refine mc_X3_X3_at S hK hv8 hl.1 ⟨Nat.le_of_ble_eq_true rfl, Nat.le_of_ble_eq_true rfl⟩ (Nat.le_of_ble_eq_true rfl) ⟨Nat.zero_le _, Nat.zero_le _⟩ dX3_readHouse_53 (fun _ => ?_)
        refine lv_iconst hx hb dX3_readHouse_56 kc_i1 ?_
        refine lv_iconst hx hb dX3_readHouse_57 kc_i4 ?_
        obtain ⟨v9, hv9, hf⟩ := ob_s hf
        refine mc_X3_X3_readNumber S hC hD hK hP hS hv9 hl.1 ⟨Nat.le_of_ble_eq_true rfl, Nat.le_of_ble_eq_true rfl⟩ (Nat.le_of_ble_eq_true rfl) ⟨Nat.zero_le _, Nat.zero_le _⟩ dX3_readHouse_58 (fun H locs hnv9 hP hS => ?_)
        refine lv_if_ne (tgt := 66) hx hb dX3_readHouse_61 (by decide) (fun c10 => ?_) (fun c10 => ?_)
        · replace hf := it_f c10 hf
          refine lv_aload_n hx hb dX3_readHouse_66 rfl (lv_at hl 1 rfl) ?_
          refine lv_iload_n hx hb dX3_readHouse_67 rfl (lv_at hl 0 rfl) ?_
          refine lv_iconst hx hb dX3_readHouse_68 kc_i2 ?_
          obtain ⟨v11, hv11, hf⟩ := ob_s hf
          refine mc_X3_X3_at S hK hv11 hl.1 ⟨Nat.le_of_ble_eq_true rfl, Nat.le_of_ble_eq_true rfl⟩ (Nat.le_of_ble_eq_true rfl) ⟨Nat.zero_le _, Nat.zero_le _⟩ dX3_readHouse_69 (fun _ => ?_)
          refine lv_iconst hx hb dX3_readHouse_72 kc_i0 ?_
          refine lv_bipush hx hb dX3_readHouse_73 kc_b7 ?_
          obtain ⟨v12, hv12, hf⟩ := ob_s hf
          refine mc_X3_X3_readNumber S hC hD hK hP hS hv12 hl.1 ⟨Nat.le_of_ble_eq_true rfl, Nat.le_of_ble_eq_true rfl⟩ (Nat.le_of_ble_eq_true rfl) ⟨Nat.zero_le _, Nat.zero_le _⟩ dX3_readHouse_75 (fun H locs hnv12 hP hS => ?_)
          refine lv_if_eq (tgt := 97) hx hb dX3_readHouse_78 (by decide) (fun c13 => ?_) (fun c13 => ?_)
          · replace hf := it_t c13 hf
            refine lv_iconst hx hb dX3_readHouse_97 kc_i0 ?_
            have hE := Option.some.inj hf
            subst hE
            exact gt_wz S hr hlocks nb0 hP hS dX3_readHouse_98
          · replace hf := it_f c13 hf
            refine lv_aload_n hx hb dX3_readHouse_81 rfl (lv_at hl 1 rfl) ?_
            refine lv_iload_n hx hb dX3_readHouse_82 rfl (lv_at hl 0 rfl) ?_
            refine lv_iconst hx hb dX3_readHouse_83 kc_i3 ?_
            obtain ⟨v14, hv14, hf⟩ := ob_s hf
            refine mc_X3_X3_at S hK hv14 hl.1 ⟨Nat.le_of_ble_eq_true rfl, Nat.le_of_ble_eq_true rfl⟩ (Nat.le_of_ble_eq_true rfl) ⟨Nat.zero_le _, Nat.zero_le _⟩ dX3_readHouse_84 (fun _ => ?_)
            refine lv_iconst hx hb dX3_readHouse_87 kc_i0 ?_
            refine lv_sipush hx hb dX3_readHouse_88 kc_s999 ?_
            obtain ⟨v15, hv15, hf⟩ := ob_s hf
            refine mc_X3_X3_readNumber S hC hD hK hP hS hv15 hl.1 ⟨Nat.le_of_ble_eq_true rfl, Nat.le_of_ble_eq_true rfl⟩ (Nat.le_of_ble_eq_true rfl) ⟨Nat.zero_le _, Nat.zero_le _⟩ dX3_readHouse_91 (fun H locs hnv15 hP hS => ?_)
            refine lv_if_ne (tgt := 99) hx hb dX3_readHouse_94 (by decide) (fun c16 => ?_) (fun c16 => ?_)
            · replace hf := it_f c16 hf
              refine lv_aload_n hx hb dX3_readHouse_99 rfl (lv_at hl 1 rfl) ?_
              refine mg_2 S hC hK hP dX3_readHouse_100 ?_
              refine lv_iload_n hx hb dX3_readHouse_103 rfl (lv_at hl 0 rfl) ?_
              refine lv_iconst hx hb dX3_readHouse_104 kc_i4 ?_
              obtain ⟨v17, hv17, hf⟩ := ob_s hf
              refine mc_X3_X3_at S hK hv17 hl.1 ⟨Nat.le_of_ble_eq_true rfl, Nat.le_of_ble_eq_true rfl⟩ (Nat.le_of_ble_eq_true rfl) ⟨Nat.zero_le _, Nat.zero_le _⟩ dX3_readHouse_105 (fun _ => ?_)
              refine lv_iconst hx hb dX3_readHouse_108 kc_im1 ?_
              obtain ⟨g18, hf⟩ := gd_t hf
              refine ms_2 S hC hD hK hP hS (inR_vp g18) rfl dX3_readHouse_109 (fun H locs hP hS => ?_)
              refine lv_aload_n hx hb dX3_readHouse_110 rfl (lv_at hl 1 rfl) ?_
              refine lv_bipush hx hb dX3_readHouse_111 kc_b9 ?_
              obtain ⟨v19, hv19, hf⟩ := ob_s hf
              refine mc_X3_X3_isWord S hC hK hP hv19 hl.1 ⟨Nat.le_of_ble_eq_true rfl, Nat.le_of_ble_eq_true rfl⟩ (Nat.le_of_ble_eq_true rfl) ⟨Nat.zero_le _, Nat.zero_le _⟩ dX3_readHouse_113 (fun hnv19 => ?_)
              refine lv_if_eq (tgt := 129) hx hb dX3_readHouse_116 (by decide) (fun c20 => ?_) (fun c20 => ?_)
              · replace hf := it_t c20 hf
                exact (w129 FU) (rd 231) v15.2.1 v15.2.2.1 v15.2.2.2.1 v15.2.2.2.2.1 v15.2.2.2.2.2.1 v15.2.2.2.2.2.2.1 v15.2.2.2.2.2.2.2.1 (upd v15.2.2.2.2.2.2.2.2 v17.toNatClampNeg (-1)) v3.2.2.2.2.2.2.2.2 ls H locs hP hS (lv_sub (l' := [(0, .ref o), (1, .int (rd 231))]) hl [1, 0] rfl) hf
              · replace hf := it_f c20 hf
                refine lv_aload_n hx hb dX3_readHouse_119 rfl (lv_at hl 1 rfl) ?_
                refine lv_iload_n hx hb dX3_readHouse_120 rfl (lv_at hl 0 rfl) ?_
                obtain ⟨v21, hv21, hf⟩ := ob_s hf
                refine mc_X3_X3_readIn S hC hD hK hP hS hv21 hl.1 ⟨Nat.le_of_ble_eq_true rfl, Nat.le_of_ble_eq_true rfl⟩ (Nat.le_of_ble_eq_true rfl) ⟨Nat.zero_le _, Nat.zero_le _⟩ dX3_readHouse_121 (fun H locs hnv21 hP hS => ?_)
                refine lv_if_ne (tgt := 129) hx hb dX3_readHouse_124 (by decide) (fun c22 => ?_) (fun c22 => ?_)
                · replace hf := it_f c22 hf
                  exact (w129 FU) (rd 231) v21.2.1 v21.2.2.1 v21.2.2.2.1 v21.2.2.2.2.1 v21.2.2.2.2.2.1 v21.2.2.2.2.2.2.1 v21.2.2.2.2.2.2.2.1 v21.2.2.2.2.2.2.2.2 v3.2.2.2.2.2.2.2.2 ls H locs hP hS (lv_sub (l' := [(0, .ref o), (1, .int (rd 231))]) hl [1, 0] rfl) hf
                · replace hf := it_t c22 hf
                  refine lv_iconst hx hb dX3_readHouse_127 kc_i0 ?_
                  have hE := Option.some.inj hf
                  subst hE
                  exact gt_wz S hr hlocks nb0 hP hS dX3_readHouse_128
            · replace hf := it_t c16 hf
              refine lv_iconst hx hb dX3_readHouse_97 kc_i0 ?_
              have hE := Option.some.inj hf
              subst hE
              exact gt_wz S hr hlocks nb0 hP hS dX3_readHouse_98
        · replace hf := it_t c10 hf
          refine lv_iconst hx hb dX3_readHouse_64 kc_i0 ?_
          have hE := Option.some.inj hf
          subst hE
          exact gt_wz S hr hlocks nb0 hP hS dX3_readHouse_65
  · replace hf := it_t c1 hf
    refine lv_aload_n hx hb dX3_readHouse_15 rfl (lv_at hl 1 rfl) ?_
    refine lv_iconst hx hb dX3_readHouse_16 kc_i5 ?_
    obtain ⟨v23, hv23, hf⟩ := ob_s hf
    refine mc_X3_X3_bad S hC hD hK hP hS hv23 hl.1 ⟨Nat.le_of_ble_eq_true rfl, Nat.le_of_ble_eq_true rfl⟩ (Nat.le_of_ble_eq_true rfl) ⟨Nat.zero_le _, Nat.zero_le _⟩ dX3_readHouse_17 (fun H locs hnv23 hP hS => ?_)
    have hE := Option.some.inj hf
    subst hE
    exact gt_wz S hr hlocks hnv23 hP hS dX3_readHouse_20
set_option maxRecDepth 100000 in
theorem mc_X3_X3_readHouse  {out : Int32 × Int32 × Int32 × Int32 × Int32 × Int32 × Int32 × Int64 × (Nat → Int32) × (Nat → Int64)} (S : CallFix p m c cc nL s args lw_all RX3) (hC : mC cl tys mi cI cJ cB) (hD : mD o ad) (hK : va_K D cl tys s) (hP : va_P D cl (mW mi cI cJ cB o ad th tp st fk fp ac si fr tt kd nu fa pl fo wd ci gr lm om nw rd aa kp ta nm rn gv gt rw rh lg lh ou) H) (hS : va_S (mA o ad) H0 H locs) (hf : f_X3_readHouse si ta fr tt kd nu fa pl wd rd rn = some out) (hsz : ls.size = nL) (hR : 6 + 1 ≤ R.frames ∧ 8 + (2 + 11) + 131 ≤ R.locals) (hW : (rest.map fun v => v.category).sum ≤ 8) (hcs : cells ≤ R.cells ∧ slots ≤ R.slots) (hdg : decode cc pc = .ok (.invokevirtual 180, 3)) (kk : ∀ (H1 : Heap) (locs1 : List Loc), (narrow .boolean (.int out.1) = .int out.1) → va_P D cl (mW mi cI cJ cB o ad th tp st fk fp ac si out.2.1 out.2.2.1 out.2.2.2.1 out.2.2.2.2.1 out.2.2.2.2.2.1 out.2.2.2.2.2.2.1 fo out.2.2.2.2.2.2.2.1 ci gr lm om nw out.2.2.2.2.2.2.2.2.1 aa kp ta nm out.2.2.2.2.2.2.2.2.2 gv gt rw rh lg lh ou) H1 → va_S (mA o ad) H0 H1 locs1 → W p l e R s m args below meth c H1 locs1 cells slots Q (F0 m (pc + 3) ls (.int out.1 :: rest))) : W p l e R s m args below meth c H locs cells slots Q (F0 m pc ls (.ref o :: rest)) :=
  gc_Vw (As := []) S (mm_X3_readHouse hC hD hf) (cwV 0 S.2.2.2.2 (lw_V q2187 q2189 qs107 q189 q2190) rfl rfl rfl hd_X3_readHouse hR) (gPreV hK hP hC.1 (q0 := 0) rfl) rfl hsz rfl hW hdg hcs hS kk
end
