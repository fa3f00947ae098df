section
variable {l : Launch} {D : va_G} {cl : List vw_C} {tys : List (ClassId × FieldType)} {mi : Nat} {cI cJ cB : ClassId} {o : Nat} {ad : Nat → Nat} {th : Int32} {tp : Int32} {st : Int32} {fk : Int32} {fp : Int32} {ac : Int32} {si : Int32} {fr : Int32} {tt : Int32} {kd : Int32} {nu : Int32} {fa : Int32} {pl : Int32} {fo : Int32} {wd : Int64} {ci : Int32} {gr : Int32} {lm : Int32} {om : Int32} {nw : (Nat → Int32)} {rd : (Nat → Int32)} {aa : (Nat → Int32)} {kp : (Nat → Int32)} {ta : (Nat → Int32)} {nm : (Nat → Int64)} {rn : (Nat → Int64)} {gv : (Nat → Int32)} {gt : (Nat → Int32)} {rw : (Nat → Int32)} {rh : (Nat → Int32)} {lg : (Nat → Int32)} {lh : (Nat → Int32)} {ou : (Nat → Int32)}
variable {p : Program} {e : Env} {R : Room} {s : State} {m : MethodId} {args : Array Value} {below : List Frame} {meth : Method} {c : Code} {H H0 : Heap} {locs : List Loc} {cells slots : Nat} {Q : State → Prop} {cc : ByteArray} {nL pc : Nat} {ls : Array Slot} {rest : List Value}
theorem hd_X3_let0 : yX3_let0.cls = RX3 ∧ yX3_let0.cls ≠ "java/lang/invoke/MethodHandle" ∧ yX3_let0.cls ≠ "java/lang/invoke/VarHandle" ∧ (parseMethodDescriptor yX3_let0.desc).map (fun d => d.parameters.length) = some 2 := by decide +kernel
set_option maxHeartbeats 4000000 in
set_option maxRecDepth 100000 in
theorem mm_X3_let0 {a0 : Int32} {a1 : Int32} {out : Int32} (hC : mC cl tys mi cI cJ cB) (hf : f_X3_let0 nw a0 a1 = some out) : Met l yX3_let0 (ws_ yX3_let0 cX3_let0 3 (some .int)) (rM 0 0) (gPc D cl tys [.ref o, .int a0, .int a1] (mW mi cI cJ cB o ad th tp st fk fp ac si fr tt kd nu fa pl fo wd ci gr lm om nw rd aa kp ta nm rn gv gt rw rh lg lh ou)) (gR (some (.int out)) True) 0 0 (fun _ => False) := by
  refine gGo (by decide +kernel) (Nat.le_of_ble_eq_true rfl) (fun p e s m below meth c ls S hr hlocks hK hP hl => ?_)
  have S : CallFix p m c cX3_let0 3 s _ lw_all RX3 := S
  obtain ⟨hx, hb, hml, hown, hts⟩ := id S
  have hl : lv_has ls 3 [(0, .ref o), (1, .int a0), (2, .int a1)] := hl
  rw [f_X3_let0] at hf
  refine lv_aload_n hx hb dX3_let0_0 rfl (lv_at hl 0 rfl) ?_
  refine mg_1 S hC hK hP dX3_let0_1 ?_
  refine lv_sipush hx hb dX3_let0_4 kc_s234 ?_
  refine lv_bipush hx hb dX3_let0_7 kc_b8 ?_
  refine lv_iload_n hx hb dX3_let0_9 rfl (lv_at hl 1 rfl) ?_
  refine lv_imul hx hb dX3_let0_10 ?_
  refine lv_iadd hx hb dX3_let0_11 ?_
  refine lv_iload_n hx hb dX3_let0_12 rfl (lv_at hl 2 rfl) ?_
  refine lv_iadd hx hb dX3_let0_13 ?_
  obtain ⟨g1, hf⟩ := gd_t hf
  refine ma_1 S hC hK hP (inR_vp g1) rfl dX3_let0_14 ?_
  have hE := Option.some.inj hf
  subst hE
  exact gt_ri S hr hlocks trivial dX3_let0_15
set_option maxRecDepth 100000 in
theorem mc_X3_X3_let0 {a0 : Int32} {a1 : Int32} {out : Int32} (S : CallFix p m c cc nL s args lw_all RX3) (hC : mC cl tys mi cI cJ cB) (hK : va_K D cl tys s) (hP : va_P D cl (mW mi cI cJ cB o ad th tp st fk fp ac si fr tt kd nu fa pl fo wd ci gr lm om nw rd aa kp ta nm rn gv gt rw rh lg lh ou) H) (hf : f_X3_let0 nw a0 a1 = some out) (hsz : ls.size = nL) (hR : 0 + 1 ≤ R.frames ∧ 8 + (3 + 11) + 0 ≤ R.locals) (hW : (rest.map fun v => v.category).sum ≤ 8) (hcs : cells ≤ R.cells ∧ slots ≤ R.slots) (hdg : decode cc pc = .ok (.invokevirtual 259, 3)) (kk : True → W p l e R s m args below meth c H locs cells slots Q (F0 m (pc + 3) ls (.int out :: rest))) : W p l e R s m args below meth c H locs cells slots Q (F0 m pc ls (.int a1 :: .int a0 :: .ref o :: rest)) :=
  gc_Vr (As := [.int a0, .int a1]) S (mm_X3_let0 hC hf) (cwV 2 S.2.2.2.2 (lw_V q2335 q2337 qs132 q189 q2338) rfl rfl rfl hd_X3_let0 hR) (gPreV hK hP hC.1 (q0 := 0) rfl) rfl hsz rfl hW hdg hcs kk
theorem hd_X3_isLocal : yX3_isLocal.cls = RX3 ∧ yX3_isLocal.cls ≠ "java/lang/invoke/MethodHandle" ∧ yX3_isLocal.cls ≠ "java/lang/invoke/VarHandle" ∧ (parseMethodDescriptor yX3_isLocal.desc).map (fun d => d.parameters.length) = some 1 := by decide +kernel
set_option maxHeartbeats 4000000 in
set_option maxRecDepth 100000 in
theorem mm_X3_isLocal {a0 : Int32} {out : Int32} (hC : mC cl tys mi cI cJ cB) (hf : f_X3_isLocal nw a0 = some out) : Met l yX3_isLocal (ws_ yX3_isLocal cX3_isLocal 4 (some .boolean)) (rM 1 22) (gPc D cl tys [.ref o, .int a0] (mW mi cI cJ cB o ad th tp st fk fp ac si fr tt kd nu fa pl fo wd ci gr lm om nw rd aa kp ta nm rn gv gt rw rh lg lh ou)) (gR (some (.int out)) (narrow .boolean (.int out) = .int out)) 0 0 (fun _ => False) := by
  refine gGo (by decide +kernel) (Nat.le_of_ble_eq_true rfl) (fun p e s m below meth c ls S hr hlocks hK hP hl => ?_)
  have S : CallFix p m c cX3_isLocal 4 s _ lw_all RX3 := S
  obtain ⟨hx, hb, hml, hown, hts⟩ := id S
  have hl : lv_has ls 4 [(0, .ref o), (1, .int a0)] := hl
  have w17 : ∀ (n : Nat) , ∀ (x1 : Int32) (x2 : Int32) (x3 : Int32) (ls : Array Slot), lv_has ls 4 [(0, .ref o), (1, .int x1), (2, .int x2), (3, .int x3)] → f_X3_isLocal_17 n nw x1 x2 x3 = some out → W p l e (rM 1 22) s m ([.ref o, .int a0] : List Value).toArray below meth c s.heap [] 0 0 (MQ below (gR (some (.int out)) (narrow .boolean (.int out) = .int out)) ([.ref o, .int a0] : List Value).toArray s 0 0 (fun _ => False)) (F0 m 17 ls []) := by
    intro n
    induction n with
    | zero =>
      intro x1 x2 x3 ls hl hf
      exact absurd hf (by rw [f_X3_isLocal_17]; exact nofun)
    | succ n ih =>
      intro x1 x2 x3 ls hl hf
      rw [f_X3_isLocal_17] at hf
      refine lv_iload_n hx hb dX3_isLocal_17 rfl (lv_at hl 3 rfl) ?_
      refine lv_aload_n hx hb dX3_isLocal_18 rfl (lv_at hl 0 rfl) ?_
      refine mg_1 S hC hK hP dX3_isLocal_19 ?_
      refine lv_sipush hx hb dX3_isLocal_22 kc_s233 ?_
      refine ma_1 S hC hK hP kv_233_390 kn_233 dX3_isLocal_25 ?_
      refine lv_icmp_ge (tgt := 63) hx hb dX3_isLocal_26 (by decide) (fun c1 => ?_) (fun c1 => ?_)
      · replace hf := it_t c1 hf
        refine lv_iload_n hx hb dX3_isLocal_63 rfl (lv_at hl 2 rfl) ?_
        refine lv_aload_n hx hb dX3_isLocal_64 rfl (lv_at hl 0 rfl) ?_
        refine mg_1 S hC hK hP dX3_isLocal_65 ?_
        refine lv_sipush hx hb dX3_isLocal_68 kc_s226 ?_
        refine ma_1 S hC hK hP kv_226_390 kn_226 dX3_isLocal_71 ?_
        obtain ⟨g2, hf⟩ := gd_t hf
        refine lv_irem hx hb dX3_isLocal_72 (nz32_t g2) ?_
        refine lv_if_ne (tgt := 80) hx hb dX3_isLocal_73 (by decide) (fun c3 => ?_) (fun c3 => ?_)
        · replace hf := it_f c3 hf
          refine lv_iconst hx hb dX3_isLocal_80 kc_i0 ?_
          have hE := Option.some.inj hf
          subst hE
          exact gt_rz S hr hlocks nb0 dX3_isLocal_81
        · replace hf := it_t c3 hf
          refine lv_iconst hx hb dX3_isLocal_76 kc_i1 ?_
          refine lv_goto (tgt := 81) hx hb dX3_isLocal_77 (by decide) ?_
          have hE := Option.some.inj hf
          subst hE
          exact gt_rz S hr hlocks nb1 dX3_isLocal_81
      · replace hf := it_f c1 hf
        refine lv_iload_n hx hb dX3_isLocal_29 rfl (lv_at hl 2 rfl) ?_
        refine lv_aload_n hx hb dX3_isLocal_30 rfl (lv_at hl 0 rfl) ?_
        refine lv_aload_n hx hb dX3_isLocal_31 rfl (lv_at hl 0 rfl) ?_
        refine lv_iload_n hx hb dX3_isLocal_32 rfl (lv_at hl 3 rfl) ?_
        refine lv_iconst hx hb dX3_isLocal_33 kc_i1 ?_
        obtain ⟨v4, hv4, hf⟩ := ob_s hf
        refine mc_X3_X3_let0 S hC hK hP hv4 hl.1 ⟨Nat.le_of_ble_eq_true rfl, Nat.le_of_ble_eq_true rfl⟩ (Nat.le_of_ble_eq_true rfl) ⟨Nat.zero_le _, Nat.zero_le _⟩ dX3_isLocal_34 (fun _ => ?_)
        refine lv_iconst hx hb dX3_isLocal_37 kc_i1 ?_
        obtain ⟨v5, hv5, hf⟩ := ob_s hf
        refine mc_X3_X3_home0 S hC hK hP hv5 hl.1 ⟨Nat.le_of_ble_eq_true rfl, Nat.le_of_ble_eq_true rfl⟩ (Nat.le_of_ble_eq_true rfl) ⟨Nat.zero_le _, Nat.zero_le _⟩ dX3_isLocal_38 (fun _ => ?_)
        refine lv_aload_n hx hb dX3_isLocal_41 rfl (lv_at hl 0 rfl) ?_
        refine lv_iload_n hx hb dX3_isLocal_42 rfl (lv_at hl 1 rfl) ?_
        refine lv_iconst hx hb dX3_isLocal_43 kc_i1 ?_
        obtain ⟨v6, hv6, hf⟩ := ob_s hf
        refine mc_X3_X3_home0 S hC hK hP hv6 hl.1 ⟨Nat.le_of_ble_eq_true rfl, Nat.le_of_ble_eq_true rfl⟩ (Nat.le_of_ble_eq_true rfl) ⟨Nat.zero_le _, Nat.zero_le _⟩ dX3_isLocal_44 (fun _ => ?_)
        refine lv_icmp_ne (tgt := 54) hx hb dX3_isLocal_47 (by decide) (fun c7 => ?_) (fun c7 => ?_)
        · replace hf := it_f c7 hf
          refine lv_iconst hx hb dX3_isLocal_54 kc_i0 ?_
          refine lv_iadd hx hb dX3_isLocal_55 ?_
          refine lv_istore_n (i := 2) (lv' := [(2, .int (x2 + 0)), (0, .ref o), (1, .int x1), (3, .int x3)]) hx hb dX3_isLocal_56 rfl hl (by decide) rfl (fun ls hl => ?_)
          refine lv_iinc (v := (x3 + 1)) (lv' := [(3, .int (x3 + 1)), (2, .int (x2 + 0)), (0, .ref o), (1, .int x1)]) hx hb dX3_isLocal_57 hl (k := 3) rfl rfl (by decide) rfl (fun ls hl => ?_)
          refine lv_goto (tgt := 17) hx hb dX3_isLocal_60 (by decide) ?_
          exact (ih) x1 (x2 + 0) (x3 + 1) ls (lv_sub (l' := [(0, .ref o), (1, .int x1), (2, .int (x2 + 0)), (3, .int (x3 + 1))]) hl [2, 3, 1, 0] rfl) hf
        · replace hf := it_t c7 hf
          refine lv_iconst hx hb dX3_isLocal_50 kc_i1 ?_
          refine lv_goto (tgt := 55) hx hb dX3_isLocal_51 (by decide) ?_
          refine lv_iadd hx hb dX3_isLocal_55 ?_
          refine lv_istore_n (i := 2) (lv' := [(2, .int (x2 + 1)), (0, .ref o), (1, .int x1), (3, .int x3)]) hx hb dX3_isLocal_56 rfl hl (by decide) rfl (fun ls hl => ?_)
          refine lv_iinc (v := (x3 + 1)) (lv' := [(3, .int (x3 + 1)), (2, .int (x2 + 1)), (0, .ref o), (1, .int x1)]) hx hb dX3_isLocal_57 hl (k := 3) rfl rfl (by decide) rfl (fun ls hl => ?_)
          refine lv_goto (tgt := 17) hx hb dX3_isLocal_60 (by decide) ?_
          exact (ih) x1 (x2 + 1) (x3 + 1) ls (lv_sub (l' := [(0, .ref o), (1, .int x1), (2, .int (x2 + 1)), (3, .int (x3 + 1))]) hl [2, 3, 1, 0] rfl) hf
  rw [f_X3_isLocal] at hf
  refine lv_aload_n hx hb dX3_isLocal_0 rfl (lv_at hl 0 rfl) ?_
  refine mg_1 S hC hK hP dX3_isLocal_1 ?_
  refine lv_sipush hx hb dX3_isLocal_4 kc_s226 ?_
  refine ma_1 S hC hK hP kv_226_390 kn_226 dX3_isLocal_7 ?_
  refine lv_if_ne (tgt := 13) hx hb dX3_isLocal_8 (by decide) (fun c1 => ?_) (fun c1 => ?_)
  · replace hf := it_f c1 hf
    refine lv_iconst hx hb dX3_isLocal_13 kc_i1 ?_
    refine lv_istore_n (i := 2) (lv' := [(2, .int 1), (0, .ref o), (1, .int a0)]) hx hb dX3_isLocal_14 rfl hl (by decide) rfl (fun ls hl => ?_)
    refine lv_iconst hx hb dX3_isLocal_15 kc_i0 ?_
    refine lv_istore_n (i := 3) (lv' := [(3, .int 0), (2, .int 1), (0, .ref o), (1, .int a0)]) hx hb dX3_isLocal_16 rfl hl (by decide) rfl (fun ls hl => ?_)
    exact (w17 FU) a0 1 0 ls (lv_sub (l' := [(0, .ref o), (1, .int a0), (2, .int 1), (3, .int 0)]) hl [2, 3, 1, 0] rfl) hf
  · replace hf := it_t c1 hf
    refine lv_iconst hx hb dX3_isLocal_11 kc_i0 ?_
    have hE := Option.some.inj hf
    subst hE
    exact gt_rz S hr hlocks nb0 dX3_isLocal_12
set_option maxRecDepth 100000 in
theorem mc_X3_X3_isLocal {a0 : Int32} {out : Int32} (S : CallFix p m c cc nL s args lw_all RX3) (hC : mC cl tys mi cI cJ cB) (hK : va_K D cl tys s) (hP : va_P D cl (mW mi cI cJ cB o ad th tp st fk fp ac si fr tt kd nu fa pl fo wd ci gr lm om nw rd aa kp ta nm rn gv gt rw rh lg lh ou) H) (hf : f_X3_isLocal nw a0 = some out) (hsz : ls.size = nL) (hR : 1 + 1 ≤ R.frames ∧ 8 + (4 + 11) + 22 ≤ R.locals) (hW : (rest.map fun v => v.category).sum ≤ 8) (hcs : cells ≤ R.cells ∧ slots ≤ R.slots) (hdg : decode cc pc = .ok (.invokevirtual 265, 3)) (kk : (narrow .boolean (.int out) = .int out) → W p l e R s m args below meth c H locs cells slots Q (F0 m (pc + 3) ls (.int out :: rest))) : W p l e R s m args below meth c H locs cells slots Q (F0 m pc ls (.int a0 :: .ref o :: rest)) :=
  gc_Vr (As := [.int a0]) S (mm_X3_isLocal hC hf) (cwV 1 S.2.2.2.2 (lw_V q2331 q2333 qs131 q189 q2334) rfl rfl rfl hd_X3_isLocal hR) (gPreV hK hP hC.1 (q0 := 0) rfl) rfl hsz rfl hW hdg hcs kk
theorem hd_X3_livedLets : yX3_livedLets.cls = RX3 ∧ yX3_livedLets.cls ≠ "java/lang/invoke/MethodHandle" ∧ yX3_livedLets.cls ≠ "java/lang/invoke/VarHandle" ∧ (parseMethodDescriptor yX3_livedLets.desc).map (fun d => d.parameters.length) = some 0 := by decide +kernel
set_option maxHeartbeats 4000000 in
set_option maxRecDepth 100000 in
theorem mm_X3_livedLets  {out : Int32} (hC : mC cl tys mi cI cJ cB) (hf : f_X3_livedLets nw = some out) : Met l yX3_livedLets (ws_ yX3_livedLets cX3_livedLets 3 (some .int)) (rM 1 22) (gPc D cl tys [.ref o] (mW mi cI cJ cB o ad th tp st fk fp ac si fr tt kd nu fa pl fo wd ci gr lm om nw rd aa kp ta nm rn gv gt rw rh lg lh ou)) (gR (some (.int out)) True) 0 0 (fun _ => False) := by
  refine gGo (by decide +kernel) (Nat.le_of_ble_eq_true rfl) (fun p e s m below meth c ls S hr hlocks hK hP hl => ?_)
  have S : CallFix p m c cX3_livedLets 3 s _ lw_all RX3 := S
  obtain ⟨hx, hb, hml, hown, hts⟩ := id S
  have hl : lv_has ls 3 [(0, .ref o)] := hl
  have w4 : ∀ (n : Nat) , ∀ (x1 : Int32) (x2 : Int32) (ls : Array Slot), lv_has ls 3 [(0, .ref o), (1, .int x1), (2, .int x2)] → f_X3_livedLets_4 n nw x1 x2 = some out → W p l e (rM 1 22) s m ([.ref o] : List Value).toArray below meth c s.heap [] 0 0 (MQ below (gR (some (.int out)) True) ([.ref o] : List Value).toArray s 0 0 (fun _ => False)) (F0 m 4 ls []) := by
    intro n
    induction n with
    | zero =>
      intro x1 x2 ls hl hf
      exact absurd hf (by rw [f_X3_livedLets_4]; exact nofun)
    | succ n ih =>
      intro x1 x2 ls hl hf
      rw [f_X3_livedLets_4] at hf
      refine lv_iload_n hx hb dX3_livedLets_4 rfl (lv_at hl 2 rfl) ?_
      refine lv_aload_n hx hb dX3_livedLets_5 rfl (lv_at hl 0 rfl) ?_
      refine mg_1 S hC hK hP dX3_livedLets_6 ?_
      refine lv_sipush hx hb dX3_livedLets_9 kc_s233 ?_
      refine ma_1 S hC hK hP kv_233_390 kn_233 dX3_livedLets_12 ?_
      refine lv_icmp_ge (tgt := 33) hx hb dX3_livedLets_13 (by decide) (fun c1 => ?_) (fun c1 => ?_)
      · replace hf := it_t c1 hf
        refine lv_iload_n hx hb dX3_livedLets_33 rfl (lv_at hl 1 rfl) ?_
        have hE := Option.some.inj hf
        subst hE
        exact gt_ri S hr hlocks trivial dX3_livedLets_34
      · replace hf := it_f c1 hf
        refine lv_iload_n hx hb dX3_livedLets_16 rfl (lv_at hl 1 rfl) ?_
        refine lv_aload_n hx hb dX3_livedLets_17 rfl (lv_at hl 0 rfl) ?_
        refine lv_iload_n hx hb dX3_livedLets_18 rfl (lv_at hl 2 rfl) ?_
        refine lv_iconst hx hb dX3_livedLets_19 kc_i5 ?_
        obtain ⟨v2, hv2, hf⟩ := ob_s hf
        refine mc_X3_X3_let0 S hC hK hP hv2 hl.1 ⟨Nat.le_of_ble_eq_true rfl, Nat.le_of_ble_eq_true rfl⟩ (Nat.le_of_ble_eq_true rfl) ⟨Nat.zero_le _, Nat.zero_le _⟩ dX3_livedLets_20 (fun _ => ?_)
        refine lv_iconst hx hb dX3_livedLets_23 kc_i1 ?_
        refine lv_ishr hx hb dX3_livedLets_24 ?_
        refine lv_iadd hx hb dX3_livedLets_25 ?_
        refine lv_istore_n (i := 1) (lv' := [(1, .int (x1 + (v2 >>> (1 &&& 31)))), (0, .ref o), (2, .int x2)]) hx hb dX3_livedLets_26 rfl hl (by decide) rfl (fun ls hl => ?_)
        refine lv_iinc (v := (x2 + 1)) (lv' := [(2, .int (x2 + 1)), (1, .int (x1 + (v2 >>> (1 &&& 31)))), (0, .ref o)]) hx hb dX3_livedLets_27 hl (k := 2) rfl rfl (by decide) rfl (fun ls hl => ?_)
        refine lv_goto (tgt := 4) hx hb dX3_livedLets_30 (by decide) ?_
        exact (ih) (x1 + (v2 >>> (1 &&& 31))) (x2 + 1) ls (lv_sub (l' := [(0, .ref o), (1, .int (x1 + (v2 >>> (1 &&& 31)))), (2, .int (x2 + 1))]) hl [2, 1, 0] rfl) hf
  rw [f_X3_livedLets] at hf
  refine lv_iconst hx hb dX3_livedLets_0 kc_i0 ?_
  refine lv_istore_n (i := 1) (lv' := [(1, .int 0), (0, .ref o)]) hx hb dX3_livedLets_1 rfl hl (by decide) rfl (fun ls hl => ?_)
  refine lv_iconst hx hb dX3_livedLets_2 kc_i0 ?_
  refine lv_istore_n (i := 2) (lv' := [(2, .int 0), (1, .int 0), (0, .ref o)]) hx hb dX3_livedLets_3 rfl hl (by decide) rfl (fun ls hl => ?_)
  exact (w4 FU) 0 0 ls (lv_sub (l' := [(0, .ref o), (1, .int 0), (2, .int 0)]) hl [2, 1, 0] rfl) hf
set_option maxRecDepth 100000 in
theorem mc_X3_X3_livedLets  {out : Int32} (S : CallFix p m c cc nL s args lw_all RX3) (hC : mC cl tys mi cI cJ cB) (hK : va_K D cl tys s) (hP : va_P D cl (mW mi cI cJ cB o ad th tp st fk fp ac si fr tt kd nu fa pl fo wd ci gr lm om nw rd aa kp ta nm rn gv gt rw rh lg lh ou) H) (hf : f_X3_livedLets nw = some out) (hsz : ls.size = nL) (hR : 1 + 1 ≤ R.frames ∧ 8 + (3 + 11) + 22 ≤ R.locals) (hW : (rest.map fun v => v.category).sum ≤ 8) (hcs : cells ≤ R.cells ∧ slots ≤ R.slots) (hdg : decode cc pc = .ok (.invokevirtual 262, 3)) (kk : True → W p l e R s m args below meth c H locs cells slots Q (F0 m (pc + 3) ls (.int out :: rest))) : W p l e R s m args below meth c H locs cells slots Q (F0 m pc ls (.ref o :: rest)) :=
  gc_Vr (As := []) S (mm_X3_livedLets hC hf) (cwV 0 S.2.2.2.2 (lw_V q2343 q2345 qs134 q189 q2346) rfl rfl rfl hd_X3_livedLets hR) (gPreV hK hP hC.1 (q0 := 0) rfl) rfl hsz rfl hW hdg hcs kk
theorem hd_X3_isQuota : yX3_isQuota.cls = RX3 ∧ yX3_isQuota.cls ≠ "java/lang/invoke/MethodHandle" ∧ yX3_isQuota.cls ≠ "java/lang/invoke/VarHandle" ∧ (parseMethodDescriptor yX3_isQuota.desc).map (fun d => d.parameters.length) = some 0 := by decide +kernel
set_option maxHeartbeats 4000000 in
set_option maxRecDepth 100000 in
theorem mm_X3_isQuota  {out : Int32} (hC : mC cl tys mi cI cJ cB) (hf : f_X3_isQuota nw = some out) : Met l yX3_isQuota (ws_ yX3_isQuota cX3_isQuota 1 (some .boolean)) (rM 2 44) (gPc D cl tys [.ref o] (mW mi cI cJ cB o ad th tp st fk fp ac si fr tt kd nu fa pl fo wd ci gr lm om nw rd aa kp ta nm rn gv gt rw rh lg lh ou)) (gR (some (.int out)) (narrow .boolean (.int out) = .int out)) 0 0 (fun _ => False) := by
  refine gGo (by decide +kernel) (Nat.le_of_ble_eq_true rfl) (fun p e s m below meth c ls S hr hlocks hK hP hl => ?_)
  have S : CallFix p m c cX3_isQuota 1 s _ lw_all RX3 := S
  obtain ⟨hx, hb, hml, hown, hts⟩ := id S
  have hl : lv_has ls 1 [(0, .ref o)] := hl
  rw [f_X3_isQuota] at hf
  refine lv_bipush hx hb dX3_isQuota_0 kc_b100 ?_
  refine lv_aload_n hx hb dX3_isQuota_2 rfl (lv_at hl 0 rfl) ?_
  obtain ⟨v1, hv1, hf⟩ := ob_s hf
  refine mc_X3_X3_livedLets S hC hK hP hv1 hl.1 ⟨Nat.le_of_ble_eq_true rfl, Nat.le_of_ble_eq_true rfl⟩ (Nat.le_of_ble_eq_true rfl) ⟨Nat.zero_le _, Nat.zero_le _⟩ dX3_isQuota_3 (fun _ => ?_)
  refine lv_imul hx hb dX3_isQuota_6 ?_
  refine lv_aload_n hx hb dX3_isQuota_7 rfl (lv_at hl 0 rfl) ?_
  refine mg_1 S hC hK hP dX3_isQuota_8 ?_
  refine lv_sipush hx hb dX3_isQuota_11 kc_s227 ?_
  refine ma_1 S hC hK hP kv_227_390 kn_227 dX3_isQuota_14 ?_
  refine lv_aload_n hx hb dX3_isQuota_15 rfl (lv_at hl 0 rfl) ?_
  refine mg_1 S hC hK hP dX3_isQuota_16 ?_
  refine lv_sipush hx hb dX3_isQuota_19 kc_s233 ?_
  refine ma_1 S hC hK hP kv_233_390 kn_233 dX3_isQuota_22 ?_
  refine lv_imul hx hb dX3_isQuota_23 ?_
  refine lv_icmp_ge (tgt := 31) hx hb dX3_isQuota_24 (by decide) (fun c2 => ?_) (fun c2 => ?_)
  · replace hf := it_t c2 hf
    refine lv_iconst hx hb dX3_isQuota_31 kc_i0 ?_
    have hE := Option.some.inj hf
    subst hE
    exact gt_rz S hr hlocks nb0 dX3_isQuota_32
  · replace hf := it_f c2 hf
    refine lv_iconst hx hb dX3_isQuota_27 kc_i1 ?_
    refine lv_goto (tgt := 32) hx hb dX3_isQuota_28 (by decide) ?_
    have hE := Option.some.inj hf
    subst hE
    exact gt_rz S hr hlocks nb1 dX3_isQuota_32
set_option maxRecDepth 100000 in
theorem mc_X3_X3_isQuota  {out : Int32} (S : CallFix p m c cc nL s args lw_all RX3) (hC : mC cl tys mi cI cJ cB) (hK : va_K D cl tys s) (hP : va_P D cl (mW mi cI cJ cB o ad th tp st fk fp ac si fr tt kd nu fa pl fo wd ci gr lm om nw rd aa kp ta nm rn gv gt rw rh lg lh ou) H) (hf : f_X3_isQuota nw = some out) (hsz : ls.size = nL) (hR : 2 + 1 ≤ R.frames ∧ 8 + (1 + 11) + 44 ≤ R.locals) (hW : (rest.map fun v => v.category).sum ≤ 8) (hcs : cells ≤ R.cells ∧ slots ≤ R.slots) (hdg : decode cc pc = .ok (.invokevirtual 268, 3)) (kk : (narrow .boolean (.int out) = .int out) → W p l e R s m args below meth c H locs cells slots Q (F0 m (pc + 3) ls (.int out :: rest))) : W p l e R s m args below meth c H locs cells slots Q (F0 m pc ls (.ref o :: rest)) :=
  gc_Vr (As := []) S (mm_X3_isQuota hC hf) (cwV 0 S.2.2.2.2 (lw_V q2339 q2341 qs133 q189 q2342) rfl rfl rfl hd_X3_isQuota hR) (gPreV hK hP hC.1 (q0 := 0) rfl) rfl hsz rfl hW hdg hcs kk
theorem hd_X3_weight_2 : yX3_weight_2.cls = RX3 ∧ yX3_weight_2.cls ≠ "java/lang/invoke/MethodHandle" ∧ yX3_weight_2.cls ≠ "java/lang/invoke/VarHandle" ∧ (parseMethodDescriptor yX3_weight_2.desc).map (fun d => d.parameters.length) = some 3 := by decide +kernel
set_option maxHeartbeats 4000000 in
set_option maxRecDepth 100000 in
theorem mm_X3_weight_2 {a0 : Int32} {a1 : Int32} {a2 : Int32} {out : Int32} (hC : mC cl tys mi cI cJ cB) (hf : f_X3_weight_2 nw a0 a1 a2 = some out) : Met l yX3_weight_2 (ws_ yX3_weight_2 cX3_weight_2 6 (some .int)) (rM 3 64) (gPc D cl tys [.ref o, .int a0, .int a1, .int a2] (mW mi cI cJ cB o ad th tp st fk fp ac si fr tt kd nu fa pl fo wd ci gr lm om nw rd aa kp ta nm rn gv gt rw rh lg lh ou)) (gR (some (.int out)) True) 0 0 (fun _ => False) := by
  refine gGo (by decide +kernel) (Nat.le_of_ble_eq_true rfl) (fun p e s m below meth c ls S hr hlocks hK hP hl => ?_)
  have S : CallFix p m c cX3_weight_2 6 s _ lw_all RX3 := S
  obtain ⟨hx, hb, hml, hown, hts⟩ := id S
  have hl : lv_has ls 6 [(0, .ref o), (1, .int a0), (2, .int a1), (3, .int a2)] := hl
  have w52 : ∀ (x1 : Int32) (x3 : Int32) (x4 : Int32) (y0 : Int32) (ls : Array Slot), lv_has ls 6 [(0, .ref o), (1, .int x1), (3, .int x3), (4, .int x4)] → f_X3_weight_2_52 nw x1 x3 x4 y0 = some out → W p l e (rM 3 64) s m ([.ref o, .int a0, .int a1, .int a2] : List Value).toArray below meth c s.heap [] 0 0 (MQ below (gR (some (.int out)) True) ([.ref o, .int a0, .int a1, .int a2] : List Value).toArray s 0 0 (fun _ => False)) (F0 m 52 ls [.int y0]) := by
    intro x1 x3 x4 y0 ls hl hf
    rw [f_X3_weight_2_52] at hf
    refine lv_istore (lv' := [(5, .int y0), (0, .ref o), (1, .int x1), (3, .int x3), (4, .int x4)]) hx hb dX3_weight_2_52 hl (by decide) rfl (fun ls hl => ?_)
    refine lv_iconst hx hb dX3_weight_2_54 kc_i2 ?_
    refine lv_iload hx hb dX3_weight_2_55 (lv_at hl 4 rfl) ?_
    refine lv_imul hx hb dX3_weight_2_57 ?_
    refine lv_iload hx hb dX3_weight_2_58 (lv_at hl 0 rfl) ?_
    refine lv_iadd hx hb dX3_weight_2_60 ?_
    refine lv_iconst hx hb dX3_weight_2_61 kc_i5 ?_
    refine lv_imul hx hb dX3_weight_2_62 ?_
    refine lv_iload_n hx hb dX3_weight_2_63 rfl (lv_at hl 3 rfl) ?_
    refine lv_iadd hx hb dX3_weight_2_64 ?_
    refine lv_sipush hx hb dX3_weight_2_65 kc_s1000 ?_
    refine lv_imul hx hb dX3_weight_2_68 ?_
    refine lv_aload_n hx hb dX3_weight_2_69 rfl (lv_at hl 1 rfl) ?_
    refine lv_iload_n hx hb dX3_weight_2_70 rfl (lv_at hl 2 rfl) ?_
    refine lv_iconst hx hb dX3_weight_2_71 kc_i3 ?_
    obtain ⟨v1, hv1, hf⟩ := ob_s hf
    refine mc_X3_X3_of S hC hK hP hv1 hl.1 ⟨Nat.le_of_ble_eq_true rfl, Nat.le_of_ble_eq_true rfl⟩ (Nat.le_of_ble_eq_true rfl) ⟨Nat.zero_le _, Nat.zero_le _⟩ dX3_weight_2_72 (fun _ => ?_)
    refine lv_iadd hx hb dX3_weight_2_75 ?_
    refine lv_bipush hx hb dX3_weight_2_76 kc_b8 ?_
    refine lv_imul hx hb dX3_weight_2_78 ?_
    refine lv_iload_n hx hb dX3_weight_2_79 rfl (lv_at hl 2 rfl) ?_
    refine lv_iadd hx hb dX3_weight_2_80 ?_
    have hE := Option.some.inj hf
    subst hE
    exact gt_ri S hr hlocks trivial dX3_weight_2_81
  have w28 : ∀ (x1 : Int32) (x3 : Int32) (y0 : Int32) (ls : Array Slot), lv_has ls 6 [(0, .ref o), (1, .int x1), (3, .int x3)] → f_X3_weight_2_28 nw x1 x3 y0 = some out → W p l e (rM 3 64) s m ([.ref o, .int a0, .int a1, .int a2] : List Value).toArray below meth c s.heap [] 0 0 (MQ below (gR (some (.int out)) True) ([.ref o, .int a0, .int a1, .int a2] : List Value).toArray s 0 0 (fun _ => False)) (F0 m 28 ls [.int y0]) := by
    intro x1 x3 y0 ls hl hf
    rw [f_X3_weight_2_28] at hf
    refine lv_istore (lv' := [(4, .int y0), (0, .ref o), (1, .int x1), (3, .int x3)]) hx hb dX3_weight_2_28 hl (by decide) rfl (fun ls hl => ?_)
    refine lv_aload_n hx hb dX3_weight_2_30 rfl (lv_at hl 1 rfl) ?_
    obtain ⟨v1, hv1, hf⟩ := ob_s hf
    refine mc_X3_X3_isQuota S hC hK hP hv1 hl.1 ⟨Nat.le_of_ble_eq_true rfl, Nat.le_of_ble_eq_true rfl⟩ (Nat.le_of_ble_eq_true rfl) ⟨Nat.zero_le _, Nat.zero_le _⟩ dX3_weight_2_31 (fun hnv1 => ?_)
    refine lv_if_eq (tgt := 51) hx hb dX3_weight_2_34 (by decide) (fun c2 => ?_) (fun c2 => ?_)
    · replace hf := it_t c2 hf
      refine lv_iconst hx hb dX3_weight_2_51 kc_i0 ?_
      exact (w52) x1 x3 y0 0 ls (lv_sub (l' := [(0, .ref o), (1, .int x1), (3, .int x3), (4, .int y0)]) hl [1, 2, 3, 0] rfl) hf
    · replace hf := it_f c2 hf
      refine lv_aload_n hx hb dX3_weight_2_37 rfl (lv_at hl 1 rfl) ?_
      refine lv_iload_n hx hb dX3_weight_2_38 rfl (lv_at hl 2 rfl) ?_
      refine lv_iconst hx hb dX3_weight_2_39 kc_i4 ?_
      obtain ⟨v3, hv3, hf⟩ := ob_s hf
      refine mc_X3_X3_of S hC hK hP hv3 hl.1 ⟨Nat.le_of_ble_eq_true rfl, Nat.le_of_ble_eq_true rfl⟩ (Nat.le_of_ble_eq_true rfl) ⟨Nat.zero_le _, Nat.zero_le _⟩ dX3_weight_2_40 (fun _ => ?_)
      refine lv_iconst hx hb dX3_weight_2_43 kc_im1 ?_
      refine lv_icmp_ne (tgt := 51) hx hb dX3_weight_2_44 (by decide) (fun c4 => ?_) (fun c4 => ?_)
      · replace hf := it_f c4 hf
        refine lv_iconst hx hb dX3_weight_2_51 kc_i0 ?_
        exact (w52) x1 x3 y0 0 ls (lv_sub (l' := [(0, .ref o), (1, .int x1), (3, .int x3), (4, .int y0)]) hl [1, 2, 3, 0] rfl) hf
      · replace hf := it_t c4 hf
        refine lv_iconst hx hb dX3_weight_2_47 kc_i1 ?_
        refine lv_goto (tgt := 52) hx hb dX3_weight_2_48 (by decide) ?_
        exact (w52) x1 x3 y0 1 ls (lv_sub (l' := [(0, .ref o), (1, .int x1), (3, .int x3), (4, .int y0)]) hl [1, 2, 3, 0] rfl) hf
  rw [f_X3_weight_2] at hf
  refine lv_aload_n hx hb dX3_weight_2_0 rfl (lv_at hl 0 rfl) ?_
  refine lv_iload_n hx hb dX3_weight_2_1 rfl (lv_at hl 2 rfl) ?_
  obtain ⟨v1, hv1, hf⟩ := ob_s hf
  refine mc_X3_X3_isLocal S hC hK hP hv1 hl.1 ⟨Nat.le_of_ble_eq_true rfl, Nat.le_of_ble_eq_true rfl⟩ (Nat.le_of_ble_eq_true rfl) ⟨Nat.zero_le _, Nat.zero_le _⟩ dX3_weight_2_2 (fun hnv1 => ?_)
  refine lv_if_eq (tgt := 27) hx hb dX3_weight_2_5 (by decide) (fun c2 => ?_) (fun c2 => ?_)
  · replace hf := it_t c2 hf
    refine lv_iconst hx hb dX3_weight_2_27 kc_i0 ?_
    exact (w28) a0 a2 0 ls (lv_sub (l' := [(0, .ref o), (1, .int a0), (3, .int a2)]) hl [0, 1, 3] rfl) hf
  · replace hf := it_f c2 hf
    refine lv_aload_n hx hb dX3_weight_2_8 rfl (lv_at hl 0 rfl) ?_
    refine lv_iload_n hx hb dX3_weight_2_9 rfl (lv_at hl 1 rfl) ?_
    refine lv_iconst hx hb dX3_weight_2_10 kc_i2 ?_
    obtain ⟨v3, hv3, hf⟩ := ob_s hf
    refine mc_X3_X3_of S hC hK hP hv3 hl.1 ⟨Nat.le_of_ble_eq_true rfl, Nat.le_of_ble_eq_true rfl⟩ (Nat.le_of_ble_eq_true rfl) ⟨Nat.zero_le _, Nat.zero_le _⟩ dX3_weight_2_11 (fun _ => ?_)
    refine lv_aload_n hx hb dX3_weight_2_14 rfl (lv_at hl 0 rfl) ?_
    refine lv_iload_n hx hb dX3_weight_2_15 rfl (lv_at hl 2 rfl) ?_
    refine lv_iconst hx hb dX3_weight_2_16 kc_i1 ?_
    obtain ⟨v4, hv4, hf⟩ := ob_s hf
    refine mc_X3_X3_home0 S hC hK hP hv4 hl.1 ⟨Nat.le_of_ble_eq_true rfl, Nat.le_of_ble_eq_true rfl⟩ (Nat.le_of_ble_eq_true rfl) ⟨Nat.zero_le _, Nat.zero_le _⟩ dX3_weight_2_17 (fun _ => ?_)
    refine lv_icmp_eq (tgt := 27) hx hb dX3_weight_2_20 (by decide) (fun c5 => ?_) (fun c5 => ?_)
    · replace hf := it_t c5 hf
      refine lv_iconst hx hb dX3_weight_2_27 kc_i0 ?_
      exact (w28) a0 a2 0 ls (lv_sub (l' := [(0, .ref o), (1, .int a0), (3, .int a2)]) hl [0, 1, 3] rfl) hf
    · replace hf := it_f c5 hf
      refine lv_iconst hx hb dX3_weight_2_23 kc_i1 ?_
      refine lv_goto (tgt := 28) hx hb dX3_weight_2_24 (by decide) ?_
      exact (w28) a0 a2 1 ls (lv_sub (l' := [(0, .ref o), (1, .int a0), (3, .int a2)]) hl [0, 1, 3] rfl) hf
set_option maxRecDepth 100000 in
theorem mc_X3_X3_weight_2 {a0 : Int32} {a1 : Int32} {a2 : Int32} {out : Int32} (S : CallFix p m c cc nL s args lw_all RX3) (hC : mC cl tys mi cI cJ cB) (hK : va_K D cl tys s) (hP : va_P D cl (mW mi cI cJ cB o ad th tp st fk fp ac si fr tt kd nu fa pl fo wd ci gr lm om nw rd aa kp ta nm rn gv gt rw rh lg lh ou) H) (hf : f_X3_weight_2 nw a0 a1 a2 = some out) (hsz : ls.size = nL) (hR : 3 + 1 ≤ R.frames ∧ 8 + (6 + 11) + 64 ≤ R.locals) (hW : (rest.map fun v => v.category).sum ≤ 8) (hcs : cells ≤ R.cells ∧ slots ≤ R.slots) (hdg : decode cc pc = .ok (.invokevirtual 271, 3)) (kk : True → W p l e R s m args below meth c H locs cells slots Q (F0 m (pc + 3) ls (.int out :: rest))) : W p l e R s m args below meth c H locs cells slots Q (F0 m pc ls (.int a2 :: .int a1 :: .int a0 :: .ref o :: rest)) :=
  gc_Vr (As := [.int a0, .int a1, .int a2]) S (mm_X3_weight_2 hC hf) (cwV 3 S.2.2.2.2 (lw_V q2327 q2329 qs130 q189 q2330) rfl rfl rfl hd_X3_weight_2 hR) (gPreV hK hP hC.1 (q0 := 0) rfl) rfl hsz rfl hW hdg hcs kk
theorem hd_X3_weight : yX3_weight.cls = RX3 ∧ yX3_weight.cls ≠ "java/lang/invoke/MethodHandle" ∧ yX3_weight.cls ≠ "java/lang/invoke/VarHandle" ∧ (parseMethodDescriptor yX3_weight.desc).map (fun d => d.parameters.length) = some 2 := by decide +kernel
set_option maxHeartbeats 4000000 in
set_option maxRecDepth 100000 in
theorem mm_X3_weight {a0 : Int32} {a1 : Int32} {out : Int32} (hC : mC cl tys mi cI cJ cB) (hf : f_X3_weight nw a0 a1 = some out) : Met l yX3_weight (ws_ yX3_weight cX3_weight 3 (some .int)) (rM 4 89) (gPc D cl tys [.ref o, .int a0, .int a1] (mW mi cI cJ cB o ad th tp st fk fp ac si fr tt kd nu fa pl fo wd ci gr lm om nw rd aa kp ta nm rn gv gt rw rh lg lh ou)) (gR (some (.int out)) True) 0 0 (fun _ => False) := by
  refine gGo (by decide +kernel) (Nat.le_of_ble_eq_true rfl) (fun p e s m below meth c ls S hr hlocks hK hP hl => ?_)
  have S : CallFix p m c cX3_weight 3 s _ lw_all RX3 := S
  obtain ⟨hx, hb, hml, hown, hts⟩ := id S
  have hl : lv_has ls 3 [(0, .ref o), (1, .int a0), (2, .int a1)] := hl
  rw [f_X3_weight] at hf
  refine lv_aload_n hx hb dX3_weight_0 rfl (lv_at hl 0 rfl) ?_
  refine lv_iload_n hx hb dX3_weight_1 rfl (lv_at hl 1 rfl) ?_
  refine lv_iload_n hx hb dX3_weight_2 rfl (lv_at hl 2 rfl) ?_
  refine lv_aload_n hx hb dX3_weight_3 rfl (lv_at hl 0 rfl) ?_
  refine lv_iload_n hx hb dX3_weight_4 rfl (lv_at hl 1 rfl) ?_
  obtain ⟨v1, hv1, hf⟩ := ob_s hf
  refine mc_X3_X3_bandNow S hC hK hP hv1 hl.1 ⟨Nat.le_of_ble_eq_true rfl, Nat.le_of_ble_eq_true rfl⟩ (Nat.le_of_ble_eq_true rfl) ⟨Nat.zero_le _, Nat.zero_le _⟩ dX3_weight_5 (fun _ => ?_)
  obtain ⟨v2, hv2, hf⟩ := ob_s hf
  refine mc_X3_X3_weight_2 S hC hK hP hv2 hl.1 ⟨Nat.le_of_ble_eq_true rfl, Nat.le_of_ble_eq_true rfl⟩ (Nat.le_of_ble_eq_true rfl) ⟨Nat.zero_le _, Nat.zero_le _⟩ dX3_weight_8 (fun _ => ?_)
  have hE := Option.some.inj hf
  subst hE
  exact gt_ri S hr hlocks trivial dX3_weight_11
set_option maxRecDepth 100000 in
theorem mc_X3_X3_weight {a0 : Int32} {a1 : Int32} {out : Int32} (S : CallFix p m c cc nL s args lw_all RX3) (hC : mC cl tys mi cI cJ cB) (hK : va_K D cl tys s) (hP : va_P D cl (mW mi cI cJ cB o ad th tp st fk fp ac si fr tt kd nu fa pl fo wd ci gr lm om nw rd aa kp ta nm rn gv gt rw rh lg lh ou) H) (hf : f_X3_weight nw a0 a1 = some out) (hsz : ls.size = nL) (hR : 4 + 1 ≤ R.frames ∧ 8 + (3 + 11) + 89 ≤ R.locals) (hW : (rest.map fun v => v.category).sum ≤ 8) (hcs : cells ≤ R.cells ∧ slots ≤ R.slots) (hdg : decode cc pc = .ok (.invokevirtual 275, 3)) (kk : True → W p l e R s m args below meth c H locs cells slots Q (F0 m (pc + 3) ls (.int out :: rest))) : W p l e R s m args below meth c H locs cells slots Q (F0 m pc ls (.int a1 :: .int a0 :: .ref o :: rest)) :=
  gc_Vr (As := [.int a0, .int a1]) S (mm_X3_weight hC hf) (cwV 2 S.2.2.2.2 (lw_V q2323 q2325 qs129 q189 q2326) rfl rfl rfl hd_X3_weight hR) (gPreV hK hP hC.1 (q0 := 0) rfl) rfl hsz rfl hW hdg hcs kk
theorem hd_X3_firstOf : yX3_firstOf.cls = RX3 ∧ yX3_firstOf.cls ≠ "java/lang/invoke/MethodHandle" ∧ yX3_firstOf.cls ≠ "java/lang/invoke/VarHandle" ∧ (parseMethodDescriptor yX3_firstOf.desc).map (fun d => d.parameters.length) = some 2 := by decide +kernel
set_option maxHeartbeats 4000000 in
set_option maxRecDepth 100000 in
theorem mm_X3_firstOf {a0 : Int32} {a1 : Int32} {out : Int32} (hC : mC cl tys mi cI cJ cB) (hf : f_X3_firstOf nw a0 a1 = some out) : Met l yX3_firstOf (ws_ yX3_firstOf cX3_firstOf 5 (some .int)) (rM 5 111) (gPc D cl tys [.ref o, .int a0, .int a1] (mW mi cI cJ cB o ad th tp st fk fp ac si fr tt kd nu fa pl fo wd ci gr lm om nw rd aa kp ta nm rn gv gt rw rh lg lh ou)) (gR (some (.int out)) True) 0 0 (fun _ => False) := by
  refine gGo (by decide +kernel) (Nat.le_of_ble_eq_true rfl) (fun p e s m below meth c ls S hr hlocks hK hP hl => ?_)
  have S : CallFix p m c cX3_firstOf 5 s _ lw_all RX3 := S
  obtain ⟨hx, hb, hml, hown, hts⟩ := id S
  have hl : lv_has ls 5 [(0, .ref o), (1, .int a0), (2, .int a1)] := hl
  have w5 : ∀ (n : Nat) , ∀ (x1 : Int32) (x2 : Int32) (x3 : Int32) (x4 : Int32) (ls : Array Slot), lv_has ls 5 [(0, .ref o), (1, .int x1), (2, .int x2), (3, .int x3), (4, .int x4)] → f_X3_firstOf_5 n nw x1 x2 x3 x4 = some out → W p l e (rM 5 111) s m ([.ref o, .int a0, .int a1] : List Value).toArray below meth c s.heap [] 0 0 (MQ below (gR (some (.int out)) True) ([.ref o, .int a0, .int a1] : List Value).toArray s 0 0 (fun _ => False)) (F0 m 5 ls []) := by
    intro n
    induction n with
    | zero =>
      intro x1 x2 x3 x4 ls hl hf
      exact absurd hf (by rw [f_X3_firstOf_5]; exact nofun)
    | succ n ih =>
      intro x1 x2 x3 x4 ls hl hf
      rw [f_X3_firstOf_5] at hf
      refine lv_iload hx hb dX3_firstOf_5 (lv_at hl 4 rfl) ?_
      refine lv_aload_n hx hb dX3_firstOf_7 rfl (lv_at hl 0 rfl) ?_
      refine mg_1 S hC hK hP dX3_firstOf_8 ?_
      refine lv_sipush hx hb dX3_firstOf_11 kc_s231 ?_
      refine ma_1 S hC hK hP kv_231_390 kn_231 dX3_firstOf_14 ?_
      refine lv_icmp_ge (tgt := 58) hx hb dX3_firstOf_15 (by decide) (fun c1 => ?_) (fun c1 => ?_)
      · replace hf := it_t c1 hf
        refine lv_iload_n hx hb dX3_firstOf_58 rfl (lv_at hl 3 rfl) ?_
        have hE := Option.some.inj hf
        subst hE
        exact gt_ri S hr hlocks trivial dX3_firstOf_59
      · replace hf := it_f c1 hf
        refine lv_iload_n hx hb dX3_firstOf_18 rfl (lv_at hl 1 rfl) ?_
        refine lv_iload hx hb dX3_firstOf_19 (lv_at hl 4 rfl) ?_
        refine lv_ishr hx hb dX3_firstOf_21 ?_
        refine lv_iconst hx hb dX3_firstOf_22 kc_i1 ?_
        refine lv_iand hx hb dX3_firstOf_23 ?_
        refine lv_iconst hx hb dX3_firstOf_24 kc_i1 ?_
        refine lv_icmp_ne (tgt := 52) hx hb dX3_firstOf_25 (by decide) (fun c2 => ?_) (fun c2 => ?_)
        · replace hf := it_f c2 hf
          refine lv_iinc (v := (x4 + 1)) (lv' := [(4, .int (x4 + 1)), (0, .ref o), (1, .int x1), (2, .int x2), (3, .int x3)]) hx hb dX3_firstOf_52 hl (k := 4) rfl rfl (by decide) rfl (fun ls hl => ?_)
          refine lv_goto (tgt := 5) hx hb dX3_firstOf_55 (by decide) ?_
          exact (ih) x1 x2 x3 (x4 + 1) ls (lv_sub (l' := [(0, .ref o), (1, .int x1), (2, .int x2), (3, .int x3), (4, .int (x4 + 1))]) hl [1, 2, 3, 4, 0] rfl) hf
        · replace hf := it_t c2 hf
          refine lv_iload_n hx hb dX3_firstOf_28 rfl (lv_at hl 3 rfl) ?_
          refine lv_iconst hx hb dX3_firstOf_29 kc_im1 ?_
          refine lv_icmp_eq (tgt := 49) hx hb dX3_firstOf_30 (by decide) (fun c3 => ?_) (fun c3 => ?_)
          · replace hf := it_t c3 hf
            refine lv_iload hx hb dX3_firstOf_49 (lv_at hl 4 rfl) ?_
            refine lv_istore_n (i := 3) (lv' := [(3, .int x4), (0, .ref o), (1, .int x1), (2, .int x2), (4, .int x4)]) hx hb dX3_firstOf_51 rfl hl (by decide) rfl (fun ls hl => ?_)
            refine lv_iinc (v := (x4 + 1)) (lv' := [(4, .int (x4 + 1)), (3, .int x4), (0, .ref o), (1, .int x1), (2, .int x2)]) hx hb dX3_firstOf_52 hl (k := 4) rfl rfl (by decide) rfl (fun ls hl => ?_)
            refine lv_goto (tgt := 5) hx hb dX3_firstOf_55 (by decide) ?_
            exact (ih) x1 x2 x4 (x4 + 1) ls (lv_sub (l' := [(0, .ref o), (1, .int x1), (2, .int x2), (3, .int x4), (4, .int (x4 + 1))]) hl [2, 3, 4, 1, 0] rfl) hf
          · replace hf := it_f c3 hf
            refine lv_aload_n hx hb dX3_firstOf_33 rfl (lv_at hl 0 rfl) ?_
            refine lv_iload hx hb dX3_firstOf_34 (lv_at hl 4 rfl) ?_
            refine lv_iload_n hx hb dX3_firstOf_36 rfl (lv_at hl 2 rfl) ?_
            obtain ⟨v4, hv4, hf⟩ := ob_s hf
            refine mc_X3_X3_weight S hC hK hP hv4 hl.1 ⟨Nat.le_of_ble_eq_true rfl, Nat.le_of_ble_eq_true rfl⟩ (Nat.le_of_ble_eq_true rfl) ⟨Nat.zero_le _, Nat.zero_le _⟩ dX3_firstOf_37 (fun _ => ?_)
            refine lv_aload_n hx hb dX3_firstOf_40 rfl (lv_at hl 0 rfl) ?_
            refine lv_iload_n hx hb dX3_firstOf_41 rfl (lv_at hl 3 rfl) ?_
            refine lv_iload_n hx hb dX3_firstOf_42 rfl (lv_at hl 2 rfl) ?_
            obtain ⟨v5, hv5, hf⟩ := ob_s hf
            refine mc_X3_X3_weight S hC hK hP hv5 hl.1 ⟨Nat.le_of_ble_eq_true rfl, Nat.le_of_ble_eq_true rfl⟩ (Nat.le_of_ble_eq_true rfl) ⟨Nat.zero_le _, Nat.zero_le _⟩ dX3_firstOf_43 (fun _ => ?_)
            refine lv_icmp_ge (tgt := 52) hx hb dX3_firstOf_46 (by decide) (fun c6 => ?_) (fun c6 => ?_)
            · replace hf := it_t c6 hf
              refine lv_iinc (v := (x4 + 1)) (lv' := [(4, .int (x4 + 1)), (0, .ref o), (1, .int x1), (2, .int x2), (3, .int x3)]) hx hb dX3_firstOf_52 hl (k := 4) rfl rfl (by decide) rfl (fun ls hl => ?_)
              refine lv_goto (tgt := 5) hx hb dX3_firstOf_55 (by decide) ?_
              exact (ih) x1 x2 x3 (x4 + 1) ls (lv_sub (l' := [(0, .ref o), (1, .int x1), (2, .int x2), (3, .int x3), (4, .int (x4 + 1))]) hl [1, 2, 3, 4, 0] rfl) hf
            · replace hf := it_f c6 hf
              refine lv_iload hx hb dX3_firstOf_49 (lv_at hl 4 rfl) ?_
              refine lv_istore_n (i := 3) (lv' := [(3, .int x4), (0, .ref o), (1, .int x1), (2, .int x2), (4, .int x4)]) hx hb dX3_firstOf_51 rfl hl (by decide) rfl (fun ls hl => ?_)
              refine lv_iinc (v := (x4 + 1)) (lv' := [(4, .int (x4 + 1)), (3, .int x4), (0, .ref o), (1, .int x1), (2, .int x2)]) hx hb dX3_firstOf_52 hl (k := 4) rfl rfl (by decide) rfl (fun ls hl => ?_)
              refine lv_goto (tgt := 5) hx hb dX3_firstOf_55 (by decide) ?_
              exact (ih) x1 x2 x4 (x4 + 1) ls (lv_sub (l' := [(0, .ref o), (1, .int x1), (2, .int x2), (3, .int x4), (4, .int (x4 + 1))]) hl [2, 3, 4, 1, 0] rfl) hf
  rw [f_X3_firstOf] at hf
  refine lv_iconst hx hb dX3_firstOf_0 kc_im1 ?_
  refine lv_istore_n (i := 3) (lv' := [(3, .int (-1)), (0, .ref o), (1, .int a0), (2, .int a1)]) hx hb dX3_firstOf_1 rfl hl (by decide) rfl (fun ls hl => ?_)
  refine lv_iconst hx hb dX3_firstOf_2 kc_i0 ?_
  refine lv_istore (lv' := [(4, .int 0), (3, .int (-1)), (0, .ref o), (1, .int a0), (2, .int a1)]) hx hb dX3_firstOf_3 hl (by decide) rfl (fun ls hl => ?_)
  exact (w5 FU) a0 a1 (-1) 0 ls (lv_sub (l' := [(0, .ref o), (1, .int a0), (2, .int a1), (3, .int (-1)), (4, .int 0)]) hl [2, 3, 4, 1, 0] rfl) hf
set_option maxRecDepth 100000 in
theorem mc_X3_X3_firstOf {a0 : Int32} {a1 : Int32} {out : Int32} (S : CallFix p m c cc nL s args lw_all RX3) (hC : mC cl tys mi cI cJ cB) (hK : va_K D cl tys s) (hP : va_P D cl (mW mi cI cJ cB o ad th tp st fk fp ac si fr tt kd nu fa pl fo wd ci gr lm om nw rd aa kp ta nm rn gv gt rw rh lg lh ou) H) (hf : f_X3_firstOf nw a0 a1 = some out) (hsz : ls.size = nL) (hR : 5 + 1 ≤ R.frames ∧ 8 + (5 + 11) + 111 ≤ R.locals) (hW : (rest.map fun v => v.category).sum ≤ 8) (hcs : cells ≤ R.cells ∧ slots ≤ R.slots) (hdg : decode cc pc = .ok (.invokevirtual 280, 3)) (kk : True → W p l e R s m args below meth c H locs cells slots Q (F0 m (pc + 3) ls (.int out :: rest))) : W p l e R s m args below meth c H locs cells slots Q (F0 m pc ls (.int a1 :: .int a0 :: .ref o :: rest)) :=
  gc_Vr (As := [.int a0, .int a1]) S (mm_X3_firstOf hC hf) (cwV 2 S.2.2.2.2 (lw_V q2319 q2321 qs128 q189 q2322) rfl rfl rfl hd_X3_firstOf hR) (gPreV hK hP hC.1 (q0 := 0) rfl) rfl hsz rfl hW hdg hcs kk
theorem hd_X3_order : yX3_order.cls = RX3 ∧ yX3_order.cls ≠ "java/lang/invoke/MethodHandle" ∧ yX3_order.cls ≠ "java/lang/invoke/VarHandle" ∧ (parseMethodDescriptor yX3_order.desc).map (fun d => d.parameters.length) = some 2 := by decide +kernel
set_option maxHeartbeats 4000000 in
set_option maxRecDepth 100000 in
theorem mm_X3_order {a0 : Int32} {a1 : Int32} {out : Int32 × Int32 × Int32} (hC : mC cl tys mi cI cJ cB) (hD : mD o ad) (hf : f_X3_order nw th st a0 a1 = some out) : Met l yX3_order (ws_ yX3_order cX3_order 5 (some .int)) (rM 6 135) (gPc D cl tys [.ref o, .int a0, .int a1] (mW mi cI cJ cB o ad th tp st fk fp ac si fr tt kd nu fa pl fo wd ci gr lm om nw rd aa kp ta nm rn gv gt rw rh lg lh ou)) (gQ D cl (some (.int out.1)) True (mW mi cI cJ cB o ad out.2.1 tp out.2.2 fk fp ac si fr tt kd nu fa pl fo wd ci gr lm om nw rd aa kp ta nm rn gv gt rw rh lg lh ou) (mA o ad)) 0 0 (mA o ad) := by
  refine gGo (by decide +kernel) (Nat.le_of_ble_eq_true rfl) (fun p e s m below meth c ls S hr hlocks hK hP hl => ?_)
  have S : CallFix p m c cX3_order 5 s _ lw_all RX3 := S
  obtain ⟨hx, hb, hml, hown, hts⟩ := id S
  have hl : lv_has ls 5 [(0, .ref o), (1, .int a0), (2, .int a1)] := hl
  have w47 : ∀ (n : Nat) , ∀ (x1 : Int32) (x2 : Int32) (x3 : Int32) (x4 : Int32) (th : Int32) (st : Int32) (ls : Array Slot) (H : Heap) (locs : List Loc), va_P D cl (mW mi cI cJ cB o ad th tp st fk fp ac si fr tt kd nu fa pl fo wd ci gr lm om nw rd aa kp ta nm rn gv gt rw rh lg lh ou) H → va_S (mA o ad) s.heap H locs → lv_has ls 5 [(0, .ref o), (1, .int x1), (2, .int x2), (3, .int x3), (4, .int x4)] → f_X3_order_47 n nw x1 x2 x3 x4 th st = some out → W p l e (rM 6 135) s m ([.ref o, .int a0, .int a1] : List Value).toArray below meth c H locs 0 0 (MQ below (gQ D cl (some (.int out.1)) True (mW mi cI cJ cB o ad out.2.1 tp out.2.2 fk fp ac si fr tt kd nu fa pl fo wd ci gr lm om nw rd aa kp ta nm rn gv gt rw rh lg lh ou) (mA o ad)) ([.ref o, .int a0, .int a1] : List Value).toArray s 0 0 (mA o ad)) (F0 m 47 ls []) := by
    intro n
    induction n with
    | zero =>
      intro x1 x2 x3 x4 th st ls H locs hP hS hl hf
      exact absurd hf (by rw [f_X3_order_47]; exact nofun)
    | succ n ih =>
      intro x1 x2 x3 x4 th st ls H locs hP hS hl hf
      rw [f_X3_order_47] at hf
      refine lv_iload hx hb dX3_order_47 (lv_at hl 4 rfl) ?_
      refine lv_iload_n hx hb dX3_order_49 rfl (lv_at hl 2 rfl) ?_
      refine lv_icmp_ge (tgt := 72) hx hb dX3_order_50 (by decide) (fun c1 => ?_) (fun c1 => ?_)
      · replace hf := it_t c1 hf
        refine lv_aload_n hx hb dX3_order_72 rfl (lv_at hl 0 rfl) ?_
        refine lv_aload_n hx hb dX3_order_73 rfl (lv_at hl 0 rfl) ?_
        refine lv_iload_n hx hb dX3_order_74 rfl (lv_at hl 3 rfl) ?_
        refine lv_iload_n hx hb dX3_order_75 rfl (lv_at hl 1 rfl) ?_
        obtain ⟨v2, hv2, hf⟩ := ob_s hf
        refine mc_X3_X3_firstOf S hC hK hP hv2 hl.1 ⟨Nat.le_of_ble_eq_true rfl, Nat.le_of_ble_eq_true rfl⟩ (Nat.le_of_ble_eq_true rfl) ⟨Nat.zero_le _, Nat.zero_le _⟩ dX3_order_76 (fun _ => ?_)
        obtain ⟨v3, hv3, hf⟩ := ob_s hf
        refine mc_X3_X3_gives S hC hD hK hP hS hv3 hl.1 ⟨Nat.le_of_ble_eq_true rfl, Nat.le_of_ble_eq_true rfl⟩ (Nat.le_of_ble_eq_true rfl) ⟨Nat.zero_le _, Nat.zero_le _⟩ dX3_order_79 (fun H locs _ hP hS => ?_)
        have hE := Option.some.inj hf
        subst hE
        exact gt_wi S hr hlocks trivial hP hS dX3_order_82
      · replace hf := it_f c1 hf
        refine lv_iload_n hx hb dX3_order_53 rfl (lv_at hl 3 rfl) ?_
        refine lv_iconst hx hb dX3_order_54 kc_i1 ?_
        refine lv_aload_n hx hb dX3_order_55 rfl (lv_at hl 0 rfl) ?_
        refine lv_iload_n hx hb dX3_order_56 rfl (lv_at hl 3 rfl) ?_
        refine lv_iload_n hx hb dX3_order_57 rfl (lv_at hl 1 rfl) ?_
        obtain ⟨v4, hv4, hf⟩ := ob_s hf
        refine mc_X3_X3_firstOf S hC hK hP hv4 hl.1 ⟨Nat.le_of_ble_eq_true rfl, Nat.le_of_ble_eq_true rfl⟩ (Nat.le_of_ble_eq_true rfl) ⟨Nat.zero_le _, Nat.zero_le _⟩ dX3_order_58 (fun _ => ?_)
        refine lv_ishl hx hb dX3_order_61 ?_
        refine lv_iconst hx hb dX3_order_62 kc_im1 ?_
        refine lv_ixor hx hb dX3_order_63 ?_
        refine lv_iand hx hb dX3_order_64 ?_
        refine lv_istore_n (i := 3) (lv' := [(3, .int (x3 &&& ((1 <<< (v4 &&& 31)) ^^^ (-1)))), (0, .ref o), (1, .int x1), (2, .int x2), (4, .int x4)]) hx hb dX3_order_65 rfl hl (by decide) rfl (fun ls hl => ?_)
        refine lv_iinc (v := (x4 + 1)) (lv' := [(4, .int (x4 + 1)), (3, .int (x3 &&& ((1 <<< (v4 &&& 31)) ^^^ (-1)))), (0, .ref o), (1, .int x1), (2, .int x2)]) hx hb dX3_order_66 hl (k := 4) rfl rfl (by decide) rfl (fun ls hl => ?_)
        refine lv_goto (tgt := 47) hx hb dX3_order_69 (by decide) ?_
        exact (ih) x1 x2 (x3 &&& ((1 <<< (v4 &&& 31)) ^^^ (-1))) (x4 + 1) th st ls H locs hP hS (lv_sub (l' := [(0, .ref o), (1, .int x1), (2, .int x2), (3, .int (x3 &&& ((1 <<< (v4 &&& 31)) ^^^ (-1)))), (4, .int (x4 + 1))]) hl [2, 3, 4, 1, 0] rfl) hf
  suffices hg : ∀ (H : Heap) (locs : List Loc), va_P D cl (mW mi cI cJ cB o ad th tp st fk fp ac si fr tt kd nu fa pl fo wd ci gr lm om nw rd aa kp ta nm rn gv gt rw rh lg lh ou) H → va_S (mA o ad) s.heap H locs → W p l e (rM 6 135) s m ([.ref o, .int a0, .int a1] : List Value).toArray below meth c H locs 0 0 (MQ below (gQ D cl (some (.int out.1)) True (mW mi cI cJ cB o ad out.2.1 tp out.2.2 fk fp ac si fr tt kd nu fa pl fo wd ci gr lm om nw rd aa kp ta nm rn gv gt rw rh lg lh ou) (mA o ad)) ([.ref o, .int a0, .int a1] : List Value).toArray s 0 0 (mA o ad)) (F0 m 0 ls []) from hg s.heap [] hP va_S.rf
  clear hP
  intro H locs hP hS
  rw [f_X3_order] at hf
  refine lv_iload_n hx hb dX3_order_0 rfl (lv_at hl 2 rfl) ?_
  refine lv_if_ge (tgt := 10) hx hb dX3_order_1 (by decide) (fun c1 => ?_) (fun c1 => ?_)
  · replace hf := it_t c1 hf
    refine lv_aload_n hx hb dX3_order_10 rfl (lv_at hl 0 rfl) ?_
    refine lv_iload_n hx hb dX3_order_11 rfl (lv_at hl 1 rfl) ?_
    obtain ⟨v2, hv2, hf⟩ := ob_s hf
    refine mc_X3_X3_isHome S hC hK hP hv2 hl.1 ⟨Nat.le_of_ble_eq_true rfl, Nat.le_of_ble_eq_true rfl⟩ (Nat.le_of_ble_eq_true rfl) ⟨Nat.zero_le _, Nat.zero_le _⟩ dX3_order_12 (fun hnv2 => ?_)
    refine lv_if_ne (tgt := 24) hx hb dX3_order_15 (by decide) (fun c3 => ?_) (fun c3 => ?_)
    · replace hf := it_f c3 hf
      refine lv_aload_n hx hb dX3_order_24 rfl (lv_at hl 0 rfl) ?_
      refine lv_iload_n hx hb dX3_order_25 rfl (lv_at hl 1 rfl) ?_
      obtain ⟨v4, hv4, hf⟩ := ob_s hf
      refine mc_X3_X3_biddersOf S hC hK hP hv4 hl.1 ⟨Nat.le_of_ble_eq_true rfl, Nat.le_of_ble_eq_true rfl⟩ (Nat.le_of_ble_eq_true rfl) ⟨Nat.zero_le _, Nat.zero_le _⟩ dX3_order_26 (fun _ => ?_)
      refine lv_istore_n (i := 3) (lv' := [(3, .int v4), (0, .ref o), (1, .int a0), (2, .int a1)]) hx hb dX3_order_29 rfl hl (by decide) rfl (fun ls hl => ?_)
      refine lv_iload_n hx hb dX3_order_30 rfl (lv_at hl 3 rfl) ?_
      refine lv_iload_n hx hb dX3_order_31 rfl (lv_at hl 0 rfl) ?_
      obtain ⟨v5, hv5, hf⟩ := ob_s hf
      refine mc_X3_X3_bits S hK hv5 hl.1 ⟨Nat.le_of_ble_eq_true rfl, Nat.le_of_ble_eq_true rfl⟩ (Nat.le_of_ble_eq_true rfl) ⟨Nat.zero_le _, Nat.zero_le _⟩ dX3_order_32 (fun _ => ?_)
      refine lv_icmp_lt (tgt := 44) hx hb dX3_order_35 (by decide) (fun c6 => ?_) (fun c6 => ?_)
      · replace hf := it_t c6 hf
        refine lv_iconst hx hb dX3_order_44 kc_i0 ?_
        refine lv_istore (lv' := [(4, .int 0), (3, .int v4), (0, .ref o), (1, .int a0), (2, .int a1)]) hx hb dX3_order_45 hl (by decide) rfl (fun ls hl => ?_)
        exact (w47 FU) a0 a1 v4 0 th st ls H locs hP hS (lv_sub (l' := [(0, .ref o), (1, .int a0), (2, .int a1), (3, .int v4), (4, .int 0)]) hl [2, 3, 4, 1, 0] rfl) hf
      · replace hf := it_f c6 hf
        refine lv_aload_n hx hb dX3_order_38 rfl (lv_at hl 1 rfl) ?_
        refine lv_iconst hx hb dX3_order_39 kc_i5 ?_
        obtain ⟨v7, hv7, hf⟩ := ob_s hf
        refine mc_X3_X3_refuse S hC hD hK hP hS hv7 hl.1 ⟨Nat.le_of_ble_eq_true rfl, Nat.le_of_ble_eq_true rfl⟩ (Nat.le_of_ble_eq_true rfl) ⟨Nat.zero_le _, Nat.zero_le _⟩ dX3_order_40 (fun H locs _ hP hS => ?_)
        have hE := Option.some.inj hf
        subst hE
        exact gt_wi S hr hlocks trivial hP hS dX3_order_43
    · replace hf := it_t c3 hf
      refine lv_aload_n hx hb dX3_order_18 rfl (lv_at hl 0 rfl) ?_
      refine lv_iconst hx hb dX3_order_19 kc_i2 ?_
      obtain ⟨v8, hv8, hf⟩ := ob_s hf
      refine mc_X3_X3_refuse S hC hD hK hP hS hv8 hl.1 ⟨Nat.le_of_ble_eq_true rfl, Nat.le_of_ble_eq_true rfl⟩ (Nat.le_of_ble_eq_true rfl) ⟨Nat.zero_le _, Nat.zero_le _⟩ dX3_order_20 (fun H locs _ hP hS => ?_)
      have hE := Option.some.inj hf
      subst hE
      exact gt_wi S hr hlocks trivial hP hS dX3_order_23
  · replace hf := it_f c1 hf
    refine lv_aload_n hx hb dX3_order_4 rfl (lv_at hl 0 rfl) ?_
    refine lv_iconst hx hb dX3_order_5 kc_i1 ?_
    obtain ⟨v9, hv9, hf⟩ := ob_s hf
    refine mc_X3_X3_refuse S hC hD hK hP hS hv9 hl.1 ⟨Nat.le_of_ble_eq_true rfl, Nat.le_of_ble_eq_true rfl⟩ (Nat.le_of_ble_eq_true rfl) ⟨Nat.zero_le _, Nat.zero_le _⟩ dX3_order_6 (fun H locs _ hP hS => ?_)
    have hE := Option.some.inj hf
    subst hE
    exact gt_wi S hr hlocks trivial hP hS dX3_order_9
theorem hd_X3_mayHope : yX3_mayHope.cls = RX3 ∧ yX3_mayHope.cls ≠ "java/lang/invoke/MethodHandle" ∧ yX3_mayHope.cls ≠ "java/lang/invoke/VarHandle" ∧ (parseMethodDescriptor yX3_mayHope.desc).map (fun d => d.parameters.length) = some 1 := by decide +kernel
set_option maxHeartbeats 4000000 in
set_option maxRecDepth 100000 in
theorem mm_X3_mayHope {a0 : Int32} {out : Int32} (hC : mC cl tys mi cI cJ cB) (hf : f_X3_mayHope nw a0 = some out) : Met l yX3_mayHope (ws_ yX3_mayHope cX3_mayHope 2 (some .boolean)) (rM 3 64) (gPc D cl tys [.ref o, .int a0] (mW mi cI cJ cB o ad th tp st fk fp ac si fr tt kd nu fa pl fo wd ci gr lm om nw rd aa kp ta nm rn gv gt rw rh lg lh ou)) (gR (some (.int out)) (narrow .boolean (.int out) = .int out)) 0 0 (fun _ => False) := by
  refine gGo (by decide +kernel) (Nat.le_of_ble_eq_true rfl) (fun p e s m below meth c ls S hr hlocks hK hP hl => ?_)
  have S : CallFix p m c cX3_mayHope 2 s _ lw_all RX3 := S
  obtain ⟨hx, hb, hml, hown, hts⟩ := id S
  have hl : lv_has ls 2 [(0, .ref o), (1, .int a0)] := hl
  rw [f_X3_mayHope] at hf
  refine lv_aload_n hx hb dX3_mayHope_0 rfl (lv_at hl 0 rfl) ?_
  refine lv_iload_n hx hb dX3_mayHope_1 rfl (lv_at hl 1 rfl) ?_
  obtain ⟨v1, hv1, hf⟩ := ob_s hf
  refine mc_X3_X3_isIn S hC hK hP hv1 hl.1 ⟨Nat.le_of_ble_eq_true rfl, Nat.le_of_ble_eq_true rfl⟩ (Nat.le_of_ble_eq_true rfl) ⟨Nat.zero_le _, Nat.zero_le _⟩ dX3_mayHope_2 (fun hnv1 => ?_)
  refine lv_if_eq (tgt := 22) hx hb dX3_mayHope_5 (by decide) (fun c2 => ?_) (fun c2 => ?_)
  · replace hf := it_t c2 hf
    refine lv_iconst hx hb dX3_mayHope_22 kc_i0 ?_
    have hE := Option.some.inj hf
    subst hE
    exact gt_rz S hr hlocks nb0 dX3_mayHope_23
  · replace hf := it_f c2 hf
    refine lv_aload_n hx hb dX3_mayHope_8 rfl (lv_at hl 0 rfl) ?_
    refine lv_iload_n hx hb dX3_mayHope_9 rfl (lv_at hl 1 rfl) ?_
    refine lv_bipush hx hb dX3_mayHope_10 kc_b6 ?_
    obtain ⟨v3, hv3, hf⟩ := ob_s hf
    refine mc_X3_X3_of S hC hK hP hv3 hl.1 ⟨Nat.le_of_ble_eq_true rfl, Nat.le_of_ble_eq_true rfl⟩ (Nat.le_of_ble_eq_true rfl) ⟨Nat.zero_le _, Nat.zero_le _⟩ dX3_mayHope_12 (fun _ => ?_)
    refine lv_if_ne (tgt := 22) hx hb dX3_mayHope_15 (by decide) (fun c4 => ?_) (fun c4 => ?_)
    · replace hf := it_f c4 hf
      refine lv_iconst hx hb dX3_mayHope_22 kc_i0 ?_
      have hE := Option.some.inj hf
      subst hE
      exact gt_rz S hr hlocks nb0 dX3_mayHope_23
    · replace hf := it_t c4 hf
      refine lv_iconst hx hb dX3_mayHope_18 kc_i1 ?_
      refine lv_goto (tgt := 23) hx hb dX3_mayHope_19 (by decide) ?_
      have hE := Option.some.inj hf
      subst hE
      exact gt_rz S hr hlocks nb1 dX3_mayHope_23
set_option maxRecDepth 100000 in
theorem mc_X3_X3_mayHope {a0 : Int32} {out : Int32} (S : CallFix p m c cc nL s args lw_all RX3) (hC : mC cl tys mi cI cJ cB) (hK : va_K D cl tys s) (hP : va_P D cl (mW mi cI cJ cB o ad th tp st fk fp ac si fr tt kd nu fa pl fo wd ci gr lm om nw rd aa kp ta nm rn gv gt rw rh lg lh ou) H) (hf : f_X3_mayHope nw a0 = some out) (hsz : ls.size = nL) (hR : 3 + 1 ≤ R.frames ∧ 8 + (2 + 11) + 64 ≤ R.locals) (hW : (rest.map fun v => v.category).sum ≤ 8) (hcs : cells ≤ R.cells ∧ slots ≤ R.slots) (hdg : decode cc pc = .ok (.invokevirtual 283, 3)) (kk : (narrow .boolean (.int out) = .int out) → W p l e R s m args below meth c H locs cells slots Q (F0 m (pc + 3) ls (.int out :: rest))) : W p l e R s m args below meth c H locs cells slots Q (F0 m pc ls (.int a0 :: .ref o :: rest)) :=
  gc_Vr (As := [.int a0]) S (mm_X3_mayHope hC hf) (cwV 1 S.2.2.2.2 (lw_V q2351 q2353 qs135 q189 q2354) rfl rfl rfl hd_X3_mayHope hR) (gPreV hK hP hC.1 (q0 := 0) rfl) rfl hsz rfl hW hdg hcs kk
theorem hd_X3_aheadOf : yX3_aheadOf.cls = RX3 ∧ yX3_aheadOf.cls ≠ "java/lang/invoke/MethodHandle" ∧ yX3_aheadOf.cls ≠ "java/lang/invoke/VarHandle" ∧ (parseMethodDescriptor yX3_aheadOf.desc).map (fun d => d.parameters.length) = some 3 := by decide +kernel
set_option maxHeartbeats 4000000 in
set_option maxRecDepth 100000 in
theorem mm_X3_aheadOf {a0 : Int32} {a1 : Int32} {a2 : Int32} {out : Int32} (hC : mC cl tys mi cI cJ cB) (hf : f_X3_aheadOf nw a0 a1 a2 = some out) : Met l yX3_aheadOf (ws_ yX3_aheadOf cX3_aheadOf 6 (some .int)) (rM 5 111) (gPc D cl tys [.ref o, .int a0, .int a1, .int a2] (mW mi cI cJ cB o ad th tp st fk fp ac si fr tt kd nu fa pl fo wd ci gr lm om nw rd aa kp ta nm rn gv gt rw rh lg lh ou)) (gR (some (.int out)) True) 0 0 (fun _ => False) := by
  refine gGo (by decide +kernel) (Nat.le_of_ble_eq_true rfl) (fun p e s m below meth c ls S hr hlocks hK hP hl => ?_)
  have S : CallFix p m c cX3_aheadOf 6 s _ lw_all RX3 := S
  obtain ⟨hx, hb, hml, hown, hts⟩ := id S
  have hl : lv_has ls 6 [(0, .ref o), (1, .int a0), (2, .int a1), (3, .int a2)] := hl
  have w6 : ∀ (n : Nat) , ∀ (x1 : Int32) (x2 : Int32) (x3 : Int32) (x4 : Int32) (x5 : Int32) (ls : Array Slot), lv_has ls 6 [(0, .ref o), (1, .int x1), (2, .int x2), (3, .int x3), (4, .int x4), (5, .int x5)] → f_X3_aheadOf_6 n nw x1 x2 x3 x4 x5 = some out → W p l e (rM 5 111) s m ([.ref o, .int a0, .int a1, .int a2] : List Value).toArray below meth c s.heap [] 0 0 (MQ below (gR (some (.int out)) True) ([.ref o, .int a0, .int a1, .int a2] : List Value).toArray s 0 0 (fun _ => False)) (F0 m 6 ls []) := by
    intro n
    induction n with
    | zero =>
      intro x1 x2 x3 x4 x5 ls hl hf
      exact absurd hf (by rw [f_X3_aheadOf_6]; exact nofun)
    | succ n ih =>
      intro x1 x2 x3 x4 x5 ls hl hf
      rw [f_X3_aheadOf_6] at hf
      refine lv_iload hx hb dX3_aheadOf_6 (lv_at hl 5 rfl) ?_
      refine lv_aload_n hx hb dX3_aheadOf_8 rfl (lv_at hl 0 rfl) ?_
      refine mg_1 S hC hK hP dX3_aheadOf_9 ?_
      refine lv_sipush hx hb dX3_aheadOf_12 kc_s231 ?_
      refine ma_1 S hC hK hP kv_231_390 kn_231 dX3_aheadOf_15 ?_
      refine lv_icmp_ge (tgt := 61) hx hb dX3_aheadOf_16 (by decide) (fun c1 => ?_) (fun c1 => ?_)
      · replace hf := it_t c1 hf
        refine lv_iload hx hb dX3_aheadOf_61 (lv_at hl 4 rfl) ?_
        have hE := Option.some.inj hf
        subst hE
        exact gt_ri S hr hlocks trivial dX3_aheadOf_63
      · replace hf := it_f c1 hf
        refine lv_iload hx hb dX3_aheadOf_19 (lv_at hl 4 rfl) ?_
        refine lv_iload_n hx hb dX3_aheadOf_21 rfl (lv_at hl 3 rfl) ?_
        refine lv_iload hx hb dX3_aheadOf_22 (lv_at hl 5 rfl) ?_
        refine lv_ishr hx hb dX3_aheadOf_24 ?_
        refine lv_iconst hx hb dX3_aheadOf_25 kc_i1 ?_
        refine lv_iand hx hb dX3_aheadOf_26 ?_
        refine lv_iconst hx hb dX3_aheadOf_27 kc_i1 ?_
        refine lv_icmp_ne (tgt := 51) hx hb dX3_aheadOf_28 (by decide) (fun c2 => ?_) (fun c2 => ?_)
        · replace hf := it_f c2 hf
          refine lv_iconst hx hb dX3_aheadOf_51 kc_i0 ?_
          refine lv_iadd hx hb dX3_aheadOf_52 ?_
          refine lv_istore (lv' := [(4, .int (x4 + 0)), (0, .ref o), (1, .int x1), (2, .int x2), (3, .int x3), (5, .int x5)]) hx hb dX3_aheadOf_53 hl (by decide) rfl (fun ls hl => ?_)
          refine lv_iinc (v := (x5 + 1)) (lv' := [(5, .int (x5 + 1)), (4, .int (x4 + 0)), (0, .ref o), (1, .int x1), (2, .int x2), (3, .int x3)]) hx hb dX3_aheadOf_55 hl (k := 5) rfl rfl (by decide) rfl (fun ls hl => ?_)
          refine lv_goto (tgt := 6) hx hb dX3_aheadOf_58 (by decide) ?_
          exact (ih) x1 x2 x3 (x4 + 0) (x5 + 1) ls (lv_sub (l' := [(0, .ref o), (1, .int x1), (2, .int x2), (3, .int x3), (4, .int (x4 + 0)), (5, .int (x5 + 1))]) hl [2, 3, 4, 5, 1, 0] rfl) hf
        · replace hf := it_t c2 hf
          refine lv_aload_n hx hb dX3_aheadOf_31 rfl (lv_at hl 0 rfl) ?_
          refine lv_iload hx hb dX3_aheadOf_32 (lv_at hl 5 rfl) ?_
          refine lv_iload_n hx hb dX3_aheadOf_34 rfl (lv_at hl 2 rfl) ?_
          obtain ⟨v3, hv3, hf⟩ := ob_s hf
          refine mc_X3_X3_weight S hC hK hP hv3 hl.1 ⟨Nat.le_of_ble_eq_true rfl, Nat.le_of_ble_eq_true rfl⟩ (Nat.le_of_ble_eq_true rfl) ⟨Nat.zero_le _, Nat.zero_le _⟩ dX3_aheadOf_35 (fun _ => ?_)
          refine lv_aload_n hx hb dX3_aheadOf_38 rfl (lv_at hl 0 rfl) ?_
          refine lv_iload_n hx hb dX3_aheadOf_39 rfl (lv_at hl 1 rfl) ?_
          refine lv_iload_n hx hb dX3_aheadOf_40 rfl (lv_at hl 2 rfl) ?_
          obtain ⟨v4, hv4, hf⟩ := ob_s hf
          refine mc_X3_X3_weight S hC hK hP hv4 hl.1 ⟨Nat.le_of_ble_eq_true rfl, Nat.le_of_ble_eq_true rfl⟩ (Nat.le_of_ble_eq_true rfl) ⟨Nat.zero_le _, Nat.zero_le _⟩ dX3_aheadOf_41 (fun _ => ?_)
          refine lv_icmp_ge (tgt := 51) hx hb dX3_aheadOf_44 (by decide) (fun c5 => ?_) (fun c5 => ?_)
          · replace hf := it_t c5 hf
            refine lv_iconst hx hb dX3_aheadOf_51 kc_i0 ?_
            refine lv_iadd hx hb dX3_aheadOf_52 ?_
            refine lv_istore (lv' := [(4, .int (x4 + 0)), (0, .ref o), (1, .int x1), (2, .int x2), (3, .int x3), (5, .int x5)]) hx hb dX3_aheadOf_53 hl (by decide) rfl (fun ls hl => ?_)
            refine lv_iinc (v := (x5 + 1)) (lv' := [(5, .int (x5 + 1)), (4, .int (x4 + 0)), (0, .ref o), (1, .int x1), (2, .int x2), (3, .int x3)]) hx hb dX3_aheadOf_55 hl (k := 5) rfl rfl (by decide) rfl (fun ls hl => ?_)
            refine lv_goto (tgt := 6) hx hb dX3_aheadOf_58 (by decide) ?_
            exact (ih) x1 x2 x3 (x4 + 0) (x5 + 1) ls (lv_sub (l' := [(0, .ref o), (1, .int x1), (2, .int x2), (3, .int x3), (4, .int (x4 + 0)), (5, .int (x5 + 1))]) hl [2, 3, 4, 5, 1, 0] rfl) hf
          · replace hf := it_f c5 hf
            refine lv_iconst hx hb dX3_aheadOf_47 kc_i1 ?_
            refine lv_goto (tgt := 52) hx hb dX3_aheadOf_48 (by decide) ?_
            refine lv_iadd hx hb dX3_aheadOf_52 ?_
            refine lv_istore (lv' := [(4, .int (x4 + 1)), (0, .ref o), (1, .int x1), (2, .int x2), (3, .int x3), (5, .int x5)]) hx hb dX3_aheadOf_53 hl (by decide) rfl (fun ls hl => ?_)
            refine lv_iinc (v := (x5 + 1)) (lv' := [(5, .int (x5 + 1)), (4, .int (x4 + 1)), (0, .ref o), (1, .int x1), (2, .int x2), (3, .int x3)]) hx hb dX3_aheadOf_55 hl (k := 5) rfl rfl (by decide) rfl (fun ls hl => ?_)
            refine lv_goto (tgt := 6) hx hb dX3_aheadOf_58 (by decide) ?_
            exact (ih) x1 x2 x3 (x4 + 1) (x5 + 1) ls (lv_sub (l' := [(0, .ref o), (1, .int x1), (2, .int x2), (3, .int x3), (4, .int (x4 + 1)), (5, .int (x5 + 1))]) hl [2, 3, 4, 5, 1, 0] rfl) hf
  rw [f_X3_aheadOf] at hf
  refine lv_iconst hx hb dX3_aheadOf_0 kc_i0 ?_
  refine lv_istore (lv' := [(4, .int 0), (0, .ref o), (1, .int a0), (2, .int a1), (3, .int a2)]) hx hb dX3_aheadOf_1 hl (by decide) rfl (fun ls hl => ?_)
  refine lv_iconst hx hb dX3_aheadOf_3 kc_i0 ?_
  refine lv_istore (lv' := [(5, .int 0), (4, .int 0), (0, .ref o), (1, .int a0), (2, .int a1), (3, .int a2)]) hx hb dX3_aheadOf_4 hl (by decide) rfl (fun ls hl => ?_)
  exact (w6 FU) a0 a1 a2 0 0 ls (lv_sub (l' := [(0, .ref o), (1, .int a0), (2, .int a1), (3, .int a2), (4, .int 0), (5, .int 0)]) hl [2, 3, 4, 5, 1, 0] rfl) hf
set_option maxRecDepth 100000 in
theorem mc_X3_X3_aheadOf {a0 : Int32} {a1 : Int32} {a2 : Int32} {out : Int32} (S : CallFix p m c cc nL s args lw_all RX3) (hC : mC cl tys mi cI cJ cB) (hK : va_K D cl tys s) (hP : va_P D cl (mW mi cI cJ cB o ad th tp st fk fp ac si fr tt kd nu fa pl fo wd ci gr lm om nw rd aa kp ta nm rn gv gt rw rh lg lh ou) H) (hf : f_X3_aheadOf nw a0 a1 a2 = some out) (hsz : ls.size = nL) (hR : 5 + 1 ≤ R.frames ∧ 8 + (6 + 11) + 111 ≤ R.locals) (hW : (rest.map fun v => v.category).sum ≤ 8) (hcs : cells ≤ R.cells ∧ slots ≤ R.slots) (hdg : decode cc pc = .ok (.invokevirtual 286, 3)) (kk : True → W p l e R s m args below meth c H locs cells slots Q (F0 m (pc + 3) ls (.int out :: rest))) : W p l e R s m args below meth c H locs cells slots Q (F0 m pc ls (.int a2 :: .int a1 :: .int a0 :: .ref o :: rest)) :=
  gc_Vr (As := [.int a0, .int a1, .int a2]) S (mm_X3_aheadOf hC hf) (cwV 3 S.2.2.2.2 (lw_V q2355 q2357 qs136 q189 q2358) rfl rfl rfl hd_X3_aheadOf hR) (gPreV hK hP hC.1 (q0 := 0) rfl) rfl hsz rfl hW hdg hcs kk
theorem hd_X3_ahead : yX3_ahead.cls = RX3 ∧ yX3_ahead.cls ≠ "java/lang/invoke/MethodHandle" ∧ yX3_ahead.cls ≠ "java/lang/invoke/VarHandle" ∧ (parseMethodDescriptor yX3_ahead.desc).map (fun d => d.parameters.length) = some 2 := by decide +kernel
set_option maxHeartbeats 4000000 in
set_option maxRecDepth 100000 in
theorem mm_X3_ahead {a0 : Int32} {a1 : Int32} {out : Int32 × Int32 × Int32} (hC : mC cl tys mi cI cJ cB) (hD : mD o ad) (hf : f_X3_ahead nw th st a0 a1 = some out) : Met l yX3_ahead (ws_ yX3_ahead cX3_ahead 5 (some .int)) (rM 6 136) (gPc D cl tys [.ref o, .int a0, .int a1] (mW mi cI cJ cB o ad th tp st fk fp ac si fr tt kd nu fa pl fo wd ci gr lm om nw rd aa kp ta nm rn gv gt rw rh lg lh ou)) (gQ D cl (some (.int out.1)) True (mW mi cI cJ cB o ad out.2.1 tp out.2.2 fk fp ac si fr tt kd nu fa pl fo wd ci gr lm om nw rd aa kp ta nm rn gv gt rw rh lg lh ou) (mA o ad)) 0 0 (mA o ad) := by
  refine gGo (by decide +kernel) (Nat.le_of_ble_eq_true rfl) (fun p e s m below meth c ls S hr hlocks hK hP hl => ?_)
  have S : CallFix p m c cX3_ahead 5 s _ lw_all RX3 := S
  obtain ⟨hx, hb, hml, hown, hts⟩ := id S
  have hl : lv_has ls 5 [(0, .ref o), (1, .int a0), (2, .int a1)] := hl
  have w32 : ∀ (th : Int32) (st : Int32) (ls : Array Slot) (H : Heap) (locs : List Loc), va_P D cl (mW mi cI cJ cB o ad th tp st fk fp ac si fr tt kd nu fa pl fo wd ci gr lm om nw rd aa kp ta nm rn gv gt rw rh lg lh ou) H → va_S (mA o ad) s.heap H locs → lv_has ls 5 [(0, .ref o)] → f_X3_ahead_32 nw th st = some out → W p l e (rM 6 136) s m ([.ref o, .int a0, .int a1] : List Value).toArray below meth c H locs 0 0 (MQ below (gQ D cl (some (.int out.1)) True (mW mi cI cJ cB o ad out.2.1 tp out.2.2 fk fp ac si fr tt kd nu fa pl fo wd ci gr lm om nw rd aa kp ta nm rn gv gt rw rh lg lh ou) (mA o ad)) ([.ref o, .int a0, .int a1] : List Value).toArray s 0 0 (mA o ad)) (F0 m 32 ls []) := by
    intro th st ls H locs hP hS hl hf
    rw [f_X3_ahead_32] at hf
    refine lv_aload_n hx hb dX3_ahead_32 rfl (lv_at hl 0 rfl) ?_
    refine lv_iconst hx hb dX3_ahead_33 kc_i5 ?_
    obtain ⟨v1, hv1, hf⟩ := ob_s hf
    refine mc_X3_X3_refuse S hC hD hK hP hS hv1 hl.1 ⟨Nat.le_of_ble_eq_true rfl, Nat.le_of_ble_eq_true rfl⟩ (Nat.le_of_ble_eq_true rfl) ⟨Nat.zero_le _, Nat.zero_le _⟩ dX3_ahead_34 (fun H locs _ hP hS => ?_)
    have hE := Option.some.inj hf
    subst hE
    exact gt_wi S hr hlocks trivial hP hS dX3_ahead_37
  have w43 : ∀ (n : Nat) , ∀ (x1 : Int32) (x2 : Int32) (x3 : Int32) (x4 : Int32) (th : Int32) (st : Int32) (ls : Array Slot) (H : Heap) (locs : List Loc), va_P D cl (mW mi cI cJ cB o ad th tp st fk fp ac si fr tt kd nu fa pl fo wd ci gr lm om nw rd aa kp ta nm rn gv gt rw rh lg lh ou) H → va_S (mA o ad) s.heap H locs → lv_has ls 5 [(0, .ref o), (1, .int x1), (2, .int x2), (3, .int x3), (4, .int x4)] → f_X3_ahead_43 n nw x1 x2 x3 x4 th st = some out → W p l e (rM 6 136) s m ([.ref o, .int a0, .int a1] : List Value).toArray below meth c H locs 0 0 (MQ below (gQ D cl (some (.int out.1)) True (mW mi cI cJ cB o ad out.2.1 tp out.2.2 fk fp ac si fr tt kd nu fa pl fo wd ci gr lm om nw rd aa kp ta nm rn gv gt rw rh lg lh ou) (mA o ad)) ([.ref o, .int a0, .int a1] : List Value).toArray s 0 0 (mA o ad)) (F0 m 43 ls []) := by
    intro n
    induction n with
    | zero =>
      intro x1 x2 x3 x4 th st ls H locs hP hS hl hf
      exact absurd hf (by rw [f_X3_ahead_43]; exact nofun)
    | succ n ih =>
      intro x1 x2 x3 x4 th st ls H locs hP hS hl hf
      rw [f_X3_ahead_43] at hf
      refine lv_iload hx hb dX3_ahead_43 (lv_at hl 4 rfl) ?_
      refine lv_aload_n hx hb dX3_ahead_45 rfl (lv_at hl 0 rfl) ?_
      refine mg_1 S hC hK hP dX3_ahead_46 ?_
      refine lv_sipush hx hb dX3_ahead_49 kc_s231 ?_
      refine ma_1 S hC hK hP kv_231_390 kn_231 dX3_ahead_52 ?_
      refine lv_icmp_ge (tgt := 92) hx hb dX3_ahead_53 (by decide) (fun c1 => ?_) (fun c1 => ?_)
      · replace hf := it_t c1 hf
        refine lv_aload_n hx hb dX3_ahead_92 rfl (lv_at hl 0 rfl) ?_
        refine lv_aload_n hx hb dX3_ahead_93 rfl (lv_at hl 0 rfl) ?_
        refine lv_iload_n hx hb dX3_ahead_94 rfl (lv_at hl 1 rfl) ?_
        refine lv_iload_n hx hb dX3_ahead_95 rfl (lv_at hl 2 rfl) ?_
        refine lv_iload_n hx hb dX3_ahead_96 rfl (lv_at hl 3 rfl) ?_
        obtain ⟨v2, hv2, hf⟩ := ob_s hf
        refine mc_X3_X3_aheadOf S hC hK hP hv2 hl.1 ⟨Nat.le_of_ble_eq_true rfl, Nat.le_of_ble_eq_true rfl⟩ (Nat.le_of_ble_eq_true rfl) ⟨Nat.zero_le _, Nat.zero_le _⟩ dX3_ahead_97 (fun _ => ?_)
        obtain ⟨v3, hv3, hf⟩ := ob_s hf
        refine mc_X3_X3_gives S hC hD hK hP hS hv3 hl.1 ⟨Nat.le_of_ble_eq_true rfl, Nat.le_of_ble_eq_true rfl⟩ (Nat.le_of_ble_eq_true rfl) ⟨Nat.zero_le _, Nat.zero_le _⟩ dX3_ahead_100 (fun H locs _ hP hS => ?_)
        have hE := Option.some.inj hf
        subst hE
        exact gt_wi S hr hlocks trivial hP hS dX3_ahead_103
      · replace hf := it_f c1 hf
        refine lv_iload_n hx hb dX3_ahead_56 rfl (lv_at hl 3 rfl) ?_
        refine lv_aload_n hx hb dX3_ahead_57 rfl (lv_at hl 0 rfl) ?_
        refine lv_iload hx hb dX3_ahead_58 (lv_at hl 4 rfl) ?_
        obtain ⟨v4, hv4, hf⟩ := ob_s hf
        refine mc_X3_X3_mayHope S hC hK hP hv4 hl.1 ⟨Nat.le_of_ble_eq_true rfl, Nat.le_of_ble_eq_true rfl⟩ (Nat.le_of_ble_eq_true rfl) ⟨Nat.zero_le _, Nat.zero_le _⟩ dX3_ahead_60 (fun hnv4 => ?_)
        refine lv_if_eq (tgt := 83) hx hb dX3_ahead_63 (by decide) (fun c5 => ?_) (fun c5 => ?_)
        · replace hf := it_t c5 hf
          refine lv_iconst hx hb dX3_ahead_83 kc_i0 ?_
          refine lv_ior hx hb dX3_ahead_84 ?_
          refine lv_istore_n (i := 3) (lv' := [(3, .int (x3 ||| 0)), (0, .ref o), (1, .int x1), (2, .int x2), (4, .int x4)]) hx hb dX3_ahead_85 rfl hl (by decide) rfl (fun ls hl => ?_)
          refine lv_iinc (v := (x4 + 1)) (lv' := [(4, .int (x4 + 1)), (3, .int (x3 ||| 0)), (0, .ref o), (1, .int x1), (2, .int x2)]) hx hb dX3_ahead_86 hl (k := 4) rfl rfl (by decide) rfl (fun ls hl => ?_)
          refine lv_goto (tgt := 43) hx hb dX3_ahead_89 (by decide) ?_
          exact (ih) x1 x2 (x3 ||| 0) (x4 + 1) th st ls H locs hP hS (lv_sub (l' := [(0, .ref o), (1, .int x1), (2, .int x2), (3, .int (x3 ||| 0)), (4, .int (x4 + 1))]) hl [2, 3, 4, 1, 0] rfl) hf
        · replace hf := it_f c5 hf
          refine lv_aload_n hx hb dX3_ahead_66 rfl (lv_at hl 0 rfl) ?_
          refine lv_iload hx hb dX3_ahead_67 (lv_at hl 4 rfl) ?_
          refine lv_iload_n hx hb dX3_ahead_69 rfl (lv_at hl 2 rfl) ?_
          obtain ⟨v6, hv6, hf⟩ := ob_s hf
          refine mc_X3_X3_doesFit S hC hK hP hv6 hl.1 ⟨Nat.le_of_ble_eq_true rfl, Nat.le_of_ble_eq_true rfl⟩ (Nat.le_of_ble_eq_true rfl) ⟨Nat.zero_le _, Nat.zero_le _⟩ dX3_ahead_70 (fun hnv6 => ?_)
          refine lv_if_eq (tgt := 83) hx hb dX3_ahead_73 (by decide) (fun c7 => ?_) (fun c7 => ?_)
          · replace hf := it_t c7 hf
            refine lv_iconst hx hb dX3_ahead_83 kc_i0 ?_
            refine lv_ior hx hb dX3_ahead_84 ?_
            refine lv_istore_n (i := 3) (lv' := [(3, .int (x3 ||| 0)), (0, .ref o), (1, .int x1), (2, .int x2), (4, .int x4)]) hx hb dX3_ahead_85 rfl hl (by decide) rfl (fun ls hl => ?_)
            refine lv_iinc (v := (x4 + 1)) (lv' := [(4, .int (x4 + 1)), (3, .int (x3 ||| 0)), (0, .ref o), (1, .int x1), (2, .int x2)]) hx hb dX3_ahead_86 hl (k := 4) rfl rfl (by decide) rfl (fun ls hl => ?_)
            refine lv_goto (tgt := 43) hx hb dX3_ahead_89 (by decide) ?_
            exact (ih) x1 x2 (x3 ||| 0) (x4 + 1) th st ls H locs hP hS (lv_sub (l' := [(0, .ref o), (1, .int x1), (2, .int x2), (3, .int (x3 ||| 0)), (4, .int (x4 + 1))]) hl [2, 3, 4, 1, 0] rfl) hf
          · replace hf := it_f c7 hf
            refine lv_iconst hx hb dX3_ahead_76 kc_i1 ?_
            refine lv_iload hx hb dX3_ahead_77 (lv_at hl 4 rfl) ?_
            refine lv_ishl hx hb dX3_ahead_79 ?_
            refine lv_goto (tgt := 84) hx hb dX3_ahead_80 (by decide) ?_
            refine lv_ior hx hb dX3_ahead_84 ?_
            refine lv_istore_n (i := 3) (lv' := [(3, .int (x3 ||| (1 <<< (x4 &&& 31)))), (0, .ref o), (1, .int x1), (2, .int x2), (4, .int x4)]) hx hb dX3_ahead_85 rfl hl (by decide) rfl (fun ls hl => ?_)
            refine lv_iinc (v := (x4 + 1)) (lv' := [(4, .int (x4 + 1)), (3, .int (x3 ||| (1 <<< (x4 &&& 31)))), (0, .ref o), (1, .int x1), (2, .int x2)]) hx hb dX3_ahead_86 hl (k := 4) rfl rfl (by decide) rfl (fun ls hl => ?_)
            refine lv_goto (tgt := 43) hx hb dX3_ahead_89 (by decide) ?_
            exact (ih) x1 x2 (x3 ||| (1 <<< (x4 &&& 31))) (x4 + 1) th st ls H locs hP hS (lv_sub (l' := [(0, .ref o), (1, .int x1), (2, .int x2), (3, .int (x3 ||| (1 <<< (x4 &&& 31)))), (4, .int (x4 + 1))]) hl [2, 3, 4, 1, 0] rfl) hf
  suffices hg : ∀ (H : Heap) (locs : List Loc), va_P D cl (mW mi cI cJ cB o ad th tp st fk fp ac si fr tt kd nu fa pl fo wd ci gr lm om nw rd aa kp ta nm rn gv gt rw rh lg lh ou) H → va_S (mA o ad) s.heap H locs → W p l e (rM 6 136) s m ([.ref o, .int a0, .int a1] : List Value).toArray below meth c H locs 0 0 (MQ below (gQ D cl (some (.int out.1)) True (mW mi cI cJ cB o ad out.2.1 tp out.2.2 fk fp ac si fr tt kd nu fa pl fo wd ci gr lm om nw rd aa kp ta nm rn gv gt rw rh lg lh ou) (mA o ad)) ([.ref o, .int a0, .int a1] : List Value).toArray s 0 0 (mA o ad)) (F0 m 0 ls []) from hg s.heap [] hP va_S.rf
  clear hP
  intro H locs hP hS
  rw [f_X3_ahead] at hf
  refine lv_aload_n hx hb dX3_ahead_0 rfl (lv_at hl 0 rfl) ?_
  refine lv_iload_n hx hb dX3_ahead_1 rfl (lv_at hl 1 rfl) ?_
  refine lv_iload_n hx hb dX3_ahead_2 rfl (lv_at hl 2 rfl) ?_
  obtain ⟨v1, hv1, hf⟩ := ob_s hf
  refine mc_X3_X3_areOnes S hC hK hP hv1 hl.1 ⟨Nat.le_of_ble_eq_true rfl, Nat.le_of_ble_eq_true rfl⟩ (Nat.le_of_ble_eq_true rfl) ⟨Nat.zero_le _, Nat.zero_le _⟩ dX3_ahead_3 (fun hnv1 => ?_)
  refine lv_if_ne (tgt := 15) hx hb dX3_ahead_6 (by decide) (fun c2 => ?_) (fun c2 => ?_)
  · replace hf := it_f c2 hf
    refine lv_aload_n hx hb dX3_ahead_15 rfl (lv_at hl 0 rfl) ?_
    refine lv_iload_n hx hb dX3_ahead_16 rfl (lv_at hl 1 rfl) ?_
    obtain ⟨v3, hv3, hf⟩ := ob_s hf
    refine mc_X3_X3_mayHope S hC hK hP hv3 hl.1 ⟨Nat.le_of_ble_eq_true rfl, Nat.le_of_ble_eq_true rfl⟩ (Nat.le_of_ble_eq_true rfl) ⟨Nat.zero_le _, Nat.zero_le _⟩ dX3_ahead_17 (fun hnv3 => ?_)
    refine lv_if_eq (tgt := 32) hx hb dX3_ahead_20 (by decide) (fun c4 => ?_) (fun c4 => ?_)
    · replace hf := it_t c4 hf
      exact (w32) th st ls H locs hP hS (lv_sub (l' := [(0, .ref o)]) hl [0] rfl) hf
    · replace hf := it_f c4 hf
      refine lv_aload_n hx hb dX3_ahead_23 rfl (lv_at hl 0 rfl) ?_
      refine lv_iload_n hx hb dX3_ahead_24 rfl (lv_at hl 1 rfl) ?_
      refine lv_iload_n hx hb dX3_ahead_25 rfl (lv_at hl 2 rfl) ?_
      obtain ⟨v5, hv5, hf⟩ := ob_s hf
      refine mc_X3_X3_doesFit S hC hK hP hv5 hl.1 ⟨Nat.le_of_ble_eq_true rfl, Nat.le_of_ble_eq_true rfl⟩ (Nat.le_of_ble_eq_true rfl) ⟨Nat.zero_le _, Nat.zero_le _⟩ dX3_ahead_26 (fun hnv5 => ?_)
      refine lv_if_ne (tgt := 38) hx hb dX3_ahead_29 (by decide) (fun c6 => ?_) (fun c6 => ?_)
      · replace hf := it_f c6 hf
        refine lv_iconst hx hb dX3_ahead_38 kc_i0 ?_
        refine lv_istore_n (i := 3) (lv' := [(3, .int 0), (0, .ref o), (1, .int a0), (2, .int a1)]) hx hb dX3_ahead_39 rfl hl (by decide) rfl (fun ls hl => ?_)
        refine lv_iconst hx hb dX3_ahead_40 kc_i0 ?_
        refine lv_istore (lv' := [(4, .int 0), (3, .int 0), (0, .ref o), (1, .int a0), (2, .int a1)]) hx hb dX3_ahead_41 hl (by decide) rfl (fun ls hl => ?_)
        exact (w43 FU) a0 a1 0 0 th st ls H locs hP hS (lv_sub (l' := [(0, .ref o), (1, .int a0), (2, .int a1), (3, .int 0), (4, .int 0)]) hl [2, 3, 4, 1, 0] rfl) hf
      · replace hf := it_t c6 hf
        exact (w32) th st ls H locs hP hS (lv_sub (l' := [(0, .ref o)]) hl [0] rfl) hf
  · replace hf := it_t c2 hf
    refine lv_aload_n hx hb dX3_ahead_9 rfl (lv_at hl 0 rfl) ?_
    refine lv_iconst hx hb dX3_ahead_10 kc_i2 ?_
    obtain ⟨v7, hv7, hf⟩ := ob_s hf
    refine mc_X3_X3_refuse S hC hD hK hP hS hv7 hl.1 ⟨Nat.le_of_ble_eq_true rfl, Nat.le_of_ble_eq_true rfl⟩ (Nat.le_of_ble_eq_true rfl) ⟨Nat.zero_le _, Nat.zero_le _⟩ dX3_ahead_11 (fun H locs _ hP hS => ?_)
    have hE := Option.some.inj hf
    subst hE
    exact gt_wi S hr hlocks trivial hP hS dX3_ahead_14
theorem hd_X3_turn : yX3_turn.cls = RX3 ∧ yX3_turn.cls ≠ "java/lang/invoke/MethodHandle" ∧ yX3_turn.cls ≠ "java/lang/invoke/VarHandle" ∧ (parseMethodDescriptor yX3_turn.desc).map (fun d => d.parameters.length) = some 2 := by decide +kernel
set_option maxHeartbeats 4000000 in
set_option maxRecDepth 100000 in
theorem mm_X3_turn {a0 : Int32} {a1 : Int32} {out : Int32 × Int32 × Int32} (hC : mC cl tys mi cI cJ cB) (hD : mD o ad) (hf : f_X3_turn nw th st a0 a1 = some out) : Met l yX3_turn (ws_ yX3_turn cX3_turn 3 (some .int)) (rM 3 64) (gPc D cl tys [.ref o, .int a0, .int a1] (mW mi cI cJ cB o ad th tp st fk fp ac si fr tt kd nu fa pl fo wd ci gr lm om nw rd aa kp ta nm rn gv gt rw rh lg lh ou)) (gQ D cl (some (.int out.1)) True (mW mi cI cJ cB o ad out.2.1 tp out.2.2 fk fp ac si fr tt kd nu fa pl fo wd ci gr lm om nw rd aa kp ta nm rn gv gt rw rh lg lh ou) (mA o ad)) 0 0 (mA o ad) := by
  refine gGo (by decide +kernel) (Nat.le_of_ble_eq_true rfl) (fun p e s m below meth c ls S hr hlocks hK hP hl => ?_)
  have S : CallFix p m c cX3_turn 3 s _ lw_all RX3 := S
  obtain ⟨hx, hb, hml, hown, hts⟩ := id S
  have hl : lv_has ls 3 [(0, .ref o), (1, .int a0), (2, .int a1)] := hl
  have w57 : ∀ (y1 : Int32) (th : Int32) (st : Int32) (ls : Array Slot) (H : Heap) (locs : List Loc), va_P D cl (mW mi cI cJ cB o ad th tp st fk fp ac si fr tt kd nu fa pl fo wd ci gr lm om nw rd aa kp ta nm rn gv gt rw rh lg lh ou) H → va_S (mA o ad) s.heap H locs → lv_has ls 3 [] → f_X3_turn_57 nw y1 th st = some out → W p l e (rM 3 64) s m ([.ref o, .int a0, .int a1] : List Value).toArray below meth c H locs 0 0 (MQ below (gQ D cl (some (.int out.1)) True (mW mi cI cJ cB o ad out.2.1 tp out.2.2 fk fp ac si fr tt kd nu fa pl fo wd ci gr lm om nw rd aa kp ta nm rn gv gt rw rh lg lh ou) (mA o ad)) ([.ref o, .int a0, .int a1] : List Value).toArray s 0 0 (mA o ad)) (F0 m 57 ls [.int y1, .ref o]) := by
    intro y1 th st ls H locs hP hS hl hf
    rw [f_X3_turn_57] at hf
    obtain ⟨v1, hv1, hf⟩ := ob_s hf
    refine mc_X3_X3_gives S hC hD hK hP hS hv1 hl.1 ⟨Nat.le_of_ble_eq_true rfl, Nat.le_of_ble_eq_true rfl⟩ (Nat.le_of_ble_eq_true rfl) ⟨Nat.zero_le _, Nat.zero_le _⟩ dX3_turn_57 (fun H locs _ hP hS => ?_)
    have hE := Option.some.inj hf
    subst hE
    exact gt_wi S hr hlocks trivial hP hS dX3_turn_60
  suffices hg : ∀ (H : Heap) (locs : List Loc), va_P D cl (mW mi cI cJ cB o ad th tp st fk fp ac si fr tt kd nu fa pl fo wd ci gr lm om nw rd aa kp ta nm rn gv gt rw rh lg lh ou) H → va_S (mA o ad) s.heap H locs → W p l e (rM 3 64) s m ([.ref o, .int a0, .int a1] : List Value).toArray below meth c H locs 0 0 (MQ below (gQ D cl (some (.int out.1)) True (mW mi cI cJ cB o ad out.2.1 tp out.2.2 fk fp ac si fr tt kd nu fa pl fo wd ci gr lm om nw rd aa kp ta nm rn gv gt rw rh lg lh ou) (mA o ad)) ([.ref o, .int a0, .int a1] : List Value).toArray s 0 0 (mA o ad)) (F0 m 0 ls []) from hg s.heap [] hP va_S.rf
  clear hP
  intro H locs hP hS
  rw [f_X3_turn] at hf
  refine lv_iload_n hx hb dX3_turn_0 rfl (lv_at hl 2 rfl) ?_
  refine lv_iconst hx hb dX3_turn_1 kc_i0 ?_
  refine lv_iconst hx hb dX3_turn_2 kc_i1 ?_
  obtain ⟨v1, hv1, hf⟩ := ob_s hf
  refine mc_X3_X3_isFrom S hK hv1 hl.1 ⟨Nat.le_of_ble_eq_true rfl, Nat.le_of_ble_eq_true rfl⟩ (Nat.le_of_ble_eq_true rfl) ⟨Nat.zero_le _, Nat.zero_le _⟩ dX3_turn_3 (fun hnv1 => ?_)
  refine lv_if_ne (tgt := 15) hx hb dX3_turn_6 (by decide) (fun c2 => ?_) (fun c2 => ?_)
  · replace hf := it_f c2 hf
    refine lv_aload_n hx hb dX3_turn_15 rfl (lv_at hl 0 rfl) ?_
    refine lv_iload_n hx hb dX3_turn_16 rfl (lv_at hl 1 rfl) ?_
    obtain ⟨v3, hv3, hf⟩ := ob_s hf
    refine mc_X3_X3_isHome S hC hK hP hv3 hl.1 ⟨Nat.le_of_ble_eq_true rfl, Nat.le_of_ble_eq_true rfl⟩ (Nat.le_of_ble_eq_true rfl) ⟨Nat.zero_le _, Nat.zero_le _⟩ dX3_turn_17 (fun hnv3 => ?_)
    refine lv_if_ne (tgt := 29) hx hb dX3_turn_20 (by decide) (fun c4 => ?_) (fun c4 => ?_)
    · replace hf := it_f c4 hf
      refine lv_aload_n hx hb dX3_turn_29 rfl (lv_at hl 0 rfl) ?_
      refine lv_iload_n hx hb dX3_turn_30 rfl (lv_at hl 2 rfl) ?_
      refine lv_if_ne (tgt := 45) hx hb dX3_turn_31 (by decide) (fun c5 => ?_) (fun c5 => ?_)
      · replace hf := it_f c5 hf
        refine lv_aload_n hx hb dX3_turn_45 rfl (lv_at hl 0 rfl) ?_
        obtain ⟨v6, hv6, hf⟩ := ob_s hf
        refine mc_X3_X3_isQuota S hC hK hP hv6 hl.1 ⟨Nat.le_of_ble_eq_true rfl, Nat.le_of_ble_eq_true rfl⟩ (Nat.le_of_ble_eq_true rfl) ⟨Nat.zero_le _, Nat.zero_le _⟩ dX3_turn_46 (fun hnv6 => ?_)
        refine lv_if_eq (tgt := 56) hx hb dX3_turn_49 (by decide) (fun c7 => ?_) (fun c7 => ?_)
        · replace hf := it_t c7 hf
          refine lv_iconst hx hb dX3_turn_56 kc_i0 ?_
          exact (w57) 0 th st ls H locs hP hS (lv_sub (l' := []) hl [] rfl) hf
        · replace hf := it_f c7 hf
          refine lv_iconst hx hb dX3_turn_52 kc_i1 ?_
          refine lv_goto (tgt := 57) hx hb dX3_turn_53 (by decide) ?_
          exact (w57) 1 th st ls H locs hP hS (lv_sub (l' := []) hl [] rfl) hf
      · replace hf := it_t c5 hf
        refine lv_aload_n hx hb dX3_turn_34 rfl (lv_at hl 0 rfl) ?_
        refine lv_iload_n hx hb dX3_turn_35 rfl (lv_at hl 1 rfl) ?_
        obtain ⟨v8, hv8, hf⟩ := ob_s hf
        refine mc_X3_X3_isLocal S hC hK hP hv8 hl.1 ⟨Nat.le_of_ble_eq_true rfl, Nat.le_of_ble_eq_true rfl⟩ (Nat.le_of_ble_eq_true rfl) ⟨Nat.zero_le _, Nat.zero_le _⟩ dX3_turn_36 (fun hnv8 => ?_)
        refine lv_if_eq (tgt := 56) hx hb dX3_turn_39 (by decide) (fun c9 => ?_) (fun c9 => ?_)
        · replace hf := it_t c9 hf
          refine lv_iconst hx hb dX3_turn_56 kc_i0 ?_
          exact (w57) 0 th st ls H locs hP hS (lv_sub (l' := []) hl [] rfl) hf
        · replace hf := it_f c9 hf
          refine lv_goto (tgt := 52) hx hb dX3_turn_42 (by decide) ?_
          refine lv_iconst hx hb dX3_turn_52 kc_i1 ?_
          refine lv_goto (tgt := 57) hx hb dX3_turn_53 (by decide) ?_
          exact (w57) 1 th st ls H locs hP hS (lv_sub (l' := []) hl [] rfl) hf
    · replace hf := it_t c4 hf
      refine lv_aload_n hx hb dX3_turn_23 rfl (lv_at hl 0 rfl) ?_
      refine lv_iconst hx hb dX3_turn_24 kc_i2 ?_
      obtain ⟨v10, hv10, hf⟩ := ob_s hf
      refine mc_X3_X3_refuse S hC hD hK hP hS hv10 hl.1 ⟨Nat.le_of_ble_eq_true rfl, Nat.le_of_ble_eq_true rfl⟩ (Nat.le_of_ble_eq_true rfl) ⟨Nat.zero_le _, Nat.zero_le _⟩ dX3_turn_25 (fun H locs _ hP hS => ?_)
      have hE := Option.some.inj hf
      subst hE
      exact gt_wi S hr hlocks trivial hP hS dX3_turn_28
  · replace hf := it_t c2 hf
    refine lv_aload_n hx hb dX3_turn_9 rfl (lv_at hl 0 rfl) ?_
    refine lv_iconst hx hb dX3_turn_10 kc_i1 ?_
    obtain ⟨v11, hv11, hf⟩ := ob_s hf
    refine mc_X3_X3_refuse S hC hD hK hP hS hv11 hl.1 ⟨Nat.le_of_ble_eq_true rfl, Nat.le_of_ble_eq_true rfl⟩ (Nat.le_of_ble_eq_true rfl) ⟨Nat.zero_le _, Nat.zero_le _⟩ dX3_turn_11 (fun H locs _ hP hS => ?_)
    have hE := Option.some.inj hf
    subst hE
    exact gt_wi S hr hlocks trivial hP hS dX3_turn_14
theorem hd_X3_gap : yX3_gap.cls = RX3 ∧ yX3_gap.cls ≠ "java/lang/invoke/MethodHandle" ∧ yX3_gap.cls ≠ "java/lang/invoke/VarHandle" ∧ (parseMethodDescriptor yX3_gap.desc).map (fun d => d.parameters.length) = some 2 := by decide +kernel
set_option maxHeartbeats 4000000 in
set_option maxRecDepth 100000 in
theorem mm_X3_gap {a0 : Int32} {a1 : Int32} {out : Int32 × Int32 × Int32} (hC : mC cl tys mi cI cJ cB) (hD : mD o ad) (hf : f_X3_gap nw th st a0 a1 = some out) : Met l yX3_gap (ws_ yX3_gap cX3_gap 6 (some .int)) (rM 6 135) (gPc D cl tys [.ref o, .int a0, .int a1] (mW mi cI cJ cB o ad th tp st fk fp ac si fr tt kd nu fa pl fo wd ci gr lm om nw rd aa kp ta nm rn gv gt rw rh lg lh ou)) (gQ D cl (some (.int out.1)) True (mW mi cI cJ cB o ad out.2.1 tp out.2.2 fk fp ac si fr tt kd nu fa pl fo wd ci gr lm om nw rd aa kp ta nm rn gv gt rw rh lg lh ou) (mA o ad)) 0 0 (mA o ad) := by
  refine gGo (by decide +kernel) (Nat.le_of_ble_eq_true rfl) (fun p e s m below meth c ls S hr hlocks hK hP hl => ?_)
  have S : CallFix p m c cX3_gap 6 s _ lw_all RX3 := S
  obtain ⟨hx, hb, hml, hown, hts⟩ := id S
  have hl : lv_has ls 6 [(0, .ref o), (1, .int a0), (2, .int a1)] := hl
  have w32 : ∀ (th : Int32) (st : Int32) (ls : Array Slot) (H : Heap) (locs : List Loc), va_P D cl (mW mi cI cJ cB o ad th tp st fk fp ac si fr tt kd nu fa pl fo wd ci gr lm om nw rd aa kp ta nm rn gv gt rw rh lg lh ou) H → va_S (mA o ad) s.heap H locs → lv_has ls 6 [(0, .ref o)] → f_X3_gap_32 nw th st = some out → W p l e (rM 6 135) s m ([.ref o, .int a0, .int a1] : List Value).toArray below meth c H locs 0 0 (MQ below (gQ D cl (some (.int out.1)) True (mW mi cI cJ cB o ad out.2.1 tp out.2.2 fk fp ac si fr tt kd nu fa pl fo wd ci gr lm om nw rd aa kp ta nm rn gv gt rw rh lg lh ou) (mA o ad)) ([.ref o, .int a0, .int a1] : List Value).toArray s 0 0 (mA o ad)) (F0 m 32 ls []) := by
    intro th st ls H locs hP hS hl hf
    rw [f_X3_gap_32] at hf
    refine lv_aload_n hx hb dX3_gap_32 rfl (lv_at hl 0 rfl) ?_
    refine lv_iconst hx hb dX3_gap_33 kc_i5 ?_
    obtain ⟨v1, hv1, hf⟩ := ob_s hf
    refine mc_X3_X3_refuse S hC hD hK hP hS hv1 hl.1 ⟨Nat.le_of_ble_eq_true rfl, Nat.le_of_ble_eq_true rfl⟩ (Nat.le_of_ble_eq_true rfl) ⟨Nat.zero_le _, Nat.zero_le _⟩ dX3_gap_34 (fun H locs _ hP hS => ?_)
    have hE := Option.some.inj hf
    subst hE
    exact gt_wi S hr hlocks trivial hP hS dX3_gap_37
  have w101 : ∀ (x5 : Int32) (th : Int32) (st : Int32) (ls : Array Slot) (H : Heap) (locs : List Loc), va_P D cl (mW mi cI cJ cB o ad th tp st fk fp ac si fr tt kd nu fa pl fo wd ci gr lm om nw rd aa kp ta nm rn gv gt rw rh lg lh ou) H → va_S (mA o ad) s.heap H locs → lv_has ls 6 [(0, .ref o), (5, .int x5)] → f_X3_gap_101 nw x5 th st = some out → W p l e (rM 6 135) s m ([.ref o, .int a0, .int a1] : List Value).toArray below meth c H locs 0 0 (MQ below (gQ D cl (some (.int out.1)) True (mW mi cI cJ cB o ad out.2.1 tp out.2.2 fk fp ac si fr tt kd nu fa pl fo wd ci gr lm om nw rd aa kp ta nm rn gv gt rw rh lg lh ou) (mA o ad)) ([.ref o, .int a0, .int a1] : List Value).toArray s 0 0 (mA o ad)) (F0 m 101 ls []) := by
    intro x5 th st ls H locs hP hS hl hf
    rw [f_X3_gap_101] at hf
    refine lv_aload_n hx hb dX3_gap_101 rfl (lv_at hl 0 rfl) ?_
    refine lv_iload hx hb dX3_gap_102 (lv_at hl 1 rfl) ?_
    obtain ⟨v1, hv1, hf⟩ := ob_s hf
    refine mc_X3_X3_gives S hC hD hK hP hS hv1 hl.1 ⟨Nat.le_of_ble_eq_true rfl, Nat.le_of_ble_eq_true rfl⟩ (Nat.le_of_ble_eq_true rfl) ⟨Nat.zero_le _, Nat.zero_le _⟩ dX3_gap_104 (fun H locs _ hP hS => ?_)
    have hE := Option.some.inj hf
    subst hE
    exact gt_wi S hr hlocks trivial hP hS dX3_gap_107
  have w61 : ∀ (n : Nat) , ∀ (x1 : Int32) (x2 : Int32) (x4 : Int32) (x5 : Int32) (th : Int32) (st : Int32) (ls : Array Slot) (H : Heap) (locs : List Loc), va_P D cl (mW mi cI cJ cB o ad th tp st fk fp ac si fr tt kd nu fa pl fo wd ci gr lm om nw rd aa kp ta nm rn gv gt rw rh lg lh ou) H → va_S (mA o ad) s.heap H locs → lv_has ls 6 [(0, .ref o), (1, .int x1), (2, .int x2), (4, .int x4), (5, .int x5)] → f_X3_gap_61 n nw x1 x2 x4 x5 th st = some out → W p l e (rM 6 135) s m ([.ref o, .int a0, .int a1] : List Value).toArray below meth c H locs 0 0 (MQ below (gQ D cl (some (.int out.1)) True (mW mi cI cJ cB o ad out.2.1 tp out.2.2 fk fp ac si fr tt kd nu fa pl fo wd ci gr lm om nw rd aa kp ta nm rn gv gt rw rh lg lh ou) (mA o ad)) ([.ref o, .int a0, .int a1] : List Value).toArray s 0 0 (mA o ad)) (F0 m 61 ls []) := by
    intro n
    induction n with
    | zero =>
      intro x1 x2 x4 x5 th st ls H locs hP hS hl hf
      exact absurd hf (by rw [f_X3_gap_61]; exact nofun)
    | succ n ih =>
      intro x1 x2 x4 x5 th st ls H locs hP hS hl hf
      rw [f_X3_gap_61] at hf
      refine lv_iload hx hb dX3_gap_61 (lv_at hl 4 rfl) ?_
      refine lv_aload_n hx hb dX3_gap_63 rfl (lv_at hl 0 rfl) ?_
      refine lv_iload_n hx hb dX3_gap_64 rfl (lv_at hl 1 rfl) ?_
      obtain ⟨v1, hv1, hf⟩ := ob_s hf
      refine mc_X3_X3_bandNow S hC hK hP hv1 hl.1 ⟨Nat.le_of_ble_eq_true rfl, Nat.le_of_ble_eq_true rfl⟩ (Nat.le_of_ble_eq_true rfl) ⟨Nat.zero_le _, Nat.zero_le _⟩ dX3_gap_65 (fun _ => ?_)
      refine lv_icmp_ge (tgt := 114) hx hb dX3_gap_68 (by decide) (fun c2 => ?_) (fun c2 => ?_)
      · replace hf := it_t c2 hf
        refine lv_aload_n hx hb dX3_gap_114 rfl (lv_at hl 0 rfl) ?_
        refine lv_iconst hx hb dX3_gap_115 kc_i5 ?_
        obtain ⟨v3, hv3, hf⟩ := ob_s hf
        refine mc_X3_X3_refuse S hC hD hK hP hS hv3 hl.1 ⟨Nat.le_of_ble_eq_true rfl, Nat.le_of_ble_eq_true rfl⟩ (Nat.le_of_ble_eq_true rfl) ⟨Nat.zero_le _, Nat.zero_le _⟩ dX3_gap_116 (fun H locs _ hP hS => ?_)
        have hE := Option.some.inj hf
        subst hE
        exact gt_wi S hr hlocks trivial hP hS dX3_gap_119
      · replace hf := it_f c2 hf
        refine lv_iload hx hb dX3_gap_71 (lv_at hl 3 rfl) ?_
        refine lv_iconst hx hb dX3_gap_73 kc_im1 ?_
        refine lv_icmp_eq (tgt := 101) hx hb dX3_gap_74 (by decide) (fun c4 => ?_) (fun c4 => ?_)
        · replace hf := it_t c4 hf
          exact (w101) x5 th st ls H locs hP hS (lv_sub (l' := [(0, .ref o), (5, .int x5)]) hl [0, 4] rfl) hf
        · replace hf := it_f c4 hf
          refine lv_aload_n hx hb dX3_gap_77 rfl (lv_at hl 0 rfl) ?_
          refine lv_iload_n hx hb dX3_gap_78 rfl (lv_at hl 1 rfl) ?_
          refine lv_iload_n hx hb dX3_gap_79 rfl (lv_at hl 2 rfl) ?_
          refine lv_aload_n hx hb dX3_gap_80 rfl (lv_at hl 0 rfl) ?_
          refine lv_iload_n hx hb dX3_gap_81 rfl (lv_at hl 1 rfl) ?_
          obtain ⟨v5, hv5, hf⟩ := ob_s hf
          refine mc_X3_X3_bandNow S hC hK hP hv5 hl.1 ⟨Nat.le_of_ble_eq_true rfl, Nat.le_of_ble_eq_true rfl⟩ (Nat.le_of_ble_eq_true rfl) ⟨Nat.zero_le _, Nat.zero_le _⟩ dX3_gap_82 (fun _ => ?_)
          refine lv_iload hx hb dX3_gap_85 (lv_at hl 4 rfl) ?_
          refine lv_isub hx hb dX3_gap_87 ?_
          obtain ⟨v6, hv6, hf⟩ := ob_s hf
          refine mc_X3_X3_weight_2 S hC hK hP hv6 hl.1 ⟨Nat.le_of_ble_eq_true rfl, Nat.le_of_ble_eq_true rfl⟩ (Nat.le_of_ble_eq_true rfl) ⟨Nat.zero_le _, Nat.zero_le _⟩ dX3_gap_88 (fun _ => ?_)
          refine lv_aload_n hx hb dX3_gap_91 rfl (lv_at hl 0 rfl) ?_
          refine lv_iload hx hb dX3_gap_92 (lv_at hl 3 rfl) ?_
          refine lv_iload_n hx hb dX3_gap_94 rfl (lv_at hl 2 rfl) ?_
          obtain ⟨v7, hv7, hf⟩ := ob_s hf
          refine mc_X3_X3_weight S hC hK hP hv7 hl.1 ⟨Nat.le_of_ble_eq_true rfl, Nat.le_of_ble_eq_true rfl⟩ (Nat.le_of_ble_eq_true rfl) ⟨Nat.zero_le _, Nat.zero_le _⟩ dX3_gap_95 (fun _ => ?_)
          refine lv_icmp_ge (tgt := 108) hx hb dX3_gap_98 (by decide) (fun c8 => ?_) (fun c8 => ?_)
          · replace hf := it_t c8 hf
            refine lv_iinc (v := (x5 + 1)) (lv' := [(5, .int (x5 + 1)), (0, .ref o), (1, .int x1), (2, .int x2), (4, .int x4)]) hx hb dX3_gap_108 hl (k := 4) rfl rfl (by decide) rfl (fun ls hl => ?_)
            refine lv_goto (tgt := 61) hx hb dX3_gap_111 (by decide) ?_
            exact (ih) x1 x2 x4 (x5 + 1) th st ls H locs hP hS (lv_sub (l' := [(0, .ref o), (1, .int x1), (2, .int x2), (4, .int x4), (5, .int (x5 + 1))]) hl [1, 2, 3, 4, 0] rfl) hf
          · replace hf := it_f c8 hf
            exact (w101) x5 th st ls H locs hP hS (lv_sub (l' := [(0, .ref o), (5, .int x5)]) hl [0, 4] rfl) hf
  suffices hg : ∀ (H : Heap) (locs : List Loc), va_P D cl (mW mi cI cJ cB o ad th tp st fk fp ac si fr tt kd nu fa pl fo wd ci gr lm om nw rd aa kp ta nm rn gv gt rw rh lg lh ou) H → va_S (mA o ad) s.heap H locs → W p l e (rM 6 135) s m ([.ref o, .int a0, .int a1] : List Value).toArray below meth c H locs 0 0 (MQ below (gQ D cl (some (.int out.1)) True (mW mi cI cJ cB o ad out.2.1 tp out.2.2 fk fp ac si fr tt kd nu fa pl fo wd ci gr lm om nw rd aa kp ta nm rn gv gt rw rh lg lh ou) (mA o ad)) ([.ref o, .int a0, .int a1] : List Value).toArray s 0 0 (mA o ad)) (F0 m 0 ls []) from hg s.heap [] hP va_S.rf
  clear hP
  intro H locs hP hS
  rw [f_X3_gap] at hf
  refine lv_aload_n hx hb dX3_gap_0 rfl (lv_at hl 0 rfl) ?_
  refine lv_iload_n hx hb dX3_gap_1 rfl (lv_at hl 1 rfl) ?_
  refine lv_iload_n hx hb dX3_gap_2 rfl (lv_at hl 2 rfl) ?_
  obtain ⟨v1, hv1, hf⟩ := ob_s hf
  refine mc_X3_X3_areOnes S hC hK hP hv1 hl.1 ⟨Nat.le_of_ble_eq_true rfl, Nat.le_of_ble_eq_true rfl⟩ (Nat.le_of_ble_eq_true rfl) ⟨Nat.zero_le _, Nat.zero_le _⟩ dX3_gap_3 (fun hnv1 => ?_)
  refine lv_if_ne (tgt := 15) hx hb dX3_gap_6 (by decide) (fun c2 => ?_) (fun c2 => ?_)
  · replace hf := it_f c2 hf
    refine lv_aload_n hx hb dX3_gap_15 rfl (lv_at hl 0 rfl) ?_
    refine lv_iload_n hx hb dX3_gap_16 rfl (lv_at hl 1 rfl) ?_
    obtain ⟨v3, hv3, hf⟩ := ob_s hf
    refine mc_X3_X3_mayHope S hC hK hP hv3 hl.1 ⟨Nat.le_of_ble_eq_true rfl, Nat.le_of_ble_eq_true rfl⟩ (Nat.le_of_ble_eq_true rfl) ⟨Nat.zero_le _, Nat.zero_le _⟩ dX3_gap_17 (fun hnv3 => ?_)
    refine lv_if_eq (tgt := 32) hx hb dX3_gap_20 (by decide) (fun c4 => ?_) (fun c4 => ?_)
    · replace hf := it_t c4 hf
      exact (w32) th st ls H locs hP hS (lv_sub (l' := [(0, .ref o)]) hl [0] rfl) hf
    · replace hf := it_f c4 hf
      refine lv_aload_n hx hb dX3_gap_23 rfl (lv_at hl 0 rfl) ?_
      refine lv_iload_n hx hb dX3_gap_24 rfl (lv_at hl 1 rfl) ?_
      refine lv_iload_n hx hb dX3_gap_25 rfl (lv_at hl 2 rfl) ?_
      obtain ⟨v5, hv5, hf⟩ := ob_s hf
      refine mc_X3_X3_doesFit S hC hK hP hv5 hl.1 ⟨Nat.le_of_ble_eq_true rfl, Nat.le_of_ble_eq_true rfl⟩ (Nat.le_of_ble_eq_true rfl) ⟨Nat.zero_le _, Nat.zero_le _⟩ dX3_gap_26 (fun hnv5 => ?_)
      refine lv_if_ne (tgt := 38) hx hb dX3_gap_29 (by decide) (fun c6 => ?_) (fun c6 => ?_)
      · replace hf := it_f c6 hf
        refine lv_aload_n hx hb dX3_gap_38 rfl (lv_at hl 0 rfl) ?_
        refine lv_iload_n hx hb dX3_gap_39 rfl (lv_at hl 2 rfl) ?_
        obtain ⟨v7, hv7, hf⟩ := ob_s hf
        refine mc_X3_X3_biddersOf S hC hK hP hv7 hl.1 ⟨Nat.le_of_ble_eq_true rfl, Nat.le_of_ble_eq_true rfl⟩ (Nat.le_of_ble_eq_true rfl) ⟨Nat.zero_le _, Nat.zero_le _⟩ dX3_gap_40 (fun _ => ?_)
        refine lv_iconst hx hb dX3_gap_43 kc_i1 ?_
        refine lv_iload_n hx hb dX3_gap_44 rfl (lv_at hl 1 rfl) ?_
        refine lv_ishl hx hb dX3_gap_45 ?_
        refine lv_iconst hx hb dX3_gap_46 kc_im1 ?_
        refine lv_ixor hx hb dX3_gap_47 ?_
        refine lv_iand hx hb dX3_gap_48 ?_
        refine lv_istore_n (i := 3) (lv' := [(3, .int (v7 &&& ((1 <<< (a0 &&& 31)) ^^^ (-1)))), (0, .ref o), (1, .int a0), (2, .int a1)]) hx hb dX3_gap_49 rfl hl (by decide) rfl (fun ls hl => ?_)
        refine lv_aload_n hx hb dX3_gap_50 rfl (lv_at hl 1 rfl) ?_
        refine lv_iload_n hx hb dX3_gap_51 rfl (lv_at hl 0 rfl) ?_
        refine lv_iload_n hx hb dX3_gap_52 rfl (lv_at hl 3 rfl) ?_
        obtain ⟨v8, hv8, hf⟩ := ob_s hf
        refine mc_X3_X3_firstOf S hC hK hP hv8 hl.1 ⟨Nat.le_of_ble_eq_true rfl, Nat.le_of_ble_eq_true rfl⟩ (Nat.le_of_ble_eq_true rfl) ⟨Nat.zero_le _, Nat.zero_le _⟩ dX3_gap_53 (fun _ => ?_)
        refine lv_istore (lv' := [(4, .int v8), (3, .int (v7 &&& ((1 <<< (a0 &&& 31)) ^^^ (-1)))), (0, .ref o), (1, .int a0), (2, .int a1)]) hx hb dX3_gap_56 hl (by decide) rfl (fun ls hl => ?_)
        refine lv_iconst hx hb dX3_gap_58 kc_i0 ?_
        refine lv_istore (lv' := [(5, .int 0), (4, .int v8), (3, .int (v7 &&& ((1 <<< (a0 &&& 31)) ^^^ (-1)))), (0, .ref o), (1, .int a0), (2, .int a1)]) hx hb dX3_gap_59 hl (by decide) rfl (fun ls hl => ?_)
        exact (w61 FU) a0 a1 v8 0 th st ls H locs hP hS (lv_sub (l' := [(0, .ref o), (1, .int a0), (2, .int a1), (4, .int v8), (5, .int 0)]) hl [3, 4, 5, 1, 0] rfl) hf
      · replace hf := it_t c6 hf
        exact (w32) th st ls H locs hP hS (lv_sub (l' := [(0, .ref o)]) hl [0] rfl) hf
  · replace hf := it_t c2 hf
    refine lv_aload_n hx hb dX3_gap_9 rfl (lv_at hl 0 rfl) ?_
    refine lv_iconst hx hb dX3_gap_10 kc_i2 ?_
    obtain ⟨v9, hv9, hf⟩ := ob_s hf
    refine mc_X3_X3_refuse S hC hD hK hP hS hv9 hl.1 ⟨Nat.le_of_ble_eq_true rfl, Nat.le_of_ble_eq_true rfl⟩ (Nat.le_of_ble_eq_true rfl) ⟨Nat.zero_le _, Nat.zero_le _⟩ dX3_gap_11 (fun H locs _ hP hS => ?_)
    have hE := Option.some.inj hf
    subst hE
    exact gt_wi S hr hlocks trivial hP hS dX3_gap_14
theorem hd_X3_let : yX3_let.cls = RX3 ∧ yX3_let.cls ≠ "java/lang/invoke/MethodHandle" ∧ yX3_let.cls ≠ "java/lang/invoke/VarHandle" ∧ (parseMethodDescriptor yX3_let.desc).map (fun d => d.parameters.length) = some 2 := by decide +kernel
set_option maxHeartbeats 4000000 in
set_option maxRecDepth 100000 in
theorem mm_X3_let {a0 : Int32} {a1 : Int32} {out : Int32 × Int32 × Int32} (hC : mC cl tys mi cI cJ cB) (hD : mD o ad) (hf : f_X3_let nw th st a0 a1 = some out) : Met l yX3_let (ws_ yX3_let cX3_let 3 (some .int)) (rM 1 22) (gPc D cl tys [.ref o, .int a0, .int a1] (mW mi cI cJ cB o ad th tp st fk fp ac si fr tt kd nu fa pl fo wd ci gr lm om nw rd aa kp ta nm rn gv gt rw rh lg lh ou)) (gQ D cl (some (.int out.1)) True (mW mi cI cJ cB o ad out.2.1 tp out.2.2 fk fp ac si fr tt kd nu fa pl fo wd ci gr lm om nw rd aa kp ta nm rn gv gt rw rh lg lh ou) (mA o ad)) 0 0 (mA o ad) := by
  refine gGo (by decide +kernel) (Nat.le_of_ble_eq_true rfl) (fun p e s m below meth c ls S hr hlocks hK hP hl => ?_)
  have S : CallFix p m c cX3_let 3 s _ lw_all RX3 := S
  obtain ⟨hx, hb, hml, hown, hts⟩ := id S
  have hl : lv_has ls 3 [(0, .ref o), (1, .int a0), (2, .int a1)] := hl
  have w63 : ∀ (y1 : Int32) (th : Int32) (st : Int32) (ls : Array Slot) (H : Heap) (locs : List Loc), va_P D cl (mW mi cI cJ cB o ad th tp st fk fp ac si fr tt kd nu fa pl fo wd ci gr lm om nw rd aa kp ta nm rn gv gt rw rh lg lh ou) H → va_S (mA o ad) s.heap H locs → lv_has ls 3 [] → f_X3_let_63 nw y1 th st = some out → W p l e (rM 1 22) s m ([.ref o, .int a0, .int a1] : List Value).toArray below meth c H locs 0 0 (MQ below (gQ D cl (some (.int out.1)) True (mW mi cI cJ cB o ad out.2.1 tp out.2.2 fk fp ac si fr tt kd nu fa pl fo wd ci gr lm om nw rd aa kp ta nm rn gv gt rw rh lg lh ou) (mA o ad)) ([.ref o, .int a0, .int a1] : List Value).toArray s 0 0 (mA o ad)) (F0 m 63 ls [.int y1, .ref o]) := by
    intro y1 th st ls H locs hP hS hl hf
    rw [f_X3_let_63] at hf
    obtain ⟨v1, hv1, hf⟩ := ob_s hf
    refine mc_X3_X3_gives S hC hD hK hP hS hv1 hl.1 ⟨Nat.le_of_ble_eq_true rfl, Nat.le_of_ble_eq_true rfl⟩ (Nat.le_of_ble_eq_true rfl) ⟨Nat.zero_le _, Nat.zero_le _⟩ dX3_let_63 (fun H locs _ hP hS => ?_)
    have hE := Option.some.inj hf
    subst hE
    exact gt_wi S hr hlocks trivial hP hS dX3_let_66
  suffices hg : ∀ (H : Heap) (locs : List Loc), va_P D cl (mW mi cI cJ cB o ad th tp st fk fp ac si fr tt kd nu fa pl fo wd ci gr lm om nw rd aa kp ta nm rn gv gt rw rh lg lh ou) H → va_S (mA o ad) s.heap H locs → W p l e (rM 1 22) s m ([.ref o, .int a0, .int a1] : List Value).toArray below meth c H locs 0 0 (MQ below (gQ D cl (some (.int out.1)) True (mW mi cI cJ cB o ad out.2.1 tp out.2.2 fk fp ac si fr tt kd nu fa pl fo wd ci gr lm om nw rd aa kp ta nm rn gv gt rw rh lg lh ou) (mA o ad)) ([.ref o, .int a0, .int a1] : List Value).toArray s 0 0 (mA o ad)) (F0 m 0 ls []) from hg s.heap [] hP va_S.rf
  clear hP
  intro H locs hP hS
  rw [f_X3_let] at hf
  refine lv_iload_n hx hb dX3_let_0 rfl (lv_at hl 2 rfl) ?_
  refine lv_iconst hx hb dX3_let_1 kc_i0 ?_
  refine lv_bipush hx hb dX3_let_2 kc_b7 ?_
  obtain ⟨v1, hv1, hf⟩ := ob_s hf
  refine mc_X3_X3_isFrom S hK hv1 hl.1 ⟨Nat.le_of_ble_eq_true rfl, Nat.le_of_ble_eq_true rfl⟩ (Nat.le_of_ble_eq_true rfl) ⟨Nat.zero_le _, Nat.zero_le _⟩ dX3_let_4 (fun hnv1 => ?_)
  refine lv_if_ne (tgt := 16) hx hb dX3_let_7 (by decide) (fun c2 => ?_) (fun c2 => ?_)
  · replace hf := it_f c2 hf
    refine lv_iload_n hx hb dX3_let_16 rfl (lv_at hl 1 rfl) ?_
    refine lv_iconst hx hb dX3_let_17 kc_i0 ?_
    refine lv_aload_n hx hb dX3_let_18 rfl (lv_at hl 0 rfl) ?_
    refine mg_1 S hC hK hP dX3_let_19 ?_
    refine lv_sipush hx hb dX3_let_22 kc_s233 ?_
    refine ma_1 S hC hK hP kv_233_390 kn_233 dX3_let_25 ?_
    refine lv_iconst hx hb dX3_let_26 kc_i1 ?_
    refine lv_isub hx hb dX3_let_27 ?_
    obtain ⟨v3, hv3, hf⟩ := ob_s hf
    refine mc_X3_X3_isFrom S hK hv3 hl.1 ⟨Nat.le_of_ble_eq_true rfl, Nat.le_of_ble_eq_true rfl⟩ (Nat.le_of_ble_eq_true rfl) ⟨Nat.zero_le _, Nat.zero_le _⟩ dX3_let_28 (fun hnv3 => ?_)
    refine lv_if_ne (tgt := 40) hx hb dX3_let_31 (by decide) (fun c4 => ?_) (fun c4 => ?_)
    · replace hf := it_f c4 hf
      refine lv_aload_n hx hb dX3_let_40 rfl (lv_at hl 0 rfl) ?_
      refine lv_iload_n hx hb dX3_let_41 rfl (lv_at hl 2 rfl) ?_
      refine lv_iconst hx hb dX3_let_42 kc_i5 ?_
      refine lv_icmp_ne (tgt := 57) hx hb dX3_let_43 (by decide) (fun c5 => ?_) (fun c5 => ?_)
      · replace hf := it_f c5 hf
        refine lv_aload_n hx hb dX3_let_57 rfl (lv_at hl 0 rfl) ?_
        refine lv_iload_n hx hb dX3_let_58 rfl (lv_at hl 1 rfl) ?_
        refine lv_iload_n hx hb dX3_let_59 rfl (lv_at hl 2 rfl) ?_
        obtain ⟨v6, hv6, hf⟩ := ob_s hf
        refine mc_X3_X3_let0 S hC hK hP hv6 hl.1 ⟨Nat.le_of_ble_eq_true rfl, Nat.le_of_ble_eq_true rfl⟩ (Nat.le_of_ble_eq_true rfl) ⟨Nat.zero_le _, Nat.zero_le _⟩ dX3_let_60 (fun _ => ?_)
        exact (w63) v6 th st ls H locs hP hS (lv_sub (l' := []) hl [] rfl) hf
      · replace hf := it_t c5 hf
        refine lv_aload_n hx hb dX3_let_46 rfl (lv_at hl 0 rfl) ?_
        refine lv_iload_n hx hb dX3_let_47 rfl (lv_at hl 1 rfl) ?_
        refine lv_iconst hx hb dX3_let_48 kc_i5 ?_
        obtain ⟨v7, hv7, hf⟩ := ob_s hf
        refine mc_X3_X3_let0 S hC hK hP hv7 hl.1 ⟨Nat.le_of_ble_eq_true rfl, Nat.le_of_ble_eq_true rfl⟩ (Nat.le_of_ble_eq_true rfl) ⟨Nat.zero_le _, Nat.zero_le _⟩ dX3_let_49 (fun _ => ?_)
        refine lv_iconst hx hb dX3_let_52 kc_i1 ?_
        refine lv_iand hx hb dX3_let_53 ?_
        refine lv_goto (tgt := 63) hx hb dX3_let_54 (by decide) ?_
        exact (w63) (v7 &&& 1) th st ls H locs hP hS (lv_sub (l' := []) hl [] rfl) hf
    · replace hf := it_t c4 hf
      refine lv_aload_n hx hb dX3_let_34 rfl (lv_at hl 0 rfl) ?_
      refine lv_iconst hx hb dX3_let_35 kc_i2 ?_
      obtain ⟨v8, hv8, hf⟩ := ob_s hf
      refine mc_X3_X3_refuse S hC hD hK hP hS hv8 hl.1 ⟨Nat.le_of_ble_eq_true rfl, Nat.le_of_ble_eq_true rfl⟩ (Nat.le_of_ble_eq_true rfl) ⟨Nat.zero_le _, Nat.zero_le _⟩ dX3_let_36 (fun H locs _ hP hS => ?_)
      have hE := Option.some.inj hf
      subst hE
      exact gt_wi S hr hlocks trivial hP hS dX3_let_39
  · replace hf := it_t c2 hf
    refine lv_aload_n hx hb dX3_let_10 rfl (lv_at hl 0 rfl) ?_
    refine lv_iconst hx hb dX3_let_11 kc_i1 ?_
    obtain ⟨v9, hv9, hf⟩ := ob_s hf
    refine mc_X3_X3_refuse S hC hD hK hP hS hv9 hl.1 ⟨Nat.le_of_ble_eq_true rfl, Nat.le_of_ble_eq_true rfl⟩ (Nat.le_of_ble_eq_true rfl) ⟨Nat.zero_le _, Nat.zero_le _⟩ dX3_let_12 (fun H locs _ hP hS => ?_)
    have hE := Option.some.inj hf
    subst hE
    exact gt_wi S hr hlocks trivial hP hS dX3_let_15
theorem hd_X3_offer : yX3_offer.cls = RX3 ∧ yX3_offer.cls ≠ "java/lang/invoke/MethodHandle" ∧ yX3_offer.cls ≠ "java/lang/invoke/VarHandle" ∧ (parseMethodDescriptor yX3_offer.desc).map (fun d => d.parameters.length) = some 2 := by decide +kernel
set_option maxHeartbeats 4000000 in
set_option maxRecDepth 100000 in
theorem mm_X3_offer {a0 : Int32} {a1 : Int32} {out : Int32 × Int32 × Int32} (hC : mC cl tys mi cI cJ cB) (hD : mD o ad) (hf : f_X3_offer nw th st a0 a1 = some out) : Met l yX3_offer (ws_ yX3_offer cX3_offer 3 (some .int)) (rM 1 22) (gPc D cl tys [.ref o, .int a0, .int a1] (mW mi cI cJ cB o ad th tp st fk fp ac si fr tt kd nu fa pl fo wd ci gr lm om nw rd aa kp ta nm rn gv gt rw rh lg lh ou)) (gQ D cl (some (.int out.1)) True (mW mi cI cJ cB o ad out.2.1 tp out.2.2 fk fp ac si fr tt kd nu fa pl fo wd ci gr lm om nw rd aa kp ta nm rn gv gt rw rh lg lh ou) (mA o ad)) 0 0 (mA o ad) := by
  refine gGo (by decide +kernel) (Nat.le_of_ble_eq_true rfl) (fun p e s m below meth c ls S hr hlocks hK hP hl => ?_)
  have S : CallFix p m c cX3_offer 3 s _ lw_all RX3 := S
  obtain ⟨hx, hb, hml, hown, hts⟩ := id S
  have hl : lv_has ls 3 [(0, .ref o), (1, .int a0), (2, .int a1)] := hl
  suffices hg : ∀ (H : Heap) (locs : List Loc), va_P D cl (mW mi cI cJ cB o ad th tp st fk fp ac si fr tt kd nu fa pl fo wd ci gr lm om nw rd aa kp ta nm rn gv gt rw rh lg lh ou) H → va_S (mA o ad) s.heap H locs → W p l e (rM 1 22) s m ([.ref o, .int a0, .int a1] : List Value).toArray below meth c H locs 0 0 (MQ below (gQ D cl (some (.int out.1)) True (mW mi cI cJ cB o ad out.2.1 tp out.2.2 fk fp ac si fr tt kd nu fa pl fo wd ci gr lm om nw rd aa kp ta nm rn gv gt rw rh lg lh ou) (mA o ad)) ([.ref o, .int a0, .int a1] : List Value).toArray s 0 0 (mA o ad)) (F0 m 0 ls []) from hg s.heap [] hP va_S.rf
  clear hP
  intro H locs hP hS
  rw [f_X3_offer] at hf
  refine lv_iload_n hx hb dX3_offer_0 rfl (lv_at hl 2 rfl) ?_
  refine lv_iconst hx hb dX3_offer_1 kc_i0 ?_
  refine lv_iconst hx hb dX3_offer_2 kc_i2 ?_
  obtain ⟨v1, hv1, hf⟩ := ob_s hf
  refine mc_X3_X3_isFrom S hK hv1 hl.1 ⟨Nat.le_of_ble_eq_true rfl, Nat.le_of_ble_eq_true rfl⟩ (Nat.le_of_ble_eq_true rfl) ⟨Nat.zero_le _, Nat.zero_le _⟩ dX3_offer_3 (fun hnv1 => ?_)
  refine lv_if_ne (tgt := 15) hx hb dX3_offer_6 (by decide) (fun c2 => ?_) (fun c2 => ?_)
  · replace hf := it_f c2 hf
    refine lv_iload_n hx hb dX3_offer_15 rfl (lv_at hl 1 rfl) ?_
    refine lv_iconst hx hb dX3_offer_16 kc_i0 ?_
    refine lv_aload_n hx hb dX3_offer_17 rfl (lv_at hl 0 rfl) ?_
    refine mg_1 S hC hK hP dX3_offer_18 ?_
    refine lv_sipush hx hb dX3_offer_21 kc_s299 ?_
    refine ma_1 S hC hK hP kv_299_390 kn_299 dX3_offer_24 ?_
    refine lv_iconst hx hb dX3_offer_25 kc_i1 ?_
    refine lv_isub hx hb dX3_offer_26 ?_
    obtain ⟨v3, hv3, hf⟩ := ob_s hf
    refine mc_X3_X3_isFrom S hK hv3 hl.1 ⟨Nat.le_of_ble_eq_true rfl, Nat.le_of_ble_eq_true rfl⟩ (Nat.le_of_ble_eq_true rfl) ⟨Nat.zero_le _, Nat.zero_le _⟩ dX3_offer_27 (fun hnv3 => ?_)
    refine lv_if_eq (tgt := 54) hx hb dX3_offer_30 (by decide) (fun c4 => ?_) (fun c4 => ?_)
    · replace hf := it_t c4 hf
      refine lv_aload_n hx hb dX3_offer_54 rfl (lv_at hl 0 rfl) ?_
      refine lv_iconst hx hb dX3_offer_55 kc_i2 ?_
      obtain ⟨v5, hv5, hf⟩ := ob_s hf
      refine mc_X3_X3_refuse S hC hD hK hP hS hv5 hl.1 ⟨Nat.le_of_ble_eq_true rfl, Nat.le_of_ble_eq_true rfl⟩ (Nat.le_of_ble_eq_true rfl) ⟨Nat.zero_le _, Nat.zero_le _⟩ dX3_offer_56 (fun H locs _ hP hS => ?_)
      have hE := Option.some.inj hf
      subst hE
      exact gt_wi S hr hlocks trivial hP hS dX3_offer_59
    · replace hf := it_f c4 hf
      refine lv_aload_n hx hb dX3_offer_33 rfl (lv_at hl 0 rfl) ?_
      refine lv_aload_n hx hb dX3_offer_34 rfl (lv_at hl 0 rfl) ?_
      refine mg_1 S hC hK hP dX3_offer_35 ?_
      refine lv_sipush hx hb dX3_offer_38 kc_s300 ?_
      refine lv_iconst hx hb dX3_offer_41 kc_i3 ?_
      refine lv_iload_n hx hb dX3_offer_42 rfl (lv_at hl 1 rfl) ?_
      refine lv_imul hx hb dX3_offer_43 ?_
      refine lv_iadd hx hb dX3_offer_44 ?_
      refine lv_iload_n hx hb dX3_offer_45 rfl (lv_at hl 2 rfl) ?_
      refine lv_iadd hx hb dX3_offer_46 ?_
      obtain ⟨g6, hf⟩ := gd_t hf
      refine ma_1 S hC hK hP (inR_vp g6) rfl dX3_offer_47 ?_
      obtain ⟨v7, hv7, hf⟩ := ob_s hf
      refine mc_X3_X3_gives S hC hD hK hP hS hv7 hl.1 ⟨Nat.le_of_ble_eq_true rfl, Nat.le_of_ble_eq_true rfl⟩ (Nat.le_of_ble_eq_true rfl) ⟨Nat.zero_le _, Nat.zero_le _⟩ dX3_offer_48 (fun H locs _ hP hS => ?_)
      refine lv_goto (tgt := 59) hx hb dX3_offer_51 (by decide) ?_
      have hE := Option.some.inj hf
      subst hE
      exact gt_wi S hr hlocks trivial hP hS dX3_offer_59
  · replace hf := it_t c2 hf
    refine lv_aload_n hx hb dX3_offer_9 rfl (lv_at hl 0 rfl) ?_
    refine lv_iconst hx hb dX3_offer_10 kc_i1 ?_
    obtain ⟨v8, hv8, hf⟩ := ob_s hf
    refine mc_X3_X3_refuse S hC hD hK hP hS hv8 hl.1 ⟨Nat.le_of_ble_eq_true rfl, Nat.le_of_ble_eq_true rfl⟩ (Nat.le_of_ble_eq_true rfl) ⟨Nat.zero_le _, Nat.zero_le _⟩ dX3_offer_11 (fun H locs _ hP hS => ?_)
    have hE := Option.some.inj hf
    subst hE
    exact gt_wi S hr hlocks trivial hP hS dX3_offer_14
theorem hd_X3_allPassed : yX3_allPassed.cls = RX3 ∧ yX3_allPassed.cls ≠ "java/lang/invoke/MethodHandle" ∧ yX3_allPassed.cls ≠ "java/lang/invoke/VarHandle" ∧ (parseMethodDescriptor yX3_allPassed.desc).map (fun d => d.parameters.length) = some 0 := by decide +kernel
set_option maxHeartbeats 4000000 in
set_option maxRecDepth 100000 in
theorem mm_X3_allPassed  {out : Int32} (hC : mC cl tys mi cI cJ cB) (hf : f_X3_allPassed nw = some out) : Met l yX3_allPassed (ws_ yX3_allPassed cX3_allPassed 3 (some .int)) (rM 2 43) (gPc D cl tys [.ref o] (mW mi cI cJ cB o ad th tp st fk fp ac si fr tt kd nu fa pl fo wd ci gr lm om nw rd aa kp ta nm rn gv gt rw rh lg lh ou)) (gR (some (.int out)) True) 0 0 (fun _ => False) := by
  refine gGo (by decide +kernel) (Nat.le_of_ble_eq_true rfl) (fun p e s m below meth c ls S hr hlocks hK hP hl => ?_)
  have S : CallFix p m c cX3_allPassed 3 s _ lw_all RX3 := S
  obtain ⟨hx, hb, hml, hown, hts⟩ := id S
  have hl : lv_has ls 3 [(0, .ref o)] := hl
  have w4 : ∀ (n : Nat) , ∀ (x1 : Int32) (x2 : Int32) (ls : Array Slot), lv_has ls 3 [(0, .ref o), (1, .int x1), (2, .int x2)] → f_X3_allPassed_4 n nw x1 x2 = some out → W p l e (rM 2 43) s m ([.ref o] : List Value).toArray below meth c s.heap [] 0 0 (MQ below (gR (some (.int out)) True) ([.ref o] : List Value).toArray s 0 0 (fun _ => False)) (F0 m 4 ls []) := by
    intro n
    induction n with
    | zero =>
      intro x1 x2 ls hl hf
      exact absurd hf (by rw [f_X3_allPassed_4]; exact nofun)
    | succ n ih =>
      intro x1 x2 ls hl hf
      rw [f_X3_allPassed_4] at hf
      refine lv_iload_n hx hb dX3_allPassed_4 rfl (lv_at hl 2 rfl) ?_
      refine lv_aload_n hx hb dX3_allPassed_5 rfl (lv_at hl 0 rfl) ?_
      refine mg_1 S hC hK hP dX3_allPassed_6 ?_
      refine lv_sipush hx hb dX3_allPassed_9 kc_s231 ?_
      refine ma_1 S hC hK hP kv_231_390 kn_231 dX3_allPassed_12 ?_
      refine lv_icmp_ge (tgt := 32) hx hb dX3_allPassed_13 (by decide) (fun c1 => ?_) (fun c1 => ?_)
      · replace hf := it_t c1 hf
        refine lv_iload_n hx hb dX3_allPassed_32 rfl (lv_at hl 1 rfl) ?_
        have hE := Option.some.inj hf
        subst hE
        exact gt_ri S hr hlocks trivial dX3_allPassed_33
      · replace hf := it_f c1 hf
        refine lv_iload_n hx hb dX3_allPassed_16 rfl (lv_at hl 1 rfl) ?_
        refine lv_aload_n hx hb dX3_allPassed_17 rfl (lv_at hl 0 rfl) ?_
        refine lv_iload_n hx hb dX3_allPassed_18 rfl (lv_at hl 2 rfl) ?_
        refine lv_bipush hx hb dX3_allPassed_19 kc_b9 ?_
        obtain ⟨v2, hv2, hf⟩ := ob_s hf
        refine mc_X3_X3_of S hC hK hP hv2 hl.1 ⟨Nat.le_of_ble_eq_true rfl, Nat.le_of_ble_eq_true rfl⟩ (Nat.le_of_ble_eq_true rfl) ⟨Nat.zero_le _, Nat.zero_le _⟩ dX3_allPassed_21 (fun _ => ?_)
        refine lv_iadd hx hb dX3_allPassed_24 ?_
        refine lv_istore_n (i := 1) (lv' := [(1, .int (x1 + v2)), (0, .ref o), (2, .int x2)]) hx hb dX3_allPassed_25 rfl hl (by decide) rfl (fun ls hl => ?_)
        refine lv_iinc (v := (x2 + 1)) (lv' := [(2, .int (x2 + 1)), (1, .int (x1 + v2)), (0, .ref o)]) hx hb dX3_allPassed_26 hl (k := 2) rfl rfl (by decide) rfl (fun ls hl => ?_)
        refine lv_goto (tgt := 4) hx hb dX3_allPassed_29 (by decide) ?_
        exact (ih) (x1 + v2) (x2 + 1) ls (lv_sub (l' := [(0, .ref o), (1, .int (x1 + v2)), (2, .int (x2 + 1))]) hl [2, 1, 0] rfl) hf
  rw [f_X3_allPassed] at hf
  refine lv_iconst hx hb dX3_allPassed_0 kc_i0 ?_
  refine lv_istore_n (i := 1) (lv' := [(1, .int 0), (0, .ref o)]) hx hb dX3_allPassed_1 rfl hl (by decide) rfl (fun ls hl => ?_)
  refine lv_iconst hx hb dX3_allPassed_2 kc_i0 ?_
  refine lv_istore_n (i := 2) (lv' := [(2, .int 0), (1, .int 0), (0, .ref o)]) hx hb dX3_allPassed_3 rfl hl (by decide) rfl (fun ls hl => ?_)
  exact (w4 FU) 0 0 ls (lv_sub (l' := [(0, .ref o), (1, .int 0), (2, .int 0)]) hl [2, 1, 0] rfl) hf
set_option maxRecDepth 100000 in
theorem mc_X3_X3_allPassed  {out : Int32} (S : CallFix p m c cc nL s args lw_all RX3) (hC : mC cl tys mi cI cJ cB) (hK : va_K D cl tys s) (hP : va_P D cl (mW mi cI cJ cB o ad th tp st fk fp ac si fr tt kd nu fa pl fo wd ci gr lm om nw rd aa kp ta nm rn gv gt rw rh lg lh ou) H) (hf : f_X3_allPassed nw = some out) (hsz : ls.size = nL) (hR : 2 + 1 ≤ R.frames ∧ 8 + (3 + 11) + 43 ≤ R.locals) (hW : (rest.map fun v => v.category).sum ≤ 8) (hcs : cells ≤ R.cells ∧ slots ≤ R.slots) (hdg : decode cc pc = .ok (.invokevirtual 322, 3)) (kk : True → W p l e R s m args below meth c H locs cells slots Q (F0 m (pc + 3) ls (.int out :: rest))) : W p l e R s m args below meth c H locs cells slots Q (F0 m pc ls (.ref o :: rest)) :=
  gc_Vr (As := []) S (mm_X3_allPassed hC hf) (cwV 0 S.2.2.2.2 (lw_V q2383 q2385 qs138 q189 q2386) rfl rfl rfl hd_X3_allPassed hR) (gPreV hK hP hC.1 (q0 := 0) rfl) rfl hsz rfl hW hdg hcs kk
theorem hd_X3_greatestChain : yX3_greatestChain.cls = RX3 ∧ yX3_greatestChain.cls ≠ "java/lang/invoke/MethodHandle" ∧ yX3_greatestChain.cls ≠ "java/lang/invoke/VarHandle" ∧ (parseMethodDescriptor yX3_greatestChain.desc).map (fun d => d.parameters.length) = some 0 := by decide +kernel
set_option maxHeartbeats 4000000 in
set_option maxRecDepth 100000 in
theorem mm_X3_greatestChain  {out : Int32} (hC : mC cl tys mi cI cJ cB) (hf : f_X3_greatestChain nw = some out) : Met l yX3_greatestChain (ws_ yX3_greatestChain cX3_greatestChain 3 (some .int)) (rM 1 22) (gPc D cl tys [.ref o] (mW mi cI cJ cB o ad th tp st fk fp ac si fr tt kd nu fa pl fo wd ci gr lm om nw rd aa kp ta nm rn gv gt rw rh lg lh ou)) (gR (some (.int out)) True) 0 0 (fun _ => False) := by
  refine gGo (by decide +kernel) (Nat.le_of_ble_eq_true rfl) (fun p e s m below meth c ls S hr hlocks hK hP hl => ?_)
  have S : CallFix p m c cX3_greatestChain 3 s _ lw_all RX3 := S
  obtain ⟨hx, hb, hml, hown, hts⟩ := id S
  have hl : lv_has ls 3 [(0, .ref o)] := hl
  have w4 : ∀ (n : Nat) , ∀ (x1 : Int32) (x2 : Int32) (ls : Array Slot), lv_has ls 3 [(0, .ref o), (1, .int x1), (2, .int x2)] → f_X3_greatestChain_4 n nw x1 x2 = some out → W p l e (rM 1 22) s m ([.ref o] : List Value).toArray below meth c s.heap [] 0 0 (MQ below (gR (some (.int out)) True) ([.ref o] : List Value).toArray s 0 0 (fun _ => False)) (F0 m 4 ls []) := by
    intro n
    induction n with
    | zero =>
      intro x1 x2 ls hl hf
      exact absurd hf (by rw [f_X3_greatestChain_4]; exact nofun)
    | succ n ih =>
      intro x1 x2 ls hl hf
      rw [f_X3_greatestChain_4] at hf
      refine lv_iload_n hx hb dX3_greatestChain_4 rfl (lv_at hl 2 rfl) ?_
      refine lv_aload_n hx hb dX3_greatestChain_5 rfl (lv_at hl 0 rfl) ?_
      refine mg_1 S hC hK hP dX3_greatestChain_6 ?_
      refine lv_sipush hx hb dX3_greatestChain_9 kc_s233 ?_
      refine ma_1 S hC hK hP kv_233_390 kn_233 dX3_greatestChain_12 ?_
      refine lv_icmp_ge (tgt := 33) hx hb dX3_greatestChain_13 (by decide) (fun c1 => ?_) (fun c1 => ?_)
      · replace hf := it_t c1 hf
        refine lv_iload_n hx hb dX3_greatestChain_33 rfl (lv_at hl 1 rfl) ?_
        have hE := Option.some.inj hf
        subst hE
        exact gt_ri S hr hlocks trivial dX3_greatestChain_34
      · replace hf := it_f c1 hf
        refine lv_iload_n hx hb dX3_greatestChain_16 rfl (lv_at hl 1 rfl) ?_
        refine lv_aload_n hx hb dX3_greatestChain_17 rfl (lv_at hl 0 rfl) ?_
        refine lv_iload_n hx hb dX3_greatestChain_18 rfl (lv_at hl 2 rfl) ?_
        refine lv_iconst hx hb dX3_greatestChain_19 kc_i3 ?_
        obtain ⟨v2, hv2, hf⟩ := ob_s hf
        refine mc_X3_X3_let0 S hC hK hP hv2 hl.1 ⟨Nat.le_of_ble_eq_true rfl, Nat.le_of_ble_eq_true rfl⟩ (Nat.le_of_ble_eq_true rfl) ⟨Nat.zero_le _, Nat.zero_le _⟩ dX3_greatestChain_20 (fun _ => ?_)
        obtain ⟨v3, hv3, hf⟩ := ob_s hf
        refine mc_X3_J6_max S hK hv3 hl.1 ⟨Nat.le_of_ble_eq_true rfl, Nat.le_of_ble_eq_true rfl⟩ (Nat.le_of_ble_eq_true rfl) ⟨Nat.zero_le _, Nat.zero_le _⟩ dX3_greatestChain_23 (fun _ => ?_)
        refine lv_istore_n (i := 1) (lv' := [(1, .int v3), (0, .ref o), (2, .int x2)]) hx hb dX3_greatestChain_26 rfl hl (by decide) rfl (fun ls hl => ?_)
        refine lv_iinc (v := (x2 + 1)) (lv' := [(2, .int (x2 + 1)), (1, .int v3), (0, .ref o)]) hx hb dX3_greatestChain_27 hl (k := 2) rfl rfl (by decide) rfl (fun ls hl => ?_)
        refine lv_goto (tgt := 4) hx hb dX3_greatestChain_30 (by decide) ?_
        exact (ih) v3 (x2 + 1) ls (lv_sub (l' := [(0, .ref o), (1, .int v3), (2, .int (x2 + 1))]) hl [2, 1, 0] rfl) hf
  rw [f_X3_greatestChain] at hf
  refine lv_iconst hx hb dX3_greatestChain_0 kc_i0 ?_
  refine lv_istore_n (i := 1) (lv' := [(1, .int 0), (0, .ref o)]) hx hb dX3_greatestChain_1 rfl hl (by decide) rfl (fun ls hl => ?_)
  refine lv_iconst hx hb dX3_greatestChain_2 kc_i0 ?_
  refine lv_istore_n (i := 2) (lv' := [(2, .int 0), (1, .int 0), (0, .ref o)]) hx hb dX3_greatestChain_3 rfl hl (by decide) rfl (fun ls hl => ?_)
  exact (w4 FU) 0 0 ls (lv_sub (l' := [(0, .ref o), (1, .int 0), (2, .int 0)]) hl [2, 1, 0] rfl) hf
set_option maxRecDepth 100000 in
theorem mc_X3_X3_greatestChain  {out : Int32} (S : CallFix p m c cc nL s args lw_all RX3) (hC : mC cl tys mi cI cJ cB) (hK : va_K D cl tys s) (hP : va_P D cl (mW mi cI cJ cB o ad th tp st fk fp ac si fr tt kd nu fa pl fo wd ci gr lm om nw rd aa kp ta nm rn gv gt rw rh lg lh ou) H) (hf : f_X3_greatestChain nw = some out) (hsz : ls.size = nL) (hR : 1 + 1 ≤ R.frames ∧ 8 + (3 + 11) + 22 ≤ R.locals) (hW : (rest.map fun v => v.category).sum ≤ 8) (hcs : cells ≤ R.cells ∧ slots ≤ R.slots) (hdg : decode cc pc = .ok (.invokevirtual 319, 3)) (kk : True → W p l e R s m args below meth c H locs cells slots Q (F0 m (pc + 3) ls (.int out :: rest))) : W p l e R s m args below meth c H locs cells slots Q (F0 m pc ls (.ref o :: rest)) :=
  gc_Vr (As := []) S (mm_X3_greatestChain hC hf) (cwV 0 S.2.2.2.2 (lw_V q2379 q2381 qs137 q189 q2382) rfl rfl rfl hd_X3_greatestChain hR) (gPreV hK hP hC.1 (q0 := 0) rfl) rfl hsz rfl hW hdg hcs kk
theorem hd_X3_tally : yX3_tally.cls = RX3 ∧ yX3_tally.cls ≠ "java/lang/invoke/MethodHandle" ∧ yX3_tally.cls ≠ "java/lang/invoke/VarHandle" ∧ (parseMethodDescriptor yX3_tally.desc).map (fun d => d.parameters.length) = some 1 := by decide +kernel
set_option maxHeartbeats 4000000 in
set_option maxRecDepth 100000 in
theorem mm_X3_tally {a0 : Int32} {out : Int32 × Int32 × Int32} (hC : mC cl tys mi cI cJ cB) (hD : mD o ad) (hf : f_X3_tally nw th st a0 = some out) : Met l yX3_tally (ws_ yX3_tally cX3_tally 4 (some .int)) (rM 3 65) (gPc D cl tys [.ref o, .int a0] (mW mi cI cJ cB o ad th tp st fk fp ac si fr tt kd nu fa pl fo wd ci gr lm om nw rd aa kp ta nm rn gv gt rw rh lg lh ou)) (gQ D cl (some (.int out.1)) True (mW mi cI cJ cB o ad out.2.1 tp out.2.2 fk fp ac si fr tt kd nu fa pl fo wd ci gr lm om nw rd aa kp ta nm rn gv gt rw rh lg lh ou) (mA o ad)) 0 0 (mA o ad) := by
  refine gGo (by decide +kernel) (Nat.le_of_ble_eq_true rfl) (fun p e s m below meth c ls S hr hlocks hK hP hl => ?_)
  have S : CallFix p m c cX3_tally 4 s _ lw_all RX3 := S
  obtain ⟨hx, hb, hml, hown, hts⟩ := id S
  have hl : lv_has ls 4 [(0, .ref o), (1, .int a0)] := hl
  have w60 : ∀ (n : Nat) , ∀ (x1 : Int32) (x2 : Int32) (x3 : Int32) (th : Int32) (st : Int32) (ls : Array Slot) (H : Heap) (locs : List Loc), va_P D cl (mW mi cI cJ cB o ad th tp st fk fp ac si fr tt kd nu fa pl fo wd ci gr lm om nw rd aa kp ta nm rn gv gt rw rh lg lh ou) H → va_S (mA o ad) s.heap H locs → lv_has ls 4 [(0, .ref o), (1, .int x1), (2, .int x2), (3, .int x3)] → f_X3_tally_60 n nw x1 x2 x3 th st = some out → W p l e (rM 3 65) s m ([.ref o, .int a0] : List Value).toArray below meth c H locs 0 0 (MQ below (gQ D cl (some (.int out.1)) True (mW mi cI cJ cB o ad out.2.1 tp out.2.2 fk fp ac si fr tt kd nu fa pl fo wd ci gr lm om nw rd aa kp ta nm rn gv gt rw rh lg lh ou) (mA o ad)) ([.ref o, .int a0] : List Value).toArray s 0 0 (mA o ad)) (F0 m 60 ls []) := by
    intro n
    induction n with
    | zero =>
      intro x1 x2 x3 th st ls H locs hP hS hl hf
      exact absurd hf (by rw [f_X3_tally_60]; exact nofun)
    | succ n ih =>
      intro x1 x2 x3 th st ls H locs hP hS hl hf
      rw [f_X3_tally_60] at hf
      refine lv_iload_n hx hb dX3_tally_60 rfl (lv_at hl 3 rfl) ?_
      refine lv_aload_n hx hb dX3_tally_61 rfl (lv_at hl 0 rfl) ?_
      refine mg_1 S hC hK hP dX3_tally_62 ?_
      refine lv_sipush hx hb dX3_tally_65 kc_s233 ?_
      refine ma_1 S hC hK hP kv_233_390 kn_233 dX3_tally_68 ?_
      refine lv_icmp_ge (tgt := 129) hx hb dX3_tally_69 (by decide) (fun c1 => ?_) (fun c1 => ?_)
      · replace hf := it_t c1 hf
        refine lv_aload_n hx hb dX3_tally_129 rfl (lv_at hl 0 rfl) ?_
        refine lv_iload_n hx hb dX3_tally_130 rfl (lv_at hl 2 rfl) ?_
        obtain ⟨v2, hv2, hf⟩ := ob_s hf
        refine mc_X3_X3_gives S hC hD hK hP hS hv2 hl.1 ⟨Nat.le_of_ble_eq_true rfl, Nat.le_of_ble_eq_true rfl⟩ (Nat.le_of_ble_eq_true rfl) ⟨Nat.zero_le _, Nat.zero_le _⟩ dX3_tally_131 (fun H locs _ hP hS => ?_)
        have hE := Option.some.inj hf
        subst hE
        exact gt_wi S hr hlocks trivial hP hS dX3_tally_134
      · replace hf := it_f c1 hf
        refine lv_iload_n hx hb dX3_tally_72 rfl (lv_at hl 2 rfl) ?_
        refine lv_iload_n hx hb dX3_tally_73 rfl (lv_at hl 1 rfl) ?_
        refine lv_iconst hx hb dX3_tally_74 kc_i1 ?_
        refine lv_icmp_ne (tgt := 91) hx hb dX3_tally_75 (by decide) (fun c3 => ?_) (fun c3 => ?_)
        · replace hf := it_f c3 hf
          refine lv_aload_n hx hb dX3_tally_91 rfl (lv_at hl 0 rfl) ?_
          refine lv_aload_n hx hb dX3_tally_92 rfl (lv_at hl 0 rfl) ?_
          refine lv_iload_n hx hb dX3_tally_93 rfl (lv_at hl 3 rfl) ?_
          refine lv_iconst hx hb dX3_tally_94 kc_i0 ?_
          obtain ⟨v4, hv4, hf⟩ := ob_s hf
          refine mc_X3_X3_let0 S hC hK hP hv4 hl.1 ⟨Nat.le_of_ble_eq_true rfl, Nat.le_of_ble_eq_true rfl⟩ (Nat.le_of_ble_eq_true rfl) ⟨Nat.zero_le _, Nat.zero_le _⟩ dX3_tally_95 (fun _ => ?_)
          refine lv_iconst hx hb dX3_tally_98 kc_i2 ?_
          obtain ⟨v5, hv5, hf⟩ := ob_s hf
          refine mc_X3_X3_of S hC hK hP hv5 hl.1 ⟨Nat.le_of_ble_eq_true rfl, Nat.le_of_ble_eq_true rfl⟩ (Nat.le_of_ble_eq_true rfl) ⟨Nat.zero_le _, Nat.zero_le _⟩ dX3_tally_99 (fun _ => ?_)
          refine lv_aload_n hx hb dX3_tally_102 rfl (lv_at hl 0 rfl) ?_
          refine lv_aload_n hx hb dX3_tally_103 rfl (lv_at hl 0 rfl) ?_
          refine lv_iload_n hx hb dX3_tally_104 rfl (lv_at hl 3 rfl) ?_
          refine lv_iconst hx hb dX3_tally_105 kc_i1 ?_
          obtain ⟨v6, hv6, hf⟩ := ob_s hf
          refine mc_X3_X3_let0 S hC hK hP hv6 hl.1 ⟨Nat.le_of_ble_eq_true rfl, Nat.le_of_ble_eq_true rfl⟩ (Nat.le_of_ble_eq_true rfl) ⟨Nat.zero_le _, Nat.zero_le _⟩ dX3_tally_106 (fun _ => ?_)
          refine lv_iconst hx hb dX3_tally_109 kc_i1 ?_
          obtain ⟨v7, hv7, hf⟩ := ob_s hf
          refine mc_X3_X3_home0 S hC hK hP hv7 hl.1 ⟨Nat.le_of_ble_eq_true rfl, Nat.le_of_ble_eq_true rfl⟩ (Nat.le_of_ble_eq_true rfl) ⟨Nat.zero_le _, Nat.zero_le _⟩ dX3_tally_110 (fun _ => ?_)
          refine lv_icmp_ne (tgt := 120) hx hb dX3_tally_113 (by decide) (fun c8 => ?_) (fun c8 => ?_)
          · replace hf := it_f c8 hf
            refine lv_iconst hx hb dX3_tally_120 kc_i0 ?_
            refine lv_iadd hx hb dX3_tally_121 ?_
            refine lv_istore_n (i := 2) (lv' := [(2, .int (x2 + 0)), (0, .ref o), (1, .int x1), (3, .int x3)]) hx hb dX3_tally_122 rfl hl (by decide) rfl (fun ls hl => ?_)
            refine lv_iinc (v := (x3 + 1)) (lv' := [(3, .int (x3 + 1)), (2, .int (x2 + 0)), (0, .ref o), (1, .int x1)]) hx hb dX3_tally_123 hl (k := 3) rfl rfl (by decide) rfl (fun ls hl => ?_)
            refine lv_goto (tgt := 60) hx hb dX3_tally_126 (by decide) ?_
            exact (ih) x1 (x2 + 0) (x3 + 1) th st ls H locs hP hS (lv_sub (l' := [(0, .ref o), (1, .int x1), (2, .int (x2 + 0)), (3, .int (x3 + 1))]) hl [2, 3, 1, 0] rfl) hf
          · replace hf := it_t c8 hf
            refine lv_iconst hx hb dX3_tally_116 kc_i1 ?_
            refine lv_goto (tgt := 121) hx hb dX3_tally_117 (by decide) ?_
            refine lv_iadd hx hb dX3_tally_121 ?_
            refine lv_istore_n (i := 2) (lv' := [(2, .int (x2 + 1)), (0, .ref o), (1, .int x1), (3, .int x3)]) hx hb dX3_tally_122 rfl hl (by decide) rfl (fun ls hl => ?_)
            refine lv_iinc (v := (x3 + 1)) (lv' := [(3, .int (x3 + 1)), (2, .int (x2 + 1)), (0, .ref o), (1, .int x1)]) hx hb dX3_tally_123 hl (k := 3) rfl rfl (by decide) rfl (fun ls hl => ?_)
            refine lv_goto (tgt := 60) hx hb dX3_tally_126 (by decide) ?_
            exact (ih) x1 (x2 + 1) (x3 + 1) th st ls H locs hP hS (lv_sub (l' := [(0, .ref o), (1, .int x1), (2, .int (x2 + 1)), (3, .int (x3 + 1))]) hl [2, 3, 1, 0] rfl) hf
        · replace hf := it_t c3 hf
          refine lv_aload_n hx hb dX3_tally_78 rfl (lv_at hl 0 rfl) ?_
          refine lv_iload_n hx hb dX3_tally_79 rfl (lv_at hl 3 rfl) ?_
          refine lv_iconst hx hb dX3_tally_80 kc_i3 ?_
          obtain ⟨v9, hv9, hf⟩ := ob_s hf
          refine mc_X3_X3_let0 S hC hK hP hv9 hl.1 ⟨Nat.le_of_ble_eq_true rfl, Nat.le_of_ble_eq_true rfl⟩ (Nat.le_of_ble_eq_true rfl) ⟨Nat.zero_le _, Nat.zero_le _⟩ dX3_tally_81 (fun _ => ?_)
          refine lv_iconst hx hb dX3_tally_84 kc_i1 ?_
          refine lv_icmp_ne (tgt := 120) hx hb dX3_tally_85 (by decide) (fun c10 => ?_) (fun c10 => ?_)
          · replace hf := it_f c10 hf
            refine lv_iconst hx hb dX3_tally_120 kc_i0 ?_
            refine lv_iadd hx hb dX3_tally_121 ?_
            refine lv_istore_n (i := 2) (lv' := [(2, .int (x2 + 0)), (0, .ref o), (1, .int x1), (3, .int x3)]) hx hb dX3_tally_122 rfl hl (by decide) rfl (fun ls hl => ?_)
            refine lv_iinc (v := (x3 + 1)) (lv' := [(3, .int (x3 + 1)), (2, .int (x2 + 0)), (0, .ref o), (1, .int x1)]) hx hb dX3_tally_123 hl (k := 3) rfl rfl (by decide) rfl (fun ls hl => ?_)
            refine lv_goto (tgt := 60) hx hb dX3_tally_126 (by decide) ?_
            exact (ih) x1 (x2 + 0) (x3 + 1) th st ls H locs hP hS (lv_sub (l' := [(0, .ref o), (1, .int x1), (2, .int (x2 + 0)), (3, .int (x3 + 1))]) hl [2, 3, 1, 0] rfl) hf
          · replace hf := it_t c10 hf
            refine lv_goto (tgt := 116) hx hb dX3_tally_88 (by decide) ?_
            refine lv_iconst hx hb dX3_tally_116 kc_i1 ?_
            refine lv_goto (tgt := 121) hx hb dX3_tally_117 (by decide) ?_
            refine lv_iadd hx hb dX3_tally_121 ?_
            refine lv_istore_n (i := 2) (lv' := [(2, .int (x2 + 1)), (0, .ref o), (1, .int x1), (3, .int x3)]) hx hb dX3_tally_122 rfl hl (by decide) rfl (fun ls hl => ?_)
            refine lv_iinc (v := (x3 + 1)) (lv' := [(3, .int (x3 + 1)), (2, .int (x2 + 1)), (0, .ref o), (1, .int x1)]) hx hb dX3_tally_123 hl (k := 3) rfl rfl (by decide) rfl (fun ls hl => ?_)
            refine lv_goto (tgt := 60) hx hb dX3_tally_126 (by decide) ?_
            exact (ih) x1 (x2 + 1) (x3 + 1) th st ls H locs hP hS (lv_sub (l' := [(0, .ref o), (1, .int x1), (2, .int (x2 + 1)), (3, .int (x3 + 1))]) hl [2, 3, 1, 0] rfl) hf
  suffices hg : ∀ (H : Heap) (locs : List Loc), va_P D cl (mW mi cI cJ cB o ad th tp st fk fp ac si fr tt kd nu fa pl fo wd ci gr lm om nw rd aa kp ta nm rn gv gt rw rh lg lh ou) H → va_S (mA o ad) s.heap H locs → W p l e (rM 3 65) s m ([.ref o, .int a0] : List Value).toArray below meth c H locs 0 0 (MQ below (gQ D cl (some (.int out.1)) True (mW mi cI cJ cB o ad out.2.1 tp out.2.2 fk fp ac si fr tt kd nu fa pl fo wd ci gr lm om nw rd aa kp ta nm rn gv gt rw rh lg lh ou) (mA o ad)) ([.ref o, .int a0] : List Value).toArray s 0 0 (mA o ad)) (F0 m 0 ls []) from hg s.heap [] hP va_S.rf
  clear hP
  intro H locs hP hS
  rw [f_X3_tally] at hf
  refine lv_iload_n hx hb dX3_tally_0 rfl (lv_at hl 1 rfl) ?_
  refine lv_iconst hx hb dX3_tally_1 kc_i0 ?_
  refine lv_iconst hx hb dX3_tally_2 kc_i4 ?_
  obtain ⟨v1, hv1, hf⟩ := ob_s hf
  refine mc_X3_X3_isFrom S hK hv1 hl.1 ⟨Nat.le_of_ble_eq_true rfl, Nat.le_of_ble_eq_true rfl⟩ (Nat.le_of_ble_eq_true rfl) ⟨Nat.zero_le _, Nat.zero_le _⟩ dX3_tally_3 (fun hnv1 => ?_)
  refine lv_if_ne (tgt := 15) hx hb dX3_tally_6 (by decide) (fun c2 => ?_) (fun c2 => ?_)
  · replace hf := it_f c2 hf
    refine lv_iload_n hx hb dX3_tally_15 rfl (lv_at hl 1 rfl) ?_
    refine lv_if_ne (tgt := 28) hx hb dX3_tally_16 (by decide) (fun c3 => ?_) (fun c3 => ?_)
    · replace hf := it_f c3 hf
      refine lv_iload_n hx hb dX3_tally_28 rfl (lv_at hl 1 rfl) ?_
      refine lv_iconst hx hb dX3_tally_29 kc_i2 ?_
      refine lv_icmp_ne (tgt := 42) hx hb dX3_tally_30 (by decide) (fun c4 => ?_) (fun c4 => ?_)
      · replace hf := it_f c4 hf
        refine lv_iload_n hx hb dX3_tally_42 rfl (lv_at hl 1 rfl) ?_
        refine lv_iconst hx hb dX3_tally_43 kc_i4 ?_
        refine lv_icmp_ne (tgt := 56) hx hb dX3_tally_44 (by decide) (fun c5 => ?_) (fun c5 => ?_)
        · replace hf := it_f c5 hf
          refine lv_iconst hx hb dX3_tally_56 kc_i0 ?_
          refine lv_istore_n (i := 2) (lv' := [(2, .int 0), (0, .ref o), (1, .int a0)]) hx hb dX3_tally_57 rfl hl (by decide) rfl (fun ls hl => ?_)
          refine lv_iconst hx hb dX3_tally_58 kc_i0 ?_
          refine lv_istore_n (i := 3) (lv' := [(3, .int 0), (2, .int 0), (0, .ref o), (1, .int a0)]) hx hb dX3_tally_59 rfl hl (by decide) rfl (fun ls hl => ?_)
          exact (w60 FU) a0 0 0 th st ls H locs hP hS (lv_sub (l' := [(0, .ref o), (1, .int a0), (2, .int 0), (3, .int 0)]) hl [2, 3, 1, 0] rfl) hf
        · replace hf := it_t c5 hf
          refine lv_aload_n hx hb dX3_tally_47 rfl (lv_at hl 0 rfl) ?_
          refine lv_aload_n hx hb dX3_tally_48 rfl (lv_at hl 0 rfl) ?_
          obtain ⟨v6, hv6, hf⟩ := ob_s hf
          refine mc_X3_X3_allPassed S hC hK hP hv6 hl.1 ⟨Nat.le_of_ble_eq_true rfl, Nat.le_of_ble_eq_true rfl⟩ (Nat.le_of_ble_eq_true rfl) ⟨Nat.zero_le _, Nat.zero_le _⟩ dX3_tally_49 (fun _ => ?_)
          obtain ⟨v7, hv7, hf⟩ := ob_s hf
          refine mc_X3_X3_gives S hC hD hK hP hS hv7 hl.1 ⟨Nat.le_of_ble_eq_true rfl, Nat.le_of_ble_eq_true rfl⟩ (Nat.le_of_ble_eq_true rfl) ⟨Nat.zero_le _, Nat.zero_le _⟩ dX3_tally_52 (fun H locs _ hP hS => ?_)
          have hE := Option.some.inj hf
          subst hE
          exact gt_wi S hr hlocks trivial hP hS dX3_tally_55
      · replace hf := it_t c4 hf
        refine lv_aload_n hx hb dX3_tally_33 rfl (lv_at hl 0 rfl) ?_
        refine lv_aload_n hx hb dX3_tally_34 rfl (lv_at hl 0 rfl) ?_
        obtain ⟨v8, hv8, hf⟩ := ob_s hf
        refine mc_X3_X3_livedLets S hC hK hP hv8 hl.1 ⟨Nat.le_of_ble_eq_true rfl, Nat.le_of_ble_eq_true rfl⟩ (Nat.le_of_ble_eq_true rfl) ⟨Nat.zero_le _, Nat.zero_le _⟩ dX3_tally_35 (fun _ => ?_)
        obtain ⟨v9, hv9, hf⟩ := ob_s hf
        refine mc_X3_X3_gives S hC hD hK hP hS hv9 hl.1 ⟨Nat.le_of_ble_eq_true rfl, Nat.le_of_ble_eq_true rfl⟩ (Nat.le_of_ble_eq_true rfl) ⟨Nat.zero_le _, Nat.zero_le _⟩ dX3_tally_38 (fun H locs _ hP hS => ?_)
        have hE := Option.some.inj hf
        subst hE
        exact gt_wi S hr hlocks trivial hP hS dX3_tally_41
    · replace hf := it_t c3 hf
      refine lv_aload_n hx hb dX3_tally_19 rfl (lv_at hl 0 rfl) ?_
      refine lv_aload_n hx hb dX3_tally_20 rfl (lv_at hl 0 rfl) ?_
      obtain ⟨v10, hv10, hf⟩ := ob_s hf
      refine mc_X3_X3_greatestChain S hC hK hP hv10 hl.1 ⟨Nat.le_of_ble_eq_true rfl, Nat.le_of_ble_eq_true rfl⟩ (Nat.le_of_ble_eq_true rfl) ⟨Nat.zero_le _, Nat.zero_le _⟩ dX3_tally_21 (fun _ => ?_)
      obtain ⟨v11, hv11, hf⟩ := ob_s hf
      refine mc_X3_X3_gives S hC hD hK hP hS hv11 hl.1 ⟨Nat.le_of_ble_eq_true rfl, Nat.le_of_ble_eq_true rfl⟩ (Nat.le_of_ble_eq_true rfl) ⟨Nat.zero_le _, Nat.zero_le _⟩ dX3_tally_24 (fun H locs _ hP hS => ?_)
      have hE := Option.some.inj hf
      subst hE
      exact gt_wi S hr hlocks trivial hP hS dX3_tally_27
  · replace hf := it_t c2 hf
    refine lv_aload_n hx hb dX3_tally_9 rfl (lv_at hl 0 rfl) ?_
    refine lv_iconst hx hb dX3_tally_10 kc_i1 ?_
    obtain ⟨v12, hv12, hf⟩ := ob_s hf
    refine mc_X3_X3_refuse S hC hD hK hP hS hv12 hl.1 ⟨Nat.le_of_ble_eq_true rfl, Nat.le_of_ble_eq_true rfl⟩ (Nat.le_of_ble_eq_true rfl) ⟨Nat.zero_le _, Nat.zero_le _⟩ dX3_tally_11 (fun H locs _ hP hS => ?_)
    have hE := Option.some.inj hf
    subst hE
    exact gt_wi S hr hlocks trivial hP hS dX3_tally_14
theorem hd_X3_lack : yX3_lack.cls = RX3 ∧ yX3_lack.cls ≠ "java/lang/invoke/MethodHandle" ∧ yX3_lack.cls ≠ "java/lang/invoke/VarHandle" ∧ (parseMethodDescriptor yX3_lack.desc).map (fun d => d.parameters.length) = some 1 := by decide +kernel
set_option maxHeartbeats 4000000 in
set_option maxRecDepth 100000 in
theorem mm_X3_lack {a0 : Int32} {out : Int32 × Int32 × Int32} (hC : mC cl tys mi cI cJ cB) (hD : mD o ad) (hf : f_X3_lack nw th st a0 = some out) : Met l yX3_lack (ws_ yX3_lack cX3_lack 4 (some .int)) (rM 3 64) (gPc D cl tys [.ref o, .int a0] (mW mi cI cJ cB o ad th tp st fk fp ac si fr tt kd nu fa pl fo wd ci gr lm om nw rd aa kp ta nm rn gv gt rw rh lg lh ou)) (gQ D cl (some (.int out.1)) True (mW mi cI cJ cB o ad out.2.1 tp out.2.2 fk fp ac si fr tt kd nu fa pl fo wd ci gr lm om nw rd aa kp ta nm rn gv gt rw rh lg lh ou) (mA o ad)) 0 0 (mA o ad) := by
  refine gGo (by decide +kernel) (Nat.le_of_ble_eq_true rfl) (fun p e s m below meth c ls S hr hlocks hK hP hl => ?_)
  have S : CallFix p m c cX3_lack 4 s _ lw_all RX3 := S
  obtain ⟨hx, hb, hml, hown, hts⟩ := id S
  have hl : lv_has ls 4 [(0, .ref o), (1, .int a0)] := hl
  have w65 : ∀ (n : Nat) , ∀ (x1 : Int32) (x2 : Int32) (x3 : Int32) (th : Int32) (st : Int32) (ls : Array Slot) (H : Heap) (locs : List Loc), va_P D cl (mW mi cI cJ cB o ad th tp st fk fp ac si fr tt kd nu fa pl fo wd ci gr lm om nw rd aa kp ta nm rn gv gt rw rh lg lh ou) H → va_S (mA o ad) s.heap H locs → lv_has ls 4 [(0, .ref o), (1, .int x1), (2, .int x2), (3, .int x3)] → f_X3_lack_65 n nw x1 x2 x3 th st = some out → W p l e (rM 3 64) s m ([.ref o, .int a0] : List Value).toArray below meth c H locs 0 0 (MQ below (gQ D cl (some (.int out.1)) True (mW mi cI cJ cB o ad out.2.1 tp out.2.2 fk fp ac si fr tt kd nu fa pl fo wd ci gr lm om nw rd aa kp ta nm rn gv gt rw rh lg lh ou) (mA o ad)) ([.ref o, .int a0] : List Value).toArray s 0 0 (mA o ad)) (F0 m 65 ls []) := by
    intro n
    induction n with
    | zero =>
      intro x1 x2 x3 th st ls H locs hP hS hl hf
      exact absurd hf (by rw [f_X3_lack_65]; exact nofun)
    | succ n ih =>
      intro x1 x2 x3 th st ls H locs hP hS hl hf
      rw [f_X3_lack_65] at hf
      refine lv_iload_n hx hb dX3_lack_65 rfl (lv_at hl 3 rfl) ?_
      refine lv_aload_n hx hb dX3_lack_66 rfl (lv_at hl 0 rfl) ?_
      refine mg_1 S hC hK hP dX3_lack_67 ?_
      refine lv_sipush hx hb dX3_lack_70 kc_s230 ?_
      refine ma_1 S hC hK hP kv_230_390 kn_230 dX3_lack_73 ?_
      refine lv_icmp_ge (tgt := 109) hx hb dX3_lack_74 (by decide) (fun c1 => ?_) (fun c1 => ?_)
      · replace hf := it_t c1 hf
        refine lv_aload_n hx hb dX3_lack_109 rfl (lv_at hl 0 rfl) ?_
        refine lv_iload_n hx hb dX3_lack_110 rfl (lv_at hl 2 rfl) ?_
        obtain ⟨v2, hv2, hf⟩ := ob_s hf
        refine mc_X3_X3_gives S hC hD hK hP hS hv2 hl.1 ⟨Nat.le_of_ble_eq_true rfl, Nat.le_of_ble_eq_true rfl⟩ (Nat.le_of_ble_eq_true rfl) ⟨Nat.zero_le _, Nat.zero_le _⟩ dX3_lack_111 (fun H locs _ hP hS => ?_)
        have hE := Option.some.inj hf
        subst hE
        exact gt_wi S hr hlocks trivial hP hS dX3_lack_114
      · replace hf := it_f c1 hf
        refine lv_iload_n hx hb dX3_lack_77 rfl (lv_at hl 2 rfl) ?_
        refine lv_aload_n hx hb dX3_lack_78 rfl (lv_at hl 0 rfl) ?_
        refine lv_iload_n hx hb dX3_lack_79 rfl (lv_at hl 3 rfl) ?_
        obtain ⟨v3, hv3, hf⟩ := ob_s hf
        refine mc_X3_X3_isFree S hC hK hP hv3 hl.1 ⟨Nat.le_of_ble_eq_true rfl, Nat.le_of_ble_eq_true rfl⟩ (Nat.le_of_ble_eq_true rfl) ⟨Nat.zero_le _, Nat.zero_le _⟩ dX3_lack_80 (fun hnv3 => ?_)
        refine lv_if_eq (tgt := 100) hx hb dX3_lack_83 (by decide) (fun c4 => ?_) (fun c4 => ?_)
        · replace hf := it_t c4 hf
          refine lv_iconst hx hb dX3_lack_100 kc_i0 ?_
          refine lv_isub hx hb dX3_lack_101 ?_
          refine lv_istore_n (i := 2) (lv' := [(2, .int (x2 - 0)), (0, .ref o), (1, .int x1), (3, .int x3)]) hx hb dX3_lack_102 rfl hl (by decide) rfl (fun ls hl => ?_)
          refine lv_iinc (v := (x3 + 1)) (lv' := [(3, .int (x3 + 1)), (2, .int (x2 - 0)), (0, .ref o), (1, .int x1)]) hx hb dX3_lack_103 hl (k := 3) rfl rfl (by decide) rfl (fun ls hl => ?_)
          refine lv_goto (tgt := 65) hx hb dX3_lack_106 (by decide) ?_
          exact (ih) x1 (x2 - 0) (x3 + 1) th st ls H locs hP hS (lv_sub (l' := [(0, .ref o), (1, .int x1), (2, .int (x2 - 0)), (3, .int (x3 + 1))]) hl [2, 3, 1, 0] rfl) hf
        · replace hf := it_f c4 hf
          refine lv_aload_n hx hb dX3_lack_86 rfl (lv_at hl 0 rfl) ?_
          refine lv_iload_n hx hb dX3_lack_87 rfl (lv_at hl 3 rfl) ?_
          refine lv_iconst hx hb dX3_lack_88 kc_i0 ?_
          obtain ⟨v5, hv5, hf⟩ := ob_s hf
          refine mc_X3_X3_home0 S hC hK hP hv5 hl.1 ⟨Nat.le_of_ble_eq_true rfl, Nat.le_of_ble_eq_true rfl⟩ (Nat.le_of_ble_eq_true rfl) ⟨Nat.zero_le _, Nat.zero_le _⟩ dX3_lack_89 (fun _ => ?_)
          refine lv_iload_n hx hb dX3_lack_92 rfl (lv_at hl 1 rfl) ?_
          refine lv_icmp_ne (tgt := 100) hx hb dX3_lack_93 (by decide) (fun c6 => ?_) (fun c6 => ?_)
          · replace hf := it_f c6 hf
            refine lv_iconst hx hb dX3_lack_100 kc_i0 ?_
            refine lv_isub hx hb dX3_lack_101 ?_
            refine lv_istore_n (i := 2) (lv' := [(2, .int (x2 - 0)), (0, .ref o), (1, .int x1), (3, .int x3)]) hx hb dX3_lack_102 rfl hl (by decide) rfl (fun ls hl => ?_)
            refine lv_iinc (v := (x3 + 1)) (lv' := [(3, .int (x3 + 1)), (2, .int (x2 - 0)), (0, .ref o), (1, .int x1)]) hx hb dX3_lack_103 hl (k := 3) rfl rfl (by decide) rfl (fun ls hl => ?_)
            refine lv_goto (tgt := 65) hx hb dX3_lack_106 (by decide) ?_
            exact (ih) x1 (x2 - 0) (x3 + 1) th st ls H locs hP hS (lv_sub (l' := [(0, .ref o), (1, .int x1), (2, .int (x2 - 0)), (3, .int (x3 + 1))]) hl [2, 3, 1, 0] rfl) hf
          · replace hf := it_t c6 hf
            refine lv_iconst hx hb dX3_lack_96 kc_i1 ?_
            refine lv_goto (tgt := 101) hx hb dX3_lack_97 (by decide) ?_
            refine lv_isub hx hb dX3_lack_101 ?_
            refine lv_istore_n (i := 2) (lv' := [(2, .int (x2 - 1)), (0, .ref o), (1, .int x1), (3, .int x3)]) hx hb dX3_lack_102 rfl hl (by decide) rfl (fun ls hl => ?_)
            refine lv_iinc (v := (x3 + 1)) (lv' := [(3, .int (x3 + 1)), (2, .int (x2 - 1)), (0, .ref o), (1, .int x1)]) hx hb dX3_lack_103 hl (k := 3) rfl rfl (by decide) rfl (fun ls hl => ?_)
            refine lv_goto (tgt := 65) hx hb dX3_lack_106 (by decide) ?_
            exact (ih) x1 (x2 - 1) (x3 + 1) th st ls H locs hP hS (lv_sub (l' := [(0, .ref o), (1, .int x1), (2, .int (x2 - 1)), (3, .int (x3 + 1))]) hl [2, 3, 1, 0] rfl) hf
  have w19 : ∀ (n : Nat) , ∀ (x1 : Int32) (x2 : Int32) (x3 : Int32) (th : Int32) (st : Int32) (ls : Array Slot) (H : Heap) (locs : List Loc), va_P D cl (mW mi cI cJ cB o ad th tp st fk fp ac si fr tt kd nu fa pl fo wd ci gr lm om nw rd aa kp ta nm rn gv gt rw rh lg lh ou) H → va_S (mA o ad) s.heap H locs → lv_has ls 4 [(0, .ref o), (1, .int x1), (2, .int x2), (3, .int x3)] → f_X3_lack_19 n nw x1 x2 x3 th st = some out → W p l e (rM 3 64) s m ([.ref o, .int a0] : List Value).toArray below meth c H locs 0 0 (MQ below (gQ D cl (some (.int out.1)) True (mW mi cI cJ cB o ad out.2.1 tp out.2.2 fk fp ac si fr tt kd nu fa pl fo wd ci gr lm om nw rd aa kp ta nm rn gv gt rw rh lg lh ou) (mA o ad)) ([.ref o, .int a0] : List Value).toArray s 0 0 (mA o ad)) (F0 m 19 ls []) := by
    intro n
    induction n with
    | zero =>
      intro x1 x2 x3 th st ls H locs hP hS hl hf
      exact absurd hf (by rw [f_X3_lack_19]; exact nofun)
    | succ n ih =>
      intro x1 x2 x3 th st ls H locs hP hS hl hf
      rw [f_X3_lack_19] at hf
      refine lv_iload_n hx hb dX3_lack_19 rfl (lv_at hl 3 rfl) ?_
      refine lv_aload_n hx hb dX3_lack_20 rfl (lv_at hl 0 rfl) ?_
      refine mg_1 S hC hK hP dX3_lack_21 ?_
      refine lv_sipush hx hb dX3_lack_24 kc_s231 ?_
      refine ma_1 S hC hK hP kv_231_390 kn_231 dX3_lack_27 ?_
      refine lv_icmp_ge (tgt := 63) hx hb dX3_lack_28 (by decide) (fun c1 => ?_) (fun c1 => ?_)
      · replace hf := it_t c1 hf
        refine lv_iconst hx hb dX3_lack_63 kc_i0 ?_
        refine lv_istore_n (i := 3) (lv' := [(3, .int 0), (0, .ref o), (1, .int x1), (2, .int x2)]) hx hb dX3_lack_64 rfl hl (by decide) rfl (fun ls hl => ?_)
        exact (w65 FU) x1 x2 0 th st ls H locs hP hS (lv_sub (l' := [(0, .ref o), (1, .int x1), (2, .int x2), (3, .int 0)]) hl [1, 2, 3, 0] rfl) hf
      · replace hf := it_f c1 hf
        refine lv_iload_n hx hb dX3_lack_31 rfl (lv_at hl 2 rfl) ?_
        refine lv_aload_n hx hb dX3_lack_32 rfl (lv_at hl 0 rfl) ?_
        refine lv_iload_n hx hb dX3_lack_33 rfl (lv_at hl 3 rfl) ?_
        obtain ⟨v2, hv2, hf⟩ := ob_s hf
        refine mc_X3_X3_isIn S hC hK hP hv2 hl.1 ⟨Nat.le_of_ble_eq_true rfl, Nat.le_of_ble_eq_true rfl⟩ (Nat.le_of_ble_eq_true rfl) ⟨Nat.zero_le _, Nat.zero_le _⟩ dX3_lack_34 (fun hnv2 => ?_)
        refine lv_if_eq (tgt := 54) hx hb dX3_lack_37 (by decide) (fun c3 => ?_) (fun c3 => ?_)
        · replace hf := it_t c3 hf
          refine lv_iconst hx hb dX3_lack_54 kc_i0 ?_
          refine lv_iadd hx hb dX3_lack_55 ?_
          refine lv_istore_n (i := 2) (lv' := [(2, .int (x2 + 0)), (0, .ref o), (1, .int x1), (3, .int x3)]) hx hb dX3_lack_56 rfl hl (by decide) rfl (fun ls hl => ?_)
          refine lv_iinc (v := (x3 + 1)) (lv' := [(3, .int (x3 + 1)), (2, .int (x2 + 0)), (0, .ref o), (1, .int x1)]) hx hb dX3_lack_57 hl (k := 3) rfl rfl (by decide) rfl (fun ls hl => ?_)
          refine lv_goto (tgt := 19) hx hb dX3_lack_60 (by decide) ?_
          exact (ih) x1 (x2 + 0) (x3 + 1) th st ls H locs hP hS (lv_sub (l' := [(0, .ref o), (1, .int x1), (2, .int (x2 + 0)), (3, .int (x3 + 1))]) hl [2, 3, 1, 0] rfl) hf
        · replace hf := it_f c3 hf
          refine lv_aload_n hx hb dX3_lack_40 rfl (lv_at hl 0 rfl) ?_
          refine lv_iload_n hx hb dX3_lack_41 rfl (lv_at hl 3 rfl) ?_
          refine lv_iconst hx hb dX3_lack_42 kc_i1 ?_
          obtain ⟨v4, hv4, hf⟩ := ob_s hf
          refine mc_X3_X3_of S hC hK hP hv4 hl.1 ⟨Nat.le_of_ble_eq_true rfl, Nat.le_of_ble_eq_true rfl⟩ (Nat.le_of_ble_eq_true rfl) ⟨Nat.zero_le _, Nat.zero_le _⟩ dX3_lack_43 (fun _ => ?_)
          refine lv_iload_n hx hb dX3_lack_46 rfl (lv_at hl 1 rfl) ?_
          refine lv_icmp_ne (tgt := 54) hx hb dX3_lack_47 (by decide) (fun c5 => ?_) (fun c5 => ?_)
          · replace hf := it_f c5 hf
            refine lv_iconst hx hb dX3_lack_54 kc_i0 ?_
            refine lv_iadd hx hb dX3_lack_55 ?_
            refine lv_istore_n (i := 2) (lv' := [(2, .int (x2 + 0)), (0, .ref o), (1, .int x1), (3, .int x3)]) hx hb dX3_lack_56 rfl hl (by decide) rfl (fun ls hl => ?_)
            refine lv_iinc (v := (x3 + 1)) (lv' := [(3, .int (x3 + 1)), (2, .int (x2 + 0)), (0, .ref o), (1, .int x1)]) hx hb dX3_lack_57 hl (k := 3) rfl rfl (by decide) rfl (fun ls hl => ?_)
            refine lv_goto (tgt := 19) hx hb dX3_lack_60 (by decide) ?_
            exact (ih) x1 (x2 + 0) (x3 + 1) th st ls H locs hP hS (lv_sub (l' := [(0, .ref o), (1, .int x1), (2, .int (x2 + 0)), (3, .int (x3 + 1))]) hl [2, 3, 1, 0] rfl) hf
          · replace hf := it_t c5 hf
            refine lv_iconst hx hb dX3_lack_50 kc_i1 ?_
            refine lv_goto (tgt := 55) hx hb dX3_lack_51 (by decide) ?_
            refine lv_iadd hx hb dX3_lack_55 ?_
            refine lv_istore_n (i := 2) (lv' := [(2, .int (x2 + 1)), (0, .ref o), (1, .int x1), (3, .int x3)]) hx hb dX3_lack_56 rfl hl (by decide) rfl (fun ls hl => ?_)
            refine lv_iinc (v := (x3 + 1)) (lv' := [(3, .int (x3 + 1)), (2, .int (x2 + 1)), (0, .ref o), (1, .int x1)]) hx hb dX3_lack_57 hl (k := 3) rfl rfl (by decide) rfl (fun ls hl => ?_)
            refine lv_goto (tgt := 19) hx hb dX3_lack_60 (by decide) ?_
            exact (ih) x1 (x2 + 1) (x3 + 1) th st ls H locs hP hS (lv_sub (l' := [(0, .ref o), (1, .int x1), (2, .int (x2 + 1)), (3, .int (x3 + 1))]) hl [2, 3, 1, 0] rfl) hf
  suffices hg : ∀ (H : Heap) (locs : List Loc), va_P D cl (mW mi cI cJ cB o ad th tp st fk fp ac si fr tt kd nu fa pl fo wd ci gr lm om nw rd aa kp ta nm rn gv gt rw rh lg lh ou) H → va_S (mA o ad) s.heap H locs → W p l e (rM 3 64) s m ([.ref o, .int a0] : List Value).toArray below meth c H locs 0 0 (MQ below (gQ D cl (some (.int out.1)) True (mW mi cI cJ cB o ad out.2.1 tp out.2.2 fk fp ac si fr tt kd nu fa pl fo wd ci gr lm om nw rd aa kp ta nm rn gv gt rw rh lg lh ou) (mA o ad)) ([.ref o, .int a0] : List Value).toArray s 0 0 (mA o ad)) (F0 m 0 ls []) from hg s.heap [] hP va_S.rf
  clear hP
  intro H locs hP hS
  rw [f_X3_lack] at hf
  refine lv_iload_n hx hb dX3_lack_0 rfl (lv_at hl 1 rfl) ?_
  refine lv_iconst hx hb dX3_lack_1 kc_i1 ?_
  refine lv_iconst hx hb dX3_lack_2 kc_i4 ?_
  obtain ⟨v1, hv1, hf⟩ := ob_s hf
  refine mc_X3_X3_isFrom S hK hv1 hl.1 ⟨Nat.le_of_ble_eq_true rfl, Nat.le_of_ble_eq_true rfl⟩ (Nat.le_of_ble_eq_true rfl) ⟨Nat.zero_le _, Nat.zero_le _⟩ dX3_lack_3 (fun hnv1 => ?_)
  refine lv_if_ne (tgt := 15) hx hb dX3_lack_6 (by decide) (fun c2 => ?_) (fun c2 => ?_)
  · replace hf := it_f c2 hf
    refine lv_iconst hx hb dX3_lack_15 kc_i0 ?_
    refine lv_istore_n (i := 2) (lv' := [(2, .int 0), (0, .ref o), (1, .int a0)]) hx hb dX3_lack_16 rfl hl (by decide) rfl (fun ls hl => ?_)
    refine lv_iconst hx hb dX3_lack_17 kc_i0 ?_
    refine lv_istore_n (i := 3) (lv' := [(3, .int 0), (2, .int 0), (0, .ref o), (1, .int a0)]) hx hb dX3_lack_18 rfl hl (by decide) rfl (fun ls hl => ?_)
    exact (w19 FU) a0 0 0 th st ls H locs hP hS (lv_sub (l' := [(0, .ref o), (1, .int a0), (2, .int 0), (3, .int 0)]) hl [2, 3, 1, 0] rfl) hf
  · replace hf := it_t c2 hf
    refine lv_aload_n hx hb dX3_lack_9 rfl (lv_at hl 0 rfl) ?_
    refine lv_iconst hx hb dX3_lack_10 kc_i1 ?_
    obtain ⟨v3, hv3, hf⟩ := ob_s hf
    refine mc_X3_X3_refuse S hC hD hK hP hS hv3 hl.1 ⟨Nat.le_of_ble_eq_true rfl, Nat.le_of_ble_eq_true rfl⟩ (Nat.le_of_ble_eq_true rfl) ⟨Nat.zero_le _, Nat.zero_le _⟩ dX3_lack_11 (fun H locs _ hP hS => ?_)
    have hE := Option.some.inj hf
    subst hE
    exact gt_wi S hr hlocks trivial hP hS dX3_lack_14
set_option maxHeartbeats 4000000 in
set_option maxRecDepth 100000 in
theorem mm_X3_copies_nw_aa  {out : (Nat → Int32)} (hC : mC cl tys mi cI cJ cB) (hD : mD o ad) (hf : f_X3_copies_nw_aa nw aa = some out) : Met l yX3_copies (ws_ yX3_copies cX3_copies 3 none) (rM 0 0) (gPc D cl tys [.ref (ad 1), .ref (ad 3)] (mW mi cI cJ cB o ad th tp st fk fp ac si fr tt kd nu fa pl fo wd ci gr lm om nw rd aa kp ta nm rn gv gt rw rh lg lh ou)) (gQ D cl none True (mW mi cI cJ cB o ad th tp st fk fp ac si fr tt kd nu fa pl fo wd ci gr lm om nw rd out kp ta nm rn gv gt rw rh lg lh ou) (mA o ad)) 0 0 (mA o ad) := by
  refine gGo (by decide +kernel) (Nat.le_of_ble_eq_true rfl) (fun p e s m below meth c ls S hr hlocks hK hP hl => ?_)
  have S : CallFix p m c cX3_copies 3 s _ lw_all RX3 := S
  obtain ⟨hx, hb, hml, hown, hts⟩ := id S
  have hl : lv_has ls 3 [(0, .ref (ad 1)), (1, .ref (ad 3))] := hl
  have w2 : ∀ (n : Nat) , ∀ (x2 : Int32) (aa : (Nat → Int32)) (ls : Array Slot) (H : Heap) (locs : List Loc), va_P D cl (mW mi cI cJ cB o ad th tp st fk fp ac si fr tt kd nu fa pl fo wd ci gr lm om nw rd aa kp ta nm rn gv gt rw rh lg lh ou) H → va_S (mA o ad) s.heap H locs → lv_has ls 3 [(0, .ref (ad 1)), (1, .ref (ad 3)), (2, .int x2)] → f_X3_copies_nw_aa_2 n nw x2 aa = some out → W p l e (rM 0 0) s m ([.ref (ad 1), .ref (ad 3)] : List Value).toArray below meth c H locs 0 0 (MQ below (gQ D cl none True (mW mi cI cJ cB o ad th tp st fk fp ac si fr tt kd nu fa pl fo wd ci gr lm om nw rd out kp ta nm rn gv gt rw rh lg lh ou) (mA o ad)) ([.ref (ad 1), .ref (ad 3)] : List Value).toArray s 0 0 (mA o ad)) (F0 m 2 ls []) := by
    intro n
    induction n with
    | zero =>
      intro x2 aa ls H locs hP hS hl hf
      exact absurd hf (by rw [f_X3_copies_nw_aa_2]; exact nofun)
    | succ n ih =>
      intro x2 aa ls H locs hP hS hl hf
      rw [f_X3_copies_nw_aa_2] at hf
      refine lv_iload_n hx hb dX3_copies_2 rfl (lv_at hl 2 rfl) ?_
      refine lv_sipush hx hb dX3_copies_3 kc_s390 ?_
      refine lv_icmp_ge (tgt := 21) hx hb dX3_copies_6 (by decide) (fun c1 => ?_) (fun c1 => ?_)
      · replace hf := it_t c1 hf
        have hE := Option.some.inj hf
        subst hE
        exact gt_wv S hr hlocks trivial hP hS dX3_copies_21
      · replace hf := it_f c1 hf
        refine lv_aload_n hx hb dX3_copies_9 rfl (lv_at hl 1 rfl) ?_
        refine lv_iload_n hx hb dX3_copies_10 rfl (lv_at hl 2 rfl) ?_
        refine lv_aload_n hx hb dX3_copies_11 rfl (lv_at hl 0 rfl) ?_
        refine lv_iload_n hx hb dX3_copies_12 rfl (lv_at hl 2 rfl) ?_
        obtain ⟨g2, hf⟩ := gd_t hf
        refine ma_1 S hC hK hP (inR_vp g2) rfl dX3_copies_13 ?_
        obtain ⟨g3, hf⟩ := gd_t hf
        refine ms_3 S hC hD hK hP hS (inR_vp g3) rfl dX3_copies_14 (fun H locs hP hS => ?_)
        refine lv_iinc (v := (x2 + 1)) (lv' := [(2, .int (x2 + 1)), (0, .ref (ad 1)), (1, .ref (ad 3))]) hx hb dX3_copies_15 hl (k := 2) rfl rfl (by decide) rfl (fun ls hl => ?_)
        refine lv_goto (tgt := 2) hx hb dX3_copies_18 (by decide) ?_
        exact (ih) (x2 + 1) (upd aa x2.toNatClampNeg (nw x2.toNatClampNeg)) ls H locs hP hS (lv_sub (l' := [(0, .ref (ad 1)), (1, .ref (ad 3)), (2, .int (x2 + 1))]) hl [1, 2, 0] rfl) hf
  suffices hg : ∀ (H : Heap) (locs : List Loc), va_P D cl (mW mi cI cJ cB o ad th tp st fk fp ac si fr tt kd nu fa pl fo wd ci gr lm om nw rd aa kp ta nm rn gv gt rw rh lg lh ou) H → va_S (mA o ad) s.heap H locs → W p l e (rM 0 0) s m ([.ref (ad 1), .ref (ad 3)] : List Value).toArray below meth c H locs 0 0 (MQ below (gQ D cl none True (mW mi cI cJ cB o ad th tp st fk fp ac si fr tt kd nu fa pl fo wd ci gr lm om nw rd out kp ta nm rn gv gt rw rh lg lh ou) (mA o ad)) ([.ref (ad 1), .ref (ad 3)] : List Value).toArray s 0 0 (mA o ad)) (F0 m 0 ls []) from hg s.heap [] hP va_S.rf
  clear hP
  intro H locs hP hS
  rw [f_X3_copies_nw_aa] at hf
  refine lv_iconst hx hb dX3_copies_0 kc_i0 ?_
  refine lv_istore_n (i := 2) (lv' := [(2, .int 0), (0, .ref (ad 1)), (1, .ref (ad 3))]) hx hb dX3_copies_1 rfl hl (by decide) rfl (fun ls hl => ?_)
  exact (w2 FU) 0 aa ls H locs hP hS (lv_sub (l' := [(0, .ref (ad 1)), (1, .ref (ad 3)), (2, .int 0)]) hl [1, 2, 0] rfl) hf
set_option maxRecDepth 100000 in
theorem mc_X3_X3_copies_nw_aa  {out : (Nat → Int32)} (S : CallFix p m c cc nL s args lw_all RX3) (hC : mC cl tys mi cI cJ cB) (hD : mD o ad) (hK : va_K D cl tys s) (hP : va_P D cl (mW mi cI cJ cB o ad th tp st fk fp ac si fr tt kd nu fa pl fo wd ci gr lm om nw rd aa kp ta nm rn gv gt rw rh lg lh ou) H) (hS : va_S (mA o ad) H0 H locs) (hf : f_X3_copies_nw_aa nw aa = some out) (hsz : ls.size = nL) (hR : 0 + 1 ≤ R.frames ∧ 8 + (3 + 11) + 0 ≤ R.locals) (hW : (rest.map fun v => v.category).sum ≤ 8) (hcs : cells ≤ R.cells ∧ slots ≤ R.slots) (hdg : decode cc pc = .ok (.invokestatic 192, 3)) (kk : ∀ (H1 : Heap) (locs1 : List Loc), True → va_P D cl (mW mi cI cJ cB o ad th tp st fk fp ac si fr tt kd nu fa pl fo wd ci gr lm om nw rd out kp ta nm rn gv gt rw rh lg lh ou) H1 → va_S (mA o ad) H0 H1 locs1 → W p l e R s m args below meth c H1 locs1 cells slots Q (F0 m (pc + 3) ls (rest))) : W p l e R s m args below meth c H locs cells slots Q (F0 m pc ls (.ref (ad 3) :: .ref (ad 1) :: rest)) :=
  gc_Sv (As := [.ref (ad 1), .ref (ad 3)]) S (mm_X3_copies_nw_aa hC hD hf) (va_cwS 2 S.2.2.2.2 (lw_S q2212 q2213 q189 q2214) rfl rfl rfl hd_X3_copies hR) (gPreS hK hP) rfl hsz rfl hW hdg hcs hS kk
theorem hd_X3_puts : yX3_puts.cls = RX3 ∧ yX3_puts.cls ≠ "java/lang/invoke/MethodHandle" ∧ yX3_puts.cls ≠ "java/lang/invoke/VarHandle" ∧ (parseMethodDescriptor yX3_puts.desc).map (fun d => d.parameters.length) = some 3 := by decide +kernel
set_option maxHeartbeats 4000000 in
set_option maxRecDepth 100000 in
theorem mm_X3_puts {a0 : Int32} {a1 : Int32} {a2 : Int32} {out : (Nat → Int32)} (hC : mC cl tys mi cI cJ cB) (hD : mD o ad) (hf : f_X3_puts nw a0 a1 a2 = some out) : Met l yX3_puts (ws_ yX3_puts cX3_puts 4 none) (rM 1 21) (gPc D cl tys [.ref o, .int a0, .int a1, .int a2] (mW mi cI cJ cB o ad th tp st fk fp ac si fr tt kd nu fa pl fo wd ci gr lm om nw rd aa kp ta nm rn gv gt rw rh lg lh ou)) (gQ D cl none True (mW mi cI cJ cB o ad th tp st fk fp ac si fr tt kd nu fa pl fo wd ci gr lm om out rd aa kp ta nm rn gv gt rw rh lg lh ou) (mA o ad)) 0 0 (mA o ad) := by
  refine gGo (by decide +kernel) (Nat.le_of_ble_eq_true rfl) (fun p e s m below meth c ls S hr hlocks hK hP hl => ?_)
  have S : CallFix p m c cX3_puts 4 s _ lw_all RX3 := S
  obtain ⟨hx, hb, hml, hown, hts⟩ := id S
  have hl : lv_has ls 4 [(0, .ref o), (1, .int a0), (2, .int a1), (3, .int a2)] := hl
  suffices hg : ∀ (H : Heap) (locs : List Loc), va_P D cl (mW mi cI cJ cB o ad th tp st fk fp ac si fr tt kd nu fa pl fo wd ci gr lm om nw rd aa kp ta nm rn gv gt rw rh lg lh ou) H → va_S (mA o ad) s.heap H locs → W p l e (rM 1 21) s m ([.ref o, .int a0, .int a1, .int a2] : List Value).toArray below meth c H locs 0 0 (MQ below (gQ D cl none True (mW mi cI cJ cB o ad th tp st fk fp ac si fr tt kd nu fa pl fo wd ci gr lm om out rd aa kp ta nm rn gv gt rw rh lg lh ou) (mA o ad)) ([.ref o, .int a0, .int a1, .int a2] : List Value).toArray s 0 0 (mA o ad)) (F0 m 0 ls []) from hg s.heap [] hP va_S.rf
  clear hP
  intro H locs hP hS
  rw [f_X3_puts] at hf
  refine lv_aload_n hx hb dX3_puts_0 rfl (lv_at hl 0 rfl) ?_
  refine mg_1 S hC hK hP dX3_puts_1 ?_
  refine lv_iload_n hx hb dX3_puts_4 rfl (lv_at hl 1 rfl) ?_
  refine lv_iload_n hx hb dX3_puts_5 rfl (lv_at hl 2 rfl) ?_
  obtain ⟨v1, hv1, hf⟩ := ob_s hf
  refine mc_X3_X3_at S hK hv1 hl.1 ⟨Nat.le_of_ble_eq_true rfl, Nat.le_of_ble_eq_true rfl⟩ (Nat.le_of_ble_eq_true rfl) ⟨Nat.zero_le _, Nat.zero_le _⟩ dX3_puts_6 (fun _ => ?_)
  refine lv_iload_n hx hb dX3_puts_9 rfl (lv_at hl 3 rfl) ?_
  obtain ⟨g2, hf⟩ := gd_t hf
  refine ms_1 S hC hD hK hP hS (inR_vp g2) rfl dX3_puts_10 (fun H locs hP hS => ?_)
  have hE := Option.some.inj hf
  subst hE
  exact gt_wv S hr hlocks trivial hP hS dX3_puts_11
set_option maxRecDepth 100000 in
theorem mc_X3_X3_puts {a0 : Int32} {a1 : Int32} {a2 : Int32} {out : (Nat → Int32)} (S : CallFix p m c cc nL s args lw_all RX3) (hC : mC cl tys mi cI cJ cB) (hD : mD o ad) (hK : va_K D cl tys s) (hP : va_P D cl (mW mi cI cJ cB o ad th tp st fk fp ac si fr tt kd nu fa pl fo wd ci gr lm om nw rd aa kp ta nm rn gv gt rw rh lg lh ou) H) (hS : va_S (mA o ad) H0 H locs) (hf : f_X3_puts nw a0 a1 a2 = some out) (hsz : ls.size = nL) (hR : 1 + 1 ≤ R.frames ∧ 8 + (4 + 11) + 21 ≤ R.locals) (hW : (rest.map fun v => v.category).sum ≤ 8) (hcs : cells ≤ R.cells ∧ slots ≤ R.slots) (hdg : decode cc pc = .ok (.invokevirtual 289, 3)) (kk : ∀ (H1 : Heap) (locs1 : List Loc), True → va_P D cl (mW mi cI cJ cB o ad th tp st fk fp ac si fr tt kd nu fa pl fo wd ci gr lm om out rd aa kp ta nm rn gv gt rw rh lg lh ou) H1 → va_S (mA o ad) H0 H1 locs1 → W p l e R s m args below meth c H1 locs1 cells slots Q (F0 m (pc + 3) ls (rest))) : W p l e R s m args below meth c H locs cells slots Q (F0 m pc ls (.int a2 :: .int a1 :: .int a0 :: .ref o :: rest)) :=
  gc_Vv (As := [.int a0, .int a1, .int a2]) S (mm_X3_puts hC hD hf) (cwV 3 S.2.2.2.2 (lw_V q2407 q2409 qs142 q189 q2410) rfl rfl rfl hd_X3_puts hR) (gPreV hK hP hC.1 (q0 := 0) rfl) rfl hsz rfl hW hdg hcs hS kk
theorem hd_X3_bidsBy : yX3_bidsBy.cls = RX3 ∧ yX3_bidsBy.cls ≠ "java/lang/invoke/MethodHandle" ∧ yX3_bidsBy.cls ≠ "java/lang/invoke/VarHandle" ∧ (parseMethodDescriptor yX3_bidsBy.desc).map (fun d => d.parameters.length) = some 1 := by decide +kernel
set_option maxHeartbeats 4000000 in
set_option maxRecDepth 100000 in
theorem mm_X3_bidsBy {a0 : Int32} {out : Int32 × (Nat → Int32)} (hC : mC cl tys mi cI cJ cB) (hD : mD o ad) (hf : f_X3_bidsBy nw a0 = some out) : Met l yX3_bidsBy (ws_ yX3_bidsBy cX3_bidsBy 6 (some .int)) (rM 4 87) (gPc D cl tys [.ref o, .int a0] (mW mi cI cJ cB o ad th tp st fk fp ac si fr tt kd nu fa pl fo wd ci gr lm om nw rd aa kp ta nm rn gv gt rw rh lg lh ou)) (gQ D cl (some (.int out.1)) True (mW mi cI cJ cB o ad th tp st fk fp ac si fr tt kd nu fa pl fo wd ci gr lm om out.2 rd aa kp ta nm rn gv gt rw rh lg lh ou) (mA o ad)) 0 0 (mA o ad) := by
  refine gGo (by decide +kernel) (Nat.le_of_ble_eq_true rfl) (fun p e s m below meth c ls S hr hlocks hK hP hl => ?_)
  have S : CallFix p m c cX3_bidsBy 6 s _ lw_all RX3 := S
  obtain ⟨hx, hb, hml, hown, hts⟩ := id S
  have hl : lv_has ls 6 [(0, .ref o), (1, .int a0)] := hl
  have w65 : ∀ (k34 : Int32 → Int32 → Int32 → Int32 → (Nat → Int32) → Option (Int32 × (Nat → Int32))), (∀ (b0 : Int32) (b1 : Int32) (b2 : Int32) (b3 : Int32) (b4 : (Nat → Int32)) (ls : Array Slot) (H : Heap) (locs : List Loc), va_P D cl (mW mi cI cJ cB o ad th tp st fk fp ac si fr tt kd nu fa pl fo wd ci gr lm om b4 rd aa kp ta nm rn gv gt rw rh lg lh ou) H → va_S (mA o ad) s.heap H locs → lv_has ls 6 [(0, .ref o), (1, .int b0), (2, .int b1), (3, .int b2), (4, .int b3)] → k34 b0 b1 b2 b3 b4 = some out → W p l e (rM 4 87) s m ([.ref o, .int a0] : List Value).toArray below meth c H locs 0 0 (MQ below (gQ D cl (some (.int out.1)) True (mW mi cI cJ cB o ad th tp st fk fp ac si fr tt kd nu fa pl fo wd ci gr lm om out.2 rd aa kp ta nm rn gv gt rw rh lg lh ou) (mA o ad)) ([.ref o, .int a0] : List Value).toArray s 0 0 (mA o ad)) (F0 m 34 ls [])) → ∀ (x1 : Int32) (x2 : Int32) (x3 : Int32) (x4 : Int32) (y0 : Int32) (nw : (Nat → Int32)) (ls : Array Slot) (H : Heap) (locs : List Loc), va_P D cl (mW mi cI cJ cB o ad th tp st fk fp ac si fr tt kd nu fa pl fo wd ci gr lm om nw rd aa kp ta nm rn gv gt rw rh lg lh ou) H → va_S (mA o ad) s.heap H locs → lv_has ls 6 [(0, .ref o), (1, .int x1), (2, .int x2), (3, .int x3), (4, .int x4)] → f_X3_bidsBy_65 k34 x1 x2 x3 x4 y0 nw = some out → W p l e (rM 4 87) s m ([.ref o, .int a0] : List Value).toArray below meth c H locs 0 0 (MQ below (gQ D cl (some (.int out.1)) True (mW mi cI cJ cB o ad th tp st fk fp ac si fr tt kd nu fa pl fo wd ci gr lm om out.2 rd aa kp ta nm rn gv gt rw rh lg lh ou) (mA o ad)) ([.ref o, .int a0] : List Value).toArray s 0 0 (mA o ad)) (F0 m 65 ls [.int y0]) := by
    intro k34 hk34 x1 x2 x3 x4 y0 nw ls H locs hP hS hl hf
    rw [f_X3_bidsBy_65] at hf
    refine lv_istore (lv' := [(5, .int y0), (0, .ref o), (1, .int x1), (2, .int x2), (3, .int x3), (4, .int x4)]) hx hb dX3_bidsBy_65 hl (by decide) rfl (fun ls hl => ?_)
    refine lv_aload_n hx hb dX3_bidsBy_67 rfl (lv_at hl 1 rfl) ?_
    refine lv_iload_n hx hb dX3_bidsBy_68 rfl (lv_at hl 2 rfl) ?_
    refine lv_iload hx hb dX3_bidsBy_69 (lv_at hl 0 rfl) ?_
    obtain ⟨v1, hv1, hf⟩ := ob_s hf
    refine mc_X3_X3_whyNot S hC hK hP hv1 hl.1 ⟨Nat.le_of_ble_eq_true rfl, Nat.le_of_ble_eq_true rfl⟩ (Nat.le_of_ble_eq_true rfl) ⟨Nat.zero_le _, Nat.zero_le _⟩ dX3_bidsBy_71 (fun _ => ?_)
    refine lv_if_eq (tgt := 80) hx hb dX3_bidsBy_74 (by decide) (fun c2 => ?_) (fun c2 => ?_)
    · replace hf := it_t c2 hf
      refine lv_aload_n hx hb dX3_bidsBy_80 rfl (lv_at hl 1 rfl) ?_
      refine lv_iload_n hx hb dX3_bidsBy_81 rfl (lv_at hl 2 rfl) ?_
      refine lv_bipush hx hb dX3_bidsBy_82 kc_b10 ?_
      refine lv_aload_n hx hb dX3_bidsBy_84 rfl (lv_at hl 1 rfl) ?_
      refine lv_iload_n hx hb dX3_bidsBy_85 rfl (lv_at hl 2 rfl) ?_
      refine lv_bipush hx hb dX3_bidsBy_86 kc_b10 ?_
      obtain ⟨v3, hv3, hf⟩ := ob_s hf
      refine mc_X3_X3_of S hC hK hP hv3 hl.1 ⟨Nat.le_of_ble_eq_true rfl, Nat.le_of_ble_eq_true rfl⟩ (Nat.le_of_ble_eq_true rfl) ⟨Nat.zero_le _, Nat.zero_le _⟩ dX3_bidsBy_88 (fun _ => ?_)
      refine lv_iconst hx hb dX3_bidsBy_91 kc_i1 ?_
      refine lv_iload hx hb dX3_bidsBy_92 (lv_at hl 0 rfl) ?_
      refine lv_ishl hx hb dX3_bidsBy_94 ?_
      refine lv_ior hx hb dX3_bidsBy_95 ?_
      obtain ⟨v4, hv4, hf⟩ := ob_s hf
      refine mc_X3_X3_puts S hC hD hK hP hS hv4 hl.1 ⟨Nat.le_of_ble_eq_true rfl, Nat.le_of_ble_eq_true rfl⟩ (Nat.le_of_ble_eq_true rfl) ⟨Nat.zero_le _, Nat.zero_le _⟩ dX3_bidsBy_96 (fun H locs _ hP hS => ?_)
      refine lv_iinc (v := (x2 + 1)) (lv' := [(2, .int (x2 + 1)), (5, .int y0), (0, .ref o), (1, .int x1), (3, .int x3), (4, .int x4)]) hx hb dX3_bidsBy_99 hl (k := 3) rfl rfl (by decide) rfl (fun ls hl => ?_)
      refine lv_iinc (v := (x4 + 1)) (lv' := [(4, .int (x4 + 1)), (2, .int (x2 + 1)), (5, .int y0), (0, .ref o), (1, .int x1), (3, .int x3)]) hx hb dX3_bidsBy_102 hl (k := 5) rfl rfl (by decide) rfl (fun ls hl => ?_)
      refine lv_goto (tgt := 34) hx hb dX3_bidsBy_105 (by decide) ?_
      exact hk34 x1 (x2 + 1) x3 (x4 + 1) v4 ls H locs hP hS (lv_sub (l' := [(0, .ref o), (1, .int x1), (2, .int (x2 + 1)), (3, .int x3), (4, .int (x4 + 1))]) hl [3, 4, 1, 5, 0] rfl) hf
    · replace hf := it_f c2 hf
      refine lv_goto (tgt := 102) hx hb dX3_bidsBy_77 (by decide) ?_
      refine lv_iinc (v := (x4 + 1)) (lv' := [(4, .int (x4 + 1)), (5, .int y0), (0, .ref o), (1, .int x1), (2, .int x2), (3, .int x3)]) hx hb dX3_bidsBy_102 hl (k := 5) rfl rfl (by decide) rfl (fun ls hl => ?_)
      refine lv_goto (tgt := 34) hx hb dX3_bidsBy_105 (by decide) ?_
      exact hk34 x1 x2 x3 (x4 + 1) nw ls H locs hP hS (lv_sub (l' := [(0, .ref o), (1, .int x1), (2, .int x2), (3, .int x3), (4, .int (x4 + 1))]) hl [2, 3, 4, 5, 0] rfl) hf
  have w34 : ∀ (n : Nat) , ∀ (x1 : Int32) (x2 : Int32) (x3 : Int32) (x4 : Int32) (nw : (Nat → Int32)) (ls : Array Slot) (H : Heap) (locs : List Loc), va_P D cl (mW mi cI cJ cB o ad th tp st fk fp ac si fr tt kd nu fa pl fo wd ci gr lm om nw rd aa kp ta nm rn gv gt rw rh lg lh ou) H → va_S (mA o ad) s.heap H locs → lv_has ls 6 [(0, .ref o), (1, .int x1), (2, .int x2), (3, .int x3), (4, .int x4)] → f_X3_bidsBy_34 n x1 x2 x3 x4 nw = some out → W p l e (rM 4 87) s m ([.ref o, .int a0] : List Value).toArray below meth c H locs 0 0 (MQ below (gQ D cl (some (.int out.1)) True (mW mi cI cJ cB o ad th tp st fk fp ac si fr tt kd nu fa pl fo wd ci gr lm om out.2 rd aa kp ta nm rn gv gt rw rh lg lh ou) (mA o ad)) ([.ref o, .int a0] : List Value).toArray s 0 0 (mA o ad)) (F0 m 34 ls []) := by
    intro n
    induction n with
    | zero =>
      intro x1 x2 x3 x4 nw ls H locs hP hS hl hf
      exact absurd hf (by rw [f_X3_bidsBy_34]; exact nofun)
    | succ n ih =>
      intro x1 x2 x3 x4 nw ls H locs hP hS hl hf
      rw [f_X3_bidsBy_34] at hf
      refine lv_iload hx hb dX3_bidsBy_34 (lv_at hl 4 rfl) ?_
      refine lv_iload_n hx hb dX3_bidsBy_36 rfl (lv_at hl 3 rfl) ?_
      refine lv_icmp_ge (tgt := 108) hx hb dX3_bidsBy_37 (by decide) (fun c1 => ?_) (fun c1 => ?_)
      · replace hf := it_t c1 hf
        refine lv_iload_n hx hb dX3_bidsBy_108 rfl (lv_at hl 2 rfl) ?_
        have hE := Option.some.inj hf
        subst hE
        exact gt_wi S hr hlocks trivial hP hS dX3_bidsBy_109
      · replace hf := it_f c1 hf
        refine lv_aload_n hx hb dX3_bidsBy_40 rfl (lv_at hl 0 rfl) ?_
        refine lv_iload_n hx hb dX3_bidsBy_41 rfl (lv_at hl 1 rfl) ?_
        refine lv_bipush hx hb dX3_bidsBy_42 kc_b11 ?_
        obtain ⟨v2, hv2, hf⟩ := ob_s hf
        refine mc_X3_X3_of S hC hK hP hv2 hl.1 ⟨Nat.le_of_ble_eq_true rfl, Nat.le_of_ble_eq_true rfl⟩ (Nat.le_of_ble_eq_true rfl) ⟨Nat.zero_le _, Nat.zero_le _⟩ dX3_bidsBy_44 (fun _ => ?_)
        refine lv_if_ne (tgt := 55) hx hb dX3_bidsBy_47 (by decide) (fun c3 => ?_) (fun c3 => ?_)
        · replace hf := it_f c3 hf
          refine lv_aload_n hx hb dX3_bidsBy_55 rfl (lv_at hl 0 rfl) ?_
          refine lv_iload_n hx hb dX3_bidsBy_56 rfl (lv_at hl 1 rfl) ?_
          refine lv_bipush hx hb dX3_bidsBy_57 kc_b12 ?_
          refine lv_iload hx hb dX3_bidsBy_59 (lv_at hl 4 rfl) ?_
          refine lv_iadd hx hb dX3_bidsBy_61 ?_
          obtain ⟨v4, hv4, hf⟩ := ob_s hf
          refine mc_X3_X3_of S hC hK hP hv4 hl.1 ⟨Nat.le_of_ble_eq_true rfl, Nat.le_of_ble_eq_true rfl⟩ (Nat.le_of_ble_eq_true rfl) ⟨Nat.zero_le _, Nat.zero_le _⟩ dX3_bidsBy_62 (fun _ => ?_)
          exact (w65 (f_X3_bidsBy_34 n) (ih)) x1 x2 x3 x4 v4 nw ls H locs hP hS hl hf
        · replace hf := it_t c3 hf
          refine lv_iload hx hb dX3_bidsBy_50 (lv_at hl 4 rfl) ?_
          refine lv_goto (tgt := 65) hx hb dX3_bidsBy_52 (by decide) ?_
          exact (w65 (f_X3_bidsBy_34 n) (ih)) x1 x2 x3 x4 x4 nw ls H locs hP hS hl hf
  suffices hg : ∀ (H : Heap) (locs : List Loc), va_P D cl (mW mi cI cJ cB o ad th tp st fk fp ac si fr tt kd nu fa pl fo wd ci gr lm om nw rd aa kp ta nm rn gv gt rw rh lg lh ou) H → va_S (mA o ad) s.heap H locs → W p l e (rM 4 87) s m ([.ref o, .int a0] : List Value).toArray below meth c H locs 0 0 (MQ below (gQ D cl (some (.int out.1)) True (mW mi cI cJ cB o ad th tp st fk fp ac si fr tt kd nu fa pl fo wd ci gr lm om out.2 rd aa kp ta nm rn gv gt rw rh lg lh ou) (mA o ad)) ([.ref o, .int a0] : List Value).toArray s 0 0 (mA o ad)) (F0 m 0 ls []) from hg s.heap [] hP va_S.rf
  clear hP
  intro H locs hP hS
  rw [f_X3_bidsBy] at hf
  refine lv_iconst hx hb dX3_bidsBy_0 kc_i0 ?_
  refine lv_istore_n (i := 2) (lv' := [(2, .int 0), (0, .ref o), (1, .int a0)]) hx hb dX3_bidsBy_1 rfl hl (by decide) rfl (fun ls hl => ?_)
  refine lv_aload_n hx hb dX3_bidsBy_2 rfl (lv_at hl 1 rfl) ?_
  refine lv_iload_n hx hb dX3_bidsBy_3 rfl (lv_at hl 2 rfl) ?_
  refine lv_bipush hx hb dX3_bidsBy_4 kc_b11 ?_
  obtain ⟨v1, hv1, hf⟩ := ob_s hf
  refine mc_X3_X3_of S hC hK hP hv1 hl.1 ⟨Nat.le_of_ble_eq_true rfl, Nat.le_of_ble_eq_true rfl⟩ (Nat.le_of_ble_eq_true rfl) ⟨Nat.zero_le _, Nat.zero_le _⟩ dX3_bidsBy_6 (fun _ => ?_)
  refine lv_if_ne (tgt := 23) hx hb dX3_bidsBy_9 (by decide) (fun c2 => ?_) (fun c2 => ?_)
  · replace hf := it_f c2 hf
    refine lv_aload_n hx hb dX3_bidsBy_23 rfl (lv_at hl 1 rfl) ?_
    refine lv_iload_n hx hb dX3_bidsBy_24 rfl (lv_at hl 2 rfl) ?_
    refine lv_bipush hx hb dX3_bidsBy_25 kc_b11 ?_
    obtain ⟨v3, hv3, hf⟩ := ob_s hf
    refine mc_X3_X3_of S hC hK hP hv3 hl.1 ⟨Nat.le_of_ble_eq_true rfl, Nat.le_of_ble_eq_true rfl⟩ (Nat.le_of_ble_eq_true rfl) ⟨Nat.zero_le _, Nat.zero_le _⟩ dX3_bidsBy_27 (fun _ => ?_)
    refine lv_istore_n (i := 3) (lv' := [(3, .int v3), (2, .int 0), (0, .ref o), (1, .int a0)]) hx hb dX3_bidsBy_30 rfl hl (by decide) rfl (fun ls hl => ?_)
    refine lv_iconst hx hb dX3_bidsBy_31 kc_i0 ?_
    refine lv_istore (lv' := [(4, .int 0), (3, .int v3), (2, .int 0), (0, .ref o), (1, .int a0)]) hx hb dX3_bidsBy_32 hl (by decide) rfl (fun ls hl => ?_)
    exact (w34 FU) a0 0 v3 0 nw ls H locs hP hS (lv_sub (l' := [(0, .ref o), (1, .int a0), (2, .int 0), (3, .int v3), (4, .int 0)]) hl [3, 4, 2, 1, 0] rfl) hf
  · replace hf := it_t c2 hf
    refine lv_aload_n hx hb dX3_bidsBy_12 rfl (lv_at hl 1 rfl) ?_
    refine mg_1 S hC hK hP dX3_bidsBy_13 ?_
    refine lv_sipush hx hb dX3_bidsBy_16 kc_s230 ?_
    refine ma_1 S hC hK hP kv_230_390 kn_230 dX3_bidsBy_19 ?_
    refine lv_goto (tgt := 30) hx hb dX3_bidsBy_20 (by decide) ?_
    refine lv_istore_n (i := 3) (lv' := [(3, .int (nw 230)), (2, .int 0), (0, .ref o), (1, .int a0)]) hx hb dX3_bidsBy_30 rfl hl (by decide) rfl (fun ls hl => ?_)
    refine lv_iconst hx hb dX3_bidsBy_31 kc_i0 ?_
    refine lv_istore (lv' := [(4, .int 0), (3, .int (nw 230)), (2, .int 0), (0, .ref o), (1, .int a0)]) hx hb dX3_bidsBy_32 hl (by decide) rfl (fun ls hl => ?_)
    exact (w34 FU) a0 0 (nw 230) 0 nw ls H locs hP hS (lv_sub (l' := [(0, .ref o), (1, .int a0), (2, .int 0), (3, .int (nw 230)), (4, .int 0)]) hl [3, 4, 2, 1, 0] rfl) hf
set_option maxRecDepth 100000 in
theorem mc_X3_X3_bidsBy {a0 : Int32} {out : Int32 × (Nat → Int32)} (S : CallFix p m c cc nL s args lw_all RX3) (hC : mC cl tys mi cI cJ cB) (hD : mD o ad) (hK : va_K D cl tys s) (hP : va_P D cl (mW mi cI cJ cB o ad th tp st fk fp ac si fr tt kd nu fa pl fo wd ci gr lm om nw rd aa kp ta nm rn gv gt rw rh lg lh ou) H) (hS : va_S (mA o ad) H0 H locs) (hf : f_X3_bidsBy nw a0 = some out) (hsz : ls.size = nL) (hR : 4 + 1 ≤ R.frames ∧ 8 + (6 + 11) + 87 ≤ R.locals) (hW : (rest.map fun v => v.category).sum ≤ 8) (hcs : cells ≤ R.cells ∧ slots ≤ R.slots) (hdg : decode cc pc = .ok (.invokevirtual 316, 3)) (kk : ∀ (H1 : Heap) (locs1 : List Loc), True → va_P D cl (mW mi cI cJ cB o ad th tp st fk fp ac si fr tt kd nu fa pl fo wd ci gr lm om out.2 rd aa kp ta nm rn gv gt rw rh lg lh ou) H1 → va_S (mA o ad) H0 H1 locs1 → W p l e R s m args below meth c H1 locs1 cells slots Q (F0 m (pc + 3) ls (.int out.1 :: rest))) : W p l e R s m args below meth c H locs cells slots Q (F0 m pc ls (.int a0 :: .ref o :: rest)) :=
  gc_Vw (As := [.int a0]) S (mm_X3_bidsBy hC hD hf) (cwV 1 S.2.2.2.2 (lw_V q2403 q2405 qs141 q189 q2406) rfl rfl rfl hd_X3_bidsBy hR) (gPreV hK hP hC.1 (q0 := 0) rfl) rfl hsz rfl hW hdg hcs hS kk
theorem hd_X3_allBid : yX3_allBid.cls = RX3 ∧ yX3_allBid.cls ≠ "java/lang/invoke/MethodHandle" ∧ yX3_allBid.cls ≠ "java/lang/invoke/VarHandle" ∧ (parseMethodDescriptor yX3_allBid.desc).map (fun d => d.parameters.length) = some 0 := by decide +kernel
set_option maxHeartbeats 4000000 in
set_option maxRecDepth 100000 in
theorem mm_X3_allBid  {out : Int32 × (Nat → Int32)} (hC : mC cl tys mi cI cJ cB) (hD : mD o ad) (hf : f_X3_allBid nw = some out) : Met l yX3_allBid (ws_ yX3_allBid cX3_allBid 3 (some .int)) (rM 5 112) (gPc D cl tys [.ref o] (mW mi cI cJ cB o ad th tp st fk fp ac si fr tt kd nu fa pl fo wd ci gr lm om nw rd aa kp ta nm rn gv gt rw rh lg lh ou)) (gQ D cl (some (.int out.1)) True (mW mi cI cJ cB o ad th tp st fk fp ac si fr tt kd nu fa pl fo wd ci gr lm om out.2 rd aa kp ta nm rn gv gt rw rh lg lh ou) (mA o ad)) 0 0 (mA o ad) := by
  refine gGo (by decide +kernel) (Nat.le_of_ble_eq_true rfl) (fun p e s m below meth c ls S hr hlocks hK hP hl => ?_)
  have S : CallFix p m c cX3_allBid 3 s _ lw_all RX3 := S
  obtain ⟨hx, hb, hml, hown, hts⟩ := id S
  have hl : lv_has ls 3 [(0, .ref o)] := hl
  have w4 : ∀ (n : Nat) , ∀ (x1 : Int32) (x2 : Int32) (nw : (Nat → Int32)) (ls : Array Slot) (H : Heap) (locs : List Loc), va_P D cl (mW mi cI cJ cB o ad th tp st fk fp ac si fr tt kd nu fa pl fo wd ci gr lm om nw rd aa kp ta nm rn gv gt rw rh lg lh ou) H → va_S (mA o ad) s.heap H locs → lv_has ls 3 [(0, .ref o), (1, .int x1), (2, .int x2)] → f_X3_allBid_4 n x1 x2 nw = some out → W p l e (rM 5 112) s m ([.ref o] : List Value).toArray below meth c H locs 0 0 (MQ below (gQ D cl (some (.int out.1)) True (mW mi cI cJ cB o ad th tp st fk fp ac si fr tt kd nu fa pl fo wd ci gr lm om out.2 rd aa kp ta nm rn gv gt rw rh lg lh ou) (mA o ad)) ([.ref o] : List Value).toArray s 0 0 (mA o ad)) (F0 m 4 ls []) := by
    intro n
    induction n with
    | zero =>
      intro x1 x2 nw ls H locs hP hS hl hf
      exact absurd hf (by rw [f_X3_allBid_4]; exact nofun)
    | succ n ih =>
      intro x1 x2 nw ls H locs hP hS hl hf
      rw [f_X3_allBid_4] at hf
      refine lv_iload_n hx hb dX3_allBid_4 rfl (lv_at hl 2 rfl) ?_
      refine lv_aload_n hx hb dX3_allBid_5 rfl (lv_at hl 0 rfl) ?_
      refine mg_1 S hC hK hP dX3_allBid_6 ?_
      refine lv_sipush hx hb dX3_allBid_9 kc_s231 ?_
      refine ma_1 S hC hK hP kv_231_390 kn_231 dX3_allBid_12 ?_
      refine lv_icmp_ge (tgt := 30) hx hb dX3_allBid_13 (by decide) (fun c1 => ?_) (fun c1 => ?_)
      · replace hf := it_t c1 hf
        refine lv_iload_n hx hb dX3_allBid_30 rfl (lv_at hl 1 rfl) ?_
        have hE := Option.some.inj hf
        subst hE
        exact gt_wi S hr hlocks trivial hP hS dX3_allBid_31
      · replace hf := it_f c1 hf
        refine lv_iload_n hx hb dX3_allBid_16 rfl (lv_at hl 1 rfl) ?_
        refine lv_aload_n hx hb dX3_allBid_17 rfl (lv_at hl 0 rfl) ?_
        refine lv_iload_n hx hb dX3_allBid_18 rfl (lv_at hl 2 rfl) ?_
        obtain ⟨v2, hv2, hf⟩ := ob_s hf
        refine mc_X3_X3_bidsBy S hC hD hK hP hS hv2 hl.1 ⟨Nat.le_of_ble_eq_true rfl, Nat.le_of_ble_eq_true rfl⟩ (Nat.le_of_ble_eq_true rfl) ⟨Nat.zero_le _, Nat.zero_le _⟩ dX3_allBid_19 (fun H locs _ hP hS => ?_)
        refine lv_iadd hx hb dX3_allBid_22 ?_
        refine lv_istore_n (i := 1) (lv' := [(1, .int (x1 + v2.1)), (0, .ref o), (2, .int x2)]) hx hb dX3_allBid_23 rfl hl (by decide) rfl (fun ls hl => ?_)
        refine lv_iinc (v := (x2 + 1)) (lv' := [(2, .int (x2 + 1)), (1, .int (x1 + v2.1)), (0, .ref o)]) hx hb dX3_allBid_24 hl (k := 2) rfl rfl (by decide) rfl (fun ls hl => ?_)
        refine lv_goto (tgt := 4) hx hb dX3_allBid_27 (by decide) ?_
        exact (ih) (x1 + v2.1) (x2 + 1) v2.2 ls H locs hP hS (lv_sub (l' := [(0, .ref o), (1, .int (x1 + v2.1)), (2, .int (x2 + 1))]) hl [2, 1, 0] rfl) hf
  suffices hg : ∀ (H : Heap) (locs : List Loc), va_P D cl (mW mi cI cJ cB o ad th tp st fk fp ac si fr tt kd nu fa pl fo wd ci gr lm om nw rd aa kp ta nm rn gv gt rw rh lg lh ou) H → va_S (mA o ad) s.heap H locs → W p l e (rM 5 112) s m ([.ref o] : List Value).toArray below meth c H locs 0 0 (MQ below (gQ D cl (some (.int out.1)) True (mW mi cI cJ cB o ad th tp st fk fp ac si fr tt kd nu fa pl fo wd ci gr lm om out.2 rd aa kp ta nm rn gv gt rw rh lg lh ou) (mA o ad)) ([.ref o] : List Value).toArray s 0 0 (mA o ad)) (F0 m 0 ls []) from hg s.heap [] hP va_S.rf
  clear hP
  intro H locs hP hS
  rw [f_X3_allBid] at hf
  refine lv_iconst hx hb dX3_allBid_0 kc_i0 ?_
  refine lv_istore_n (i := 1) (lv' := [(1, .int 0), (0, .ref o)]) hx hb dX3_allBid_1 rfl hl (by decide) rfl (fun ls hl => ?_)
  refine lv_iconst hx hb dX3_allBid_2 kc_i0 ?_
  refine lv_istore_n (i := 2) (lv' := [(2, .int 0), (1, .int 0), (0, .ref o)]) hx hb dX3_allBid_3 rfl hl (by decide) rfl (fun ls hl => ?_)
  exact (w4 FU) 0 0 nw ls H locs hP hS (lv_sub (l' := [(0, .ref o), (1, .int 0), (2, .int 0)]) hl [2, 1, 0] rfl) hf
set_option maxRecDepth 100000 in
theorem mc_X3_X3_allBid  {out : Int32 × (Nat → Int32)} (S : CallFix p m c cc nL s args lw_all RX3) (hC : mC cl tys mi cI cJ cB) (hD : mD o ad) (hK : va_K D cl tys s) (hP : va_P D cl (mW mi cI cJ cB o ad th tp st fk fp ac si fr tt kd nu fa pl fo wd ci gr lm om nw rd aa kp ta nm rn gv gt rw rh lg lh ou) H) (hS : va_S (mA o ad) H0 H locs) (hf : f_X3_allBid nw = some out) (hsz : ls.size = nL) (hR : 5 + 1 ≤ R.frames ∧ 8 + (3 + 11) + 112 ≤ R.locals) (hW : (rest.map fun v => v.category).sum ≤ 8) (hcs : cells ≤ R.cells ∧ slots ≤ R.slots) (hdg : decode cc pc = .ok (.invokevirtual 325, 3)) (kk : ∀ (H1 : Heap) (locs1 : List Loc), True → va_P D cl (mW mi cI cJ cB o ad th tp st fk fp ac si fr tt kd nu fa pl fo wd ci gr lm om out.2 rd aa kp ta nm rn gv gt rw rh lg lh ou) H1 → va_S (mA o ad) H0 H1 locs1 → W p l e R s m args below meth c H1 locs1 cells slots Q (F0 m (pc + 3) ls (.int out.1 :: rest))) : W p l e R s m args below meth c H locs cells slots Q (F0 m pc ls (.ref o :: rest)) :=
  gc_Vw (As := []) S (mm_X3_allBid hC hD hf) (cwV 0 S.2.2.2.2 (lw_V q2399 q2401 qs140 q189 q2402) rfl rfl rfl hd_X3_allBid hR) (gPreV hK hP hC.1 (q0 := 0) rfl) rfl hsz rfl hW hdg hcs hS kk
theorem hd_X3_wishOf : yX3_wishOf.cls = RX3 ∧ yX3_wishOf.cls ≠ "java/lang/invoke/MethodHandle" ∧ yX3_wishOf.cls ≠ "java/lang/invoke/VarHandle" ∧ (parseMethodDescriptor yX3_wishOf.desc).map (fun d => d.parameters.length) = some 2 := by decide +kernel
set_option maxHeartbeats 4000000 in
set_option maxRecDepth 100000 in
theorem mm_X3_wishOf {a0 : Int32} {a1 : Int32} {out : Int32} (hC : mC cl tys mi cI cJ cB) (hf : f_X3_wishOf nw a0 a1 = some out) : Met l yX3_wishOf (ws_ yX3_wishOf cX3_wishOf 4 (some .int)) (rM 2 43) (gPc D cl tys [.ref o, .int a0, .int a1] (mW mi cI cJ cB o ad th tp st fk fp ac si fr tt kd nu fa pl fo wd ci gr lm om nw rd aa kp ta nm rn gv gt rw rh lg lh ou)) (gR (some (.int out)) True) 0 0 (fun _ => False) := by
  refine gGo (by decide +kernel) (Nat.le_of_ble_eq_true rfl) (fun p e s m below meth c ls S hr hlocks hK hP hl => ?_)
  have S : CallFix p m c cX3_wishOf 4 s _ lw_all RX3 := S
  obtain ⟨hx, hb, hml, hown, hts⟩ := id S
  have hl : lv_has ls 4 [(0, .ref o), (1, .int a0), (2, .int a1)] := hl
  have w2 : ∀ (n : Nat) , ∀ (x1 : Int32) (x2 : Int32) (x3 : Int32) (ls : Array Slot), lv_has ls 4 [(0, .ref o), (1, .int x1), (2, .int x2), (3, .int x3)] → f_X3_wishOf_2 n nw x1 x2 x3 = some out → W p l e (rM 2 43) s m ([.ref o, .int a0, .int a1] : List Value).toArray below meth c s.heap [] 0 0 (MQ below (gR (some (.int out)) True) ([.ref o, .int a0, .int a1] : List Value).toArray s 0 0 (fun _ => False)) (F0 m 2 ls []) := by
    intro n
    induction n with
    | zero =>
      intro x1 x2 x3 ls hl hf
      exact absurd hf (by rw [f_X3_wishOf_2]; exact nofun)
    | succ n ih =>
      intro x1 x2 x3 ls hl hf
      rw [f_X3_wishOf_2] at hf
      refine lv_iload_n hx hb dX3_wishOf_2 rfl (lv_at hl 3 rfl) ?_
      refine lv_aload_n hx hb dX3_wishOf_3 rfl (lv_at hl 0 rfl) ?_
      refine lv_iload_n hx hb dX3_wishOf_4 rfl (lv_at hl 1 rfl) ?_
      refine lv_bipush hx hb dX3_wishOf_5 kc_b11 ?_
      obtain ⟨v1, hv1, hf⟩ := ob_s hf
      refine mc_X3_X3_of S hC hK hP hv1 hl.1 ⟨Nat.le_of_ble_eq_true rfl, Nat.le_of_ble_eq_true rfl⟩ (Nat.le_of_ble_eq_true rfl) ⟨Nat.zero_le _, Nat.zero_le _⟩ dX3_wishOf_7 (fun _ => ?_)
      refine lv_icmp_ge (tgt := 34) hx hb dX3_wishOf_10 (by decide) (fun c2 => ?_) (fun c2 => ?_)
      · replace hf := it_t c2 hf
        refine lv_iconst hx hb dX3_wishOf_34 kc_im1 ?_
        have hE := Option.some.inj hf
        subst hE
        exact gt_ri S hr hlocks trivial dX3_wishOf_35
      · replace hf := it_f c2 hf
        refine lv_aload_n hx hb dX3_wishOf_13 rfl (lv_at hl 0 rfl) ?_
        refine lv_iload_n hx hb dX3_wishOf_14 rfl (lv_at hl 1 rfl) ?_
        refine lv_bipush hx hb dX3_wishOf_15 kc_b12 ?_
        refine lv_iload_n hx hb dX3_wishOf_17 rfl (lv_at hl 3 rfl) ?_
        refine lv_iadd hx hb dX3_wishOf_18 ?_
        obtain ⟨v3, hv3, hf⟩ := ob_s hf
        refine mc_X3_X3_of S hC hK hP hv3 hl.1 ⟨Nat.le_of_ble_eq_true rfl, Nat.le_of_ble_eq_true rfl⟩ (Nat.le_of_ble_eq_true rfl) ⟨Nat.zero_le _, Nat.zero_le _⟩ dX3_wishOf_19 (fun _ => ?_)
        refine lv_iload_n hx hb dX3_wishOf_22 rfl (lv_at hl 2 rfl) ?_
        refine lv_icmp_ne (tgt := 28) hx hb dX3_wishOf_23 (by decide) (fun c4 => ?_) (fun c4 => ?_)
        · replace hf := it_f c4 hf
          refine lv_iinc (v := (x3 + 1)) (lv' := [(3, .int (x3 + 1)), (0, .ref o), (1, .int x1), (2, .int x2)]) hx hb dX3_wishOf_28 hl (k := 3) rfl rfl (by decide) rfl (fun ls hl => ?_)
          refine lv_goto (tgt := 2) hx hb dX3_wishOf_31 (by decide) ?_
          exact (ih) x1 x2 (x3 + 1) ls (lv_sub (l' := [(0, .ref o), (1, .int x1), (2, .int x2), (3, .int (x3 + 1))]) hl [1, 2, 3, 0] rfl) hf
        · replace hf := it_t c4 hf
          refine lv_iload_n hx hb dX3_wishOf_26 rfl (lv_at hl 3 rfl) ?_
          have hE := Option.some.inj hf
          subst hE
          exact gt_ri S hr hlocks trivial dX3_wishOf_27
  rw [f_X3_wishOf] at hf
  refine lv_iconst hx hb dX3_wishOf_0 kc_i0 ?_
  refine lv_istore_n (i := 3) (lv' := [(3, .int 0), (0, .ref o), (1, .int a0), (2, .int a1)]) hx hb dX3_wishOf_1 rfl hl (by decide) rfl (fun ls hl => ?_)
  exact (w2 FU) a0 a1 0 ls (lv_sub (l' := [(0, .ref o), (1, .int a0), (2, .int a1), (3, .int 0)]) hl [1, 2, 3, 0] rfl) hf
set_option maxRecDepth 100000 in
theorem mc_X3_X3_wishOf {a0 : Int32} {a1 : Int32} {out : Int32} (S : CallFix p m c cc nL s args lw_all RX3) (hC : mC cl tys mi cI cJ cB) (hK : va_K D cl tys s) (hP : va_P D cl (mW mi cI cJ cB o ad th tp st fk fp ac si fr tt kd nu fa pl fo wd ci gr lm om nw rd aa kp ta nm rn gv gt rw rh lg lh ou) H) (hf : f_X3_wishOf nw a0 a1 = some out) (hsz : ls.size = nL) (hR : 2 + 1 ≤ R.frames ∧ 8 + (4 + 11) + 43 ≤ R.locals) (hW : (rest.map fun v => v.category).sum ≤ 8) (hcs : cells ≤ R.cells ∧ slots ≤ R.slots) (hdg : decode cc pc = .ok (.invokevirtual 216, 3)) (kk : True → W p l e R s m args below meth c H locs cells slots Q (F0 m (pc + 3) ls (.int out :: rest))) : W p l e R s m args below meth c H locs cells slots Q (F0 m pc ls (.int a1 :: .int a0 :: .ref o :: rest)) :=
  gc_Vr (As := [.int a0, .int a1]) S (mm_X3_wishOf hC hf) (cwV 2 S.2.2.2.2 (lw_V q2423 q2425 qs146 q189 q2426) rfl rfl rfl hd_X3_wishOf hR) (gPreV hK hP hC.1 (q0 := 0) rfl) rfl hsz rfl hW hdg hcs kk
theorem hd_X3_wouldTake : yX3_wouldTake.cls = RX3 ∧ yX3_wouldTake.cls ≠ "java/lang/invoke/MethodHandle" ∧ yX3_wouldTake.cls ≠ "java/lang/invoke/VarHandle" ∧ (parseMethodDescriptor yX3_wouldTake.desc).map (fun d => d.parameters.length) = some 2 := by decide +kernel
set_option maxHeartbeats 4000000 in
set_option maxRecDepth 100000 in
theorem mm_X3_wouldTake {a0 : Int32} {a1 : Int32} {out : Int32} (hC : mC cl tys mi cI cJ cB) (hf : f_X3_wouldTake nw a0 a1 = some out) : Met l yX3_wouldTake (ws_ yX3_wouldTake cX3_wouldTake 3 (some .boolean)) (rM 3 66) (gPc D cl tys [.ref o, .int a0, .int a1] (mW mi cI cJ cB o ad th tp st fk fp ac si fr tt kd nu fa pl fo wd ci gr lm om nw rd aa kp ta nm rn gv gt rw rh lg lh ou)) (gR (some (.int out)) (narrow .boolean (.int out) = .int out)) 0 0 (fun _ => False) := by
  refine gGo (by decide +kernel) (Nat.le_of_ble_eq_true rfl) (fun p e s m below meth c ls S hr hlocks hK hP hl => ?_)
  have S : CallFix p m c cX3_wouldTake 3 s _ lw_all RX3 := S
  obtain ⟨hx, hb, hml, hown, hts⟩ := id S
  have hl : lv_has ls 3 [(0, .ref o), (1, .int a0), (2, .int a1)] := hl
  rw [f_X3_wouldTake] at hf
  refine lv_aload_n hx hb dX3_wouldTake_0 rfl (lv_at hl 0 rfl) ?_
  refine lv_iload_n hx hb dX3_wouldTake_1 rfl (lv_at hl 1 rfl) ?_
  refine lv_bipush hx hb dX3_wouldTake_2 kc_b11 ?_
  obtain ⟨v1, hv1, hf⟩ := ob_s hf
  refine mc_X3_X3_of S hC hK hP hv1 hl.1 ⟨Nat.le_of_ble_eq_true rfl, Nat.le_of_ble_eq_true rfl⟩ (Nat.le_of_ble_eq_true rfl) ⟨Nat.zero_le _, Nat.zero_le _⟩ dX3_wouldTake_4 (fun _ => ?_)
  refine lv_if_eq (tgt := 20) hx hb dX3_wouldTake_7 (by decide) (fun c2 => ?_) (fun c2 => ?_)
  · replace hf := it_t c2 hf
    refine lv_iconst hx hb dX3_wouldTake_20 kc_i1 ?_
    refine lv_goto (tgt := 25) hx hb dX3_wouldTake_21 (by decide) ?_
    have hE := Option.some.inj hf
    subst hE
    exact gt_rz S hr hlocks nb1 dX3_wouldTake_25
  · replace hf := it_f c2 hf
    refine lv_aload_n hx hb dX3_wouldTake_10 rfl (lv_at hl 0 rfl) ?_
    refine lv_iload_n hx hb dX3_wouldTake_11 rfl (lv_at hl 1 rfl) ?_
    refine lv_iload_n hx hb dX3_wouldTake_12 rfl (lv_at hl 2 rfl) ?_
    obtain ⟨v3, hv3, hf⟩ := ob_s hf
    refine mc_X3_X3_wishOf S hC hK hP hv3 hl.1 ⟨Nat.le_of_ble_eq_true rfl, Nat.le_of_ble_eq_true rfl⟩ (Nat.le_of_ble_eq_true rfl) ⟨Nat.zero_le _, Nat.zero_le _⟩ dX3_wouldTake_13 (fun _ => ?_)
    refine lv_iconst hx hb dX3_wouldTake_16 kc_im1 ?_
    refine lv_icmp_eq (tgt := 24) hx hb dX3_wouldTake_17 (by decide) (fun c4 => ?_) (fun c4 => ?_)
    · replace hf := it_t c4 hf
      refine lv_iconst hx hb dX3_wouldTake_24 kc_i0 ?_
      have hE := Option.some.inj hf
      subst hE
      exact gt_rz S hr hlocks nb0 dX3_wouldTake_25
    · replace hf := it_f c4 hf
      refine lv_iconst hx hb dX3_wouldTake_20 kc_i1 ?_
      refine lv_goto (tgt := 25) hx hb dX3_wouldTake_21 (by decide) ?_
      have hE := Option.some.inj hf
      subst hE
      exact gt_rz S hr hlocks nb1 dX3_wouldTake_25
set_option maxRecDepth 100000 in
theorem mc_X3_X3_wouldTake {a0 : Int32} {a1 : Int32} {out : Int32} (S : CallFix p m c cc nL s args lw_all RX3) (hC : mC cl tys mi cI cJ cB) (hK : va_K D cl tys s) (hP : va_P D cl (mW mi cI cJ cB o ad th tp st fk fp ac si fr tt kd nu fa pl fo wd ci gr lm om nw rd aa kp ta nm rn gv gt rw rh lg lh ou) H) (hf : f_X3_wouldTake nw a0 a1 = some out) (hsz : ls.size = nL) (hR : 3 + 1 ≤ R.frames ∧ 8 + (3 + 11) + 66 ≤ R.locals) (hW : (rest.map fun v => v.category).sum ≤ 8) (hcs : cells ≤ R.cells ∧ slots ≤ R.slots) (hdg : decode cc pc = .ok (.invokevirtual 300, 3)) (kk : (narrow .boolean (.int out) = .int out) → W p l e R s m args below meth c H locs cells slots Q (F0 m (pc + 3) ls (.int out :: rest))) : W p l e R s m args below meth c H locs cells slots Q (F0 m pc ls (.int a1 :: .int a0 :: .ref o :: rest)) :=
  gc_Vr (As := [.int a0, .int a1]) S (mm_X3_wouldTake hC hf) (cwV 2 S.2.2.2.2 (lw_V q2419 q2421 qs145 q189 q2422) rfl rfl rfl hd_X3_wouldTake hR) (gPreV hK hP hC.1 (q0 := 0) rfl) rfl hsz rfl hW hdg hcs kk
theorem hd_X3_offered : yX3_offered.cls = RX3 ∧ yX3_offered.cls ≠ "java/lang/invoke/MethodHandle" ∧ yX3_offered.cls ≠ "java/lang/invoke/VarHandle" ∧ (parseMethodDescriptor yX3_offered.desc).map (fun d => d.parameters.length) = some 3 := by decide +kernel
set_option maxHeartbeats 4000000 in
set_option maxRecDepth 100000 in
theorem mm_X3_offered {a0 : Int32} {a1 : Int32} {a2 : Int32} {out : (Nat → Int32)} (hC : mC cl tys mi cI cJ cB) (hD : mD o ad) (hf : f_X3_offered nw a0 a1 a2 = some out) : Met l yX3_offered (ws_ yX3_offered cX3_offered 5 none) (rM 0 0) (gPc D cl tys [.ref o, .int a0, .int a1, .int a2] (mW mi cI cJ cB o ad th tp st fk fp ac si fr tt kd nu fa pl fo wd ci gr lm om nw rd aa kp ta nm rn gv gt rw rh lg lh ou)) (gQ D cl none True (mW mi cI cJ cB o ad th tp st fk fp ac si fr tt kd nu fa pl fo wd ci gr lm om out rd aa kp ta nm rn gv gt rw rh lg lh ou) (mA o ad)) 0 0 (mA o ad) := by
  refine gGo (by decide +kernel) (Nat.le_of_ble_eq_true rfl) (fun p e s m below meth c ls S hr hlocks hK hP hl => ?_)
  have S : CallFix p m c cX3_offered 5 s _ lw_all RX3 := S
  obtain ⟨hx, hb, hml, hown, hts⟩ := id S
  have hl : lv_has ls 5 [(0, .ref o), (1, .int a0), (2, .int a1), (3, .int a2)] := hl
  have w51 : ∀ (y1 : Int32) (y2 : Int32) (nw : (Nat → Int32)) (ls : Array Slot) (H : Heap) (locs : List Loc), va_P D cl (mW mi cI cJ cB o ad th tp st fk fp ac si fr tt kd nu fa pl fo wd ci gr lm om nw rd aa kp ta nm rn gv gt rw rh lg lh ou) H → va_S (mA o ad) s.heap H locs → lv_has ls 5 [(0, .ref o)] → f_X3_offered_51 y1 y2 nw = some out → W p l e (rM 0 0) s m ([.ref o, .int a0, .int a1, .int a2] : List Value).toArray below meth c H locs 0 0 (MQ below (gQ D cl none True (mW mi cI cJ cB o ad th tp st fk fp ac si fr tt kd nu fa pl fo wd ci gr lm om out rd aa kp ta nm rn gv gt rw rh lg lh ou) (mA o ad)) ([.ref o, .int a0, .int a1, .int a2] : List Value).toArray s 0 0 (mA o ad)) (F0 m 51 ls [.int y2, .int y1, .ref (ad 1)]) := by
    intro y1 y2 nw ls H locs hP hS hl hf
    rw [f_X3_offered_51] at hf
    obtain ⟨g1, hf⟩ := gd_t hf
    refine ms_1 S hC hD hK hP hS (inR_vp g1) rfl dX3_offered_51 (fun H locs hP hS => ?_)
    refine lv_aload_n hx hb dX3_offered_52 rfl (lv_at hl 0 rfl) ?_
    refine mg_1 S hC hK hP dX3_offered_53 ?_
    refine lv_sipush hx hb dX3_offered_56 kc_s299 ?_
    refine lv_dup2_11 hx hb dX3_offered_59 rfl rfl ?_
    refine ma_1 S hC hK hP kv_299_390 kn_299 dX3_offered_60 ?_
    refine lv_iconst hx hb dX3_offered_61 kc_i1 ?_
    refine lv_iadd hx hb dX3_offered_62 ?_
    refine ms_1 S hC hD hK hP hS kv_299_390 kn_299 dX3_offered_63 (fun H locs hP hS => ?_)
    have hE := Option.some.inj hf
    subst hE
    exact gt_wv S hr hlocks trivial hP hS dX3_offered_64
  suffices hg : ∀ (H : Heap) (locs : List Loc), va_P D cl (mW mi cI cJ cB o ad th tp st fk fp ac si fr tt kd nu fa pl fo wd ci gr lm om nw rd aa kp ta nm rn gv gt rw rh lg lh ou) H → va_S (mA o ad) s.heap H locs → W p l e (rM 0 0) s m ([.ref o, .int a0, .int a1, .int a2] : List Value).toArray below meth c H locs 0 0 (MQ below (gQ D cl none True (mW mi cI cJ cB o ad th tp st fk fp ac si fr tt kd nu fa pl fo wd ci gr lm om out rd aa kp ta nm rn gv gt rw rh lg lh ou) (mA o ad)) ([.ref o, .int a0, .int a1, .int a2] : List Value).toArray s 0 0 (mA o ad)) (F0 m 0 ls []) from hg s.heap [] hP va_S.rf
  clear hP
  intro H locs hP hS
  rw [f_X3_offered] at hf
  refine lv_sipush hx hb dX3_offered_0 kc_s300 ?_
  refine lv_iconst hx hb dX3_offered_3 kc_i3 ?_
  refine lv_aload_n hx hb dX3_offered_4 rfl (lv_at hl 0 rfl) ?_
  refine mg_1 S hC hK hP dX3_offered_5 ?_
  refine lv_sipush hx hb dX3_offered_8 kc_s299 ?_
  refine ma_1 S hC hK hP kv_299_390 kn_299 dX3_offered_11 ?_
  refine lv_imul hx hb dX3_offered_12 ?_
  refine lv_iadd hx hb dX3_offered_13 ?_
  refine lv_istore (lv' := [(4, .int ((nI 300) + ((nI 3) * (nw 299)))), (0, .ref o), (1, .int a0), (2, .int a1), (3, .int a2)]) hx hb dX3_offered_14 hl (by decide) rfl (fun ls hl => ?_)
  refine lv_aload_n hx hb dX3_offered_16 rfl (lv_at hl 1 rfl) ?_
  refine mg_1 S hC hK hP dX3_offered_17 ?_
  refine lv_iload hx hb dX3_offered_20 (lv_at hl 0 rfl) ?_
  refine lv_iload_n hx hb dX3_offered_22 rfl (lv_at hl 2 rfl) ?_
  obtain ⟨g1, hf⟩ := gd_t hf
  refine ms_1 S hC hD hK hP hS (inR_vp g1) rfl dX3_offered_23 (fun H locs hP hS => ?_)
  refine lv_aload_n hx hb dX3_offered_24 rfl (lv_at hl 1 rfl) ?_
  refine mg_1 S hC hK hP dX3_offered_25 ?_
  refine lv_iload hx hb dX3_offered_28 (lv_at hl 0 rfl) ?_
  refine lv_iconst hx hb dX3_offered_30 kc_i1 ?_
  refine lv_iadd hx hb dX3_offered_31 ?_
  refine lv_iload_n hx hb dX3_offered_32 rfl (lv_at hl 3 rfl) ?_
  obtain ⟨g2, hf⟩ := gd_t hf
  refine ms_1 S hC hD hK hP hS (inR_vp g2) rfl dX3_offered_33 (fun H locs hP hS => ?_)
  obtain ⟨m3, em3⟩ : ∃ z, z = (upd (upd nw ((nI 300) + ((nI 3) * (nw 299))).toNatClampNeg a0) (((nI 300) + ((nI 3) * (nw 299))) + 1).toNatClampNeg a1) := ⟨_, rfl⟩
  replace hf := bd_e em3 hf
  rw [← em3] at hP
  refine lv_aload_n hx hb dX3_offered_34 rfl (lv_at hl 1 rfl) ?_
  refine mg_1 S hC hK hP dX3_offered_35 ?_
  refine lv_iload hx hb dX3_offered_38 (lv_at hl 0 rfl) ?_
  refine lv_iconst hx hb dX3_offered_40 kc_i2 ?_
  refine lv_iadd hx hb dX3_offered_41 ?_
  refine lv_iload_n hx hb dX3_offered_42 rfl (lv_at hl 4 rfl) ?_
  refine lv_if_eq (tgt := 50) hx hb dX3_offered_43 (by decide) (fun c4 => ?_) (fun c4 => ?_)
  · replace hf := it_t c4 hf
    refine lv_iconst hx hb dX3_offered_50 kc_i0 ?_
    exact (w51) (((nI 300) + ((nI 3) * (nw 299))) + (nI 2)) 0 m3 ls H locs hP hS (lv_sub (l' := [(0, .ref o)]) hl [1] rfl) hf
  · replace hf := it_f c4 hf
    refine lv_iconst hx hb dX3_offered_46 kc_i1 ?_
    refine lv_goto (tgt := 51) hx hb dX3_offered_47 (by decide) ?_
    exact (w51) (((nI 300) + ((nI 3) * (nw 299))) + (nI 2)) 1 m3 ls H locs hP hS (lv_sub (l' := [(0, .ref o)]) hl [1] rfl) hf
set_option maxRecDepth 100000 in
theorem mc_X3_X3_offered {a0 : Int32} {a1 : Int32} {a2 : Int32} {out : (Nat → Int32)} (S : CallFix p m c cc nL s args lw_all RX3) (hC : mC cl tys mi cI cJ cB) (hD : mD o ad) (hK : va_K D cl tys s) (hP : va_P D cl (mW mi cI cJ cB o ad th tp st fk fp ac si fr tt kd nu fa pl fo wd ci gr lm om nw rd aa kp ta nm rn gv gt rw rh lg lh ou) H) (hS : va_S (mA o ad) H0 H locs) (hf : f_X3_offered nw a0 a1 a2 = some out) (hsz : ls.size = nL) (hR : 0 + 1 ≤ R.frames ∧ 8 + (5 + 11) + 0 ≤ R.locals) (hW : (rest.map fun v => v.category).sum ≤ 8) (hcs : cells ≤ R.cells ∧ slots ≤ R.slots) (hdg : decode cc pc = .ok (.invokevirtual 303, 3)) (kk : ∀ (H1 : Heap) (locs1 : List Loc), True → va_P D cl (mW mi cI cJ cB o ad th tp st fk fp ac si fr tt kd nu fa pl fo wd ci gr lm om out rd aa kp ta nm rn gv gt rw rh lg lh ou) H1 → va_S (mA o ad) H0 H1 locs1 → W p l e R s m args below meth c H1 locs1 cells slots Q (F0 m (pc + 3) ls (rest))) : W p l e R s m args below meth c H locs cells slots Q (F0 m pc ls (.int a2 :: .int a1 :: .int a0 :: .ref o :: rest)) :=
  gc_Vv (As := [.int a0, .int a1, .int a2]) S (mm_X3_offered hC hD hf) (cwV 3 S.2.2.2.2 (lw_V q2427 q2429 qs147 q189 q2430) rfl rfl rfl hd_X3_offered hR) (gPreV hK hP hC.1 (q0 := 0) rfl) rfl hsz rfl hW hdg hcs hS kk
end
