section
variable {l : Launch} {D : va_G} {cl : List vw_C} {tys : List (ClassId × FieldType)} {mi : Nat} {cI cJ cB : ClassId} {o : Nat} {ad : Nat → Nat} {th : Int32} {tp : Int32} {st : Int32} {fk : Int32} {fp : Int32} {ac : Int32} {si : Int32} {fr : Int32} {tt : Int32} {kd : Int32} {nu : Int32} {fa : Int32} {pl : Int32} {fo : Int32} {wd : Int64} {ci : Int32} {gr : Int32} {lm : Int32} {om : Int32} {nw : (Nat → Int32)} {rd : (Nat → Int32)} {aa : (Nat → Int32)} {kp : (Nat → Int32)} {ta : (Nat → Int32)} {nm : (Nat → Int64)} {rn : (Nat → Int64)} {gv : (Nat → Int32)} {gt : (Nat → Int32)} {rw : (Nat → Int32)} {rh : (Nat → Int32)} {lg : (Nat → Int32)} {lh : (Nat → Int32)} {ou : (Nat → Int32)}
variable {p : Program} {e : Env} {R : Room} {s : State} {m : MethodId} {args : Array Value} {below : List Frame} {meth : Method} {c : Code} {H H0 : Heap} {locs : List Loc} {cells slots : Nat} {Q : State → Prop} {cc : ByteArray} {nL pc : Nat} {ls : Array Slot} {rest : List Value}
theorem hd_X3_laysTrades : yX3_laysTrades.cls = RX3 ∧ yX3_laysTrades.cls ≠ "java/lang/invoke/MethodHandle" ∧ yX3_laysTrades.cls ≠ "java/lang/invoke/VarHandle" ∧ (parseMethodDescriptor yX3_laysTrades.desc).map (fun d => d.parameters.length) = some 0 := by decide +kernel
set_option maxHeartbeats 4000000 in
set_option maxRecDepth 100000 in
theorem mm_X3_laysTrades  {out : Int32 × Int32 × (Nat → Int32)} (hC : mC cl tys mi cI cJ cB) (hD : mD o ad) (hf : f_X3_laysTrades nw ci gr gt = some out) : Met l yX3_laysTrades (ws_ yX3_laysTrades cX3_laysTrades 4 none) (rM 4 90) (gPc D cl tys [.ref o] (mW mi cI cJ cB o ad th tp st fk fp ac si fr tt kd nu fa pl fo wd ci gr lm om nw rd aa kp ta nm rn gv gt rw rh lg lh ou)) (gQ D cl none True (mW mi cI cJ cB o ad th tp st fk fp ac si fr tt kd nu fa pl fo wd out.1 out.2.1 lm om nw rd aa kp ta nm rn gv out.2.2 rw rh lg lh ou) (mA o ad)) 0 0 (mA o ad) := by
  refine gGo (by decide +kernel) (Nat.le_of_ble_eq_true rfl) (fun p e s m below meth c ls S hr hlocks hK hP hl => ?_)
  have S : CallFix p m c cX3_laysTrades 4 s _ lw_all RX3 := S
  obtain ⟨hx, hb, hml, hown, hts⟩ := id S
  have hl : lv_has ls 4 [(0, .ref o)] := hl
  have w148 : ∀ (k52 : Int32 → Int32 → Int32 → (Nat → Int32) → Option (Int32 × Int32 × (Nat → Int32))), (∀ (b0 : Int32) (b1 : Int32) (b2 : Int32) (b3 : (Nat → Int32)) (ls : Array Slot) (H : Heap) (locs : List Loc), va_P D cl (mW mi cI cJ cB o ad th tp st fk fp ac si fr tt kd nu fa pl fo wd b1 b2 lm om nw rd aa kp ta nm rn gv b3 rw rh lg lh ou) H → va_S (mA o ad) s.heap H locs → lv_has ls 4 [(0, .ref o), (1, .int b0)] → k52 b0 b1 b2 b3 = some out → W p l e (rM 4 90) s m ([.ref o] : List Value).toArray below meth c H locs 0 0 (MQ below (gQ D cl none True (mW mi cI cJ cB o ad th tp st fk fp ac si fr tt kd nu fa pl fo wd out.1 out.2.1 lm om nw rd aa kp ta nm rn gv out.2.2 rw rh lg lh ou) (mA o ad)) ([.ref o] : List Value).toArray s 0 0 (mA o ad)) (F0 m 52 ls [])) → ∀ (x1 : Int32) (x3 : Int32) (y1 : Int32) (y2 : Int32) (ci : Int32) (gr : Int32) (gt : (Nat → Int32)) (ls : Array Slot) (H : Heap) (locs : List Loc), va_P D cl (mW mi cI cJ cB o ad th tp st fk fp ac si fr tt kd nu fa pl fo wd ci gr lm om nw rd aa kp ta nm rn gv gt rw rh lg lh ou) H → va_S (mA o ad) s.heap H locs → lv_has ls 4 [(0, .ref o), (1, .int x1), (3, .int x3)] → f_X3_laysTrades_148 k52 nw x1 x3 y1 y2 ci gr gt = some out → W p l e (rM 4 90) s m ([.ref o] : List Value).toArray below meth c H locs 0 0 (MQ below (gQ D cl none True (mW mi cI cJ cB o ad th tp st fk fp ac si fr tt kd nu fa pl fo wd out.1 out.2.1 lm om nw rd aa kp ta nm rn gv out.2.2 rw rh lg lh ou) (mA o ad)) ([.ref o] : List Value).toArray s 0 0 (mA o ad)) (F0 m 148 ls [.int y2, .int y1, .ref o]) := by
    intro k52 hk52 x1 x3 y1 y2 ci gr gt ls H locs hP hS hl hf
    rw [f_X3_laysTrades_148] at hf
    refine lv_iadd hx hb dX3_laysTrades_148 ?_
    refine mp_24 S hC hD hK hP hS dX3_laysTrades_149 (fun H locs hP hS => ?_)
    refine lv_aload_n hx hb dX3_laysTrades_152 rfl (lv_at hl 0 rfl) ?_
    refine lv_aload_n hx hb dX3_laysTrades_153 rfl (lv_at hl 0 rfl) ?_
    refine mg_25 S hC hK hP dX3_laysTrades_154 ?_
    refine lv_iload_n hx hb dX3_laysTrades_157 rfl (lv_at hl 2 rfl) ?_
    obtain ⟨v1, hv1, hf⟩ := ob_s hf
    refine mc_X3_X3_bits S hK hv1 hl.1 ⟨Nat.le_of_ble_eq_true rfl, Nat.le_of_ble_eq_true rfl⟩ (Nat.le_of_ble_eq_true rfl) ⟨Nat.zero_le _, Nat.zero_le _⟩ dX3_laysTrades_158 (fun _ => ?_)
    obtain ⟨v2, hv2, hf⟩ := ob_s hf
    refine mc_X3_J6_max S hK hv2 hl.1 ⟨Nat.le_of_ble_eq_true rfl, Nat.le_of_ble_eq_true rfl⟩ (Nat.le_of_ble_eq_true rfl) ⟨Nat.zero_le _, Nat.zero_le _⟩ dX3_laysTrades_161 (fun _ => ?_)
    refine mp_25 S hC hD hK hP hS dX3_laysTrades_164 (fun H locs hP hS => ?_)
    refine lv_iload_n hx hb dX3_laysTrades_167 rfl (lv_at hl 1 rfl) ?_
    refine lv_iload_n hx hb dX3_laysTrades_168 rfl (lv_at hl 2 rfl) ?_
    refine lv_iconst hx hb dX3_laysTrades_169 kc_im1 ?_
    refine lv_ixor hx hb dX3_laysTrades_170 ?_
    refine lv_iand hx hb dX3_laysTrades_171 ?_
    refine lv_istore_n (i := 1) (lv' := [(1, .int (x1 &&& (x3 ^^^ (-1)))), (0, .ref o), (3, .int x3)]) hx hb dX3_laysTrades_172 rfl hl (by decide) rfl (fun ls hl => ?_)
    refine lv_goto (tgt := 52) hx hb dX3_laysTrades_173 (by decide) ?_
    exact hk52 (x1 &&& (x3 ^^^ (-1))) (y1 + y2) v2 gt ls H locs hP hS (lv_sub (l' := [(0, .ref o), (1, .int (x1 &&& (x3 ^^^ (-1))))]) hl [1, 0] rfl) hf
  have w89 : ∀ (n : Nat) (k52 : Int32 → Int32 → Int32 → (Nat → Int32) → Option (Int32 × Int32 × (Nat → Int32))), (∀ (b0 : Int32) (b1 : Int32) (b2 : Int32) (b3 : (Nat → Int32)) (ls : Array Slot) (H : Heap) (locs : List Loc), va_P D cl (mW mi cI cJ cB o ad th tp st fk fp ac si fr tt kd nu fa pl fo wd b1 b2 lm om nw rd aa kp ta nm rn gv b3 rw rh lg lh ou) H → va_S (mA o ad) s.heap H locs → lv_has ls 4 [(0, .ref o), (1, .int b0)] → k52 b0 b1 b2 b3 = some out → W p l e (rM 4 90) s m ([.ref o] : List Value).toArray below meth c H locs 0 0 (MQ below (gQ D cl none True (mW mi cI cJ cB o ad th tp st fk fp ac si fr tt kd nu fa pl fo wd out.1 out.2.1 lm om nw rd aa kp ta nm rn gv out.2.2 rw rh lg lh ou) (mA o ad)) ([.ref o] : List Value).toArray s 0 0 (mA o ad)) (F0 m 52 ls [])) → ∀ (x1 : Int32) (x2 : Int32) (x3 : Int32) (ci : Int32) (gr : Int32) (gt : (Nat → Int32)) (ls : Array Slot) (H : Heap) (locs : List Loc), va_P D cl (mW mi cI cJ cB o ad th tp st fk fp ac si fr tt kd nu fa pl fo wd ci gr lm om nw rd aa kp ta nm rn gv gt rw rh lg lh ou) H → va_S (mA o ad) s.heap H locs → lv_has ls 4 [(0, .ref o), (1, .int x1), (2, .int x2), (3, .int x3)] → f_X3_laysTrades_89 n k52 nw x1 x2 x3 ci gr gt = some out → W p l e (rM 4 90) s m ([.ref o] : List Value).toArray below meth c H locs 0 0 (MQ below (gQ D cl none True (mW mi cI cJ cB o ad th tp st fk fp ac si fr tt kd nu fa pl fo wd out.1 out.2.1 lm om nw rd aa kp ta nm rn gv out.2.2 rw rh lg lh ou) (mA o ad)) ([.ref o] : List Value).toArray s 0 0 (mA o ad)) (F0 m 89 ls []) := by
    intro n
    induction n with
    | zero =>
      intro k52 hk52 x1 x2 x3 ci gr gt ls H locs hP hS hl hf
      exact absurd hf (by rw [f_X3_laysTrades_89]; exact nofun)
    | succ n ih =>
      intro k52 hk52 x1 x2 x3 ci gr gt ls H locs hP hS hl hf
      rw [f_X3_laysTrades_89] at hf
      refine lv_iload_n hx hb dX3_laysTrades_89 rfl (lv_at hl 3 rfl) ?_
      refine lv_iload_n hx hb dX3_laysTrades_90 rfl (lv_at hl 2 rfl) ?_
      refine lv_ishr hx hb dX3_laysTrades_91 ?_
      refine lv_iconst hx hb dX3_laysTrades_92 kc_i1 ?_
      refine lv_iand hx hb dX3_laysTrades_93 ?_
      refine lv_if_ne (tgt := 130) hx hb dX3_laysTrades_94 (by decide) (fun c1 => ?_) (fun c1 => ?_)
      · replace hf := it_f c1 hf
        refine lv_aload_n hx hb dX3_laysTrades_130 rfl (lv_at hl 0 rfl) ?_
        refine lv_dup hx hb dX3_laysTrades_131 rfl ?_
        refine mg_24 S hC hK hP dX3_laysTrades_132 ?_
        refine lv_iload_n hx hb dX3_laysTrades_135 rfl (lv_at hl 3 rfl) ?_
        obtain ⟨v2, hv2, hf⟩ := ob_s hf
        refine mc_X3_X3_bits S hK hv2 hl.1 ⟨Nat.le_of_ble_eq_true rfl, Nat.le_of_ble_eq_true rfl⟩ (Nat.le_of_ble_eq_true rfl) ⟨Nat.zero_le _, Nat.zero_le _⟩ dX3_laysTrades_136 (fun _ => ?_)
        refine lv_iconst hx hb dX3_laysTrades_139 kc_i1 ?_
        refine lv_icmp_le (tgt := 147) hx hb dX3_laysTrades_140 (by decide) (fun c3 => ?_) (fun c3 => ?_)
        · replace hf := it_t c3 hf
          refine lv_iconst hx hb dX3_laysTrades_147 kc_i0 ?_
          exact (w148 k52 hk52) x1 x3 ci 0 ci gr gt ls H locs hP hS (lv_sub (l' := [(0, .ref o), (1, .int x1), (3, .int x3)]) hl [0, 1, 3] rfl) hf
        · replace hf := it_f c3 hf
          refine lv_iconst hx hb dX3_laysTrades_143 kc_i1 ?_
          refine lv_goto (tgt := 148) hx hb dX3_laysTrades_144 (by decide) ?_
          exact (w148 k52 hk52) x1 x3 ci 1 ci gr gt ls H locs hP hS (lv_sub (l' := [(0, .ref o), (1, .int x1), (3, .int x3)]) hl [0, 1, 3] rfl) hf
      · replace hf := it_t c1 hf
        refine lv_iload_n hx hb dX3_laysTrades_97 rfl (lv_at hl 3 rfl) ?_
        refine lv_iconst hx hb dX3_laysTrades_98 kc_i1 ?_
        refine lv_iload_n hx hb dX3_laysTrades_99 rfl (lv_at hl 2 rfl) ?_
        refine lv_ishl hx hb dX3_laysTrades_100 ?_
        refine lv_ior hx hb dX3_laysTrades_101 ?_
        refine lv_istore_n (i := 3) (lv' := [(3, .int (x3 ||| (1 <<< (x2 &&& 31)))), (0, .ref o), (1, .int x1), (2, .int x2)]) hx hb dX3_laysTrades_102 rfl hl (by decide) rfl (fun ls hl => ?_)
        refine lv_aload_n hx hb dX3_laysTrades_103 rfl (lv_at hl 1 rfl) ?_
        refine mg_23 S hC hK hP dX3_laysTrades_104 ?_
        refine lv_iload_n hx hb dX3_laysTrades_107 rfl (lv_at hl 3 rfl) ?_
        refine lv_aload_n hx hb dX3_laysTrades_108 rfl (lv_at hl 1 rfl) ?_
        refine lv_iload_n hx hb dX3_laysTrades_109 rfl (lv_at hl 3 rfl) ?_
        refine lv_iload_n hx hb dX3_laysTrades_110 rfl (lv_at hl 2 rfl) ?_
        obtain ⟨v4, hv4, hf⟩ := ob_s hf
        refine mc_X3_X3_looksAt S hC hK hP hv4 hl.1 ⟨Nat.le_of_ble_eq_true rfl, Nat.le_of_ble_eq_true rfl⟩ (Nat.le_of_ble_eq_true rfl) ⟨Nat.zero_le _, Nat.zero_le _⟩ dX3_laysTrades_111 (fun _ => ?_)
        obtain ⟨g5, hf⟩ := gd_t hf
        refine ms_23 S hC hD hK hP hS (inR_vp g5) rfl dX3_laysTrades_114 (fun H locs hP hS => ?_)
        refine lv_aload_n hx hb dX3_laysTrades_115 rfl (lv_at hl 1 rfl) ?_
        refine lv_aload_n hx hb dX3_laysTrades_116 rfl (lv_at hl 1 rfl) ?_
        refine mg_23 S hC hK hP dX3_laysTrades_117 ?_
        refine lv_iload_n hx hb dX3_laysTrades_120 rfl (lv_at hl 3 rfl) ?_
        obtain ⟨g6, hf⟩ := gd_t hf
        refine ma_23 S hC hK hP (inR_vp g6) rfl dX3_laysTrades_121 ?_
        refine lv_iconst hx hb dX3_laysTrades_122 kc_i2 ?_
        obtain ⟨v7, hv7, hf⟩ := ob_s hf
        refine mc_X3_X3_home0 S hC hK hP hv7 hl.1 ⟨Nat.le_of_ble_eq_true rfl, Nat.le_of_ble_eq_true rfl⟩ (Nat.le_of_ble_eq_true rfl) ⟨Nat.zero_le _, Nat.zero_le _⟩ dX3_laysTrades_123 (fun _ => ?_)
        refine lv_istore_n (i := 2) (lv' := [(2, .int v7), (3, .int (x3 ||| (1 <<< (x2 &&& 31)))), (0, .ref o), (1, .int x1)]) hx hb dX3_laysTrades_126 rfl hl (by decide) rfl (fun ls hl => ?_)
        refine lv_goto (tgt := 89) hx hb dX3_laysTrades_127 (by decide) ?_
        exact (ih k52 hk52) x1 v7 (x3 ||| (1 <<< (x2 &&& 31))) ci gr (upd gt x2.toNatClampNeg v4) ls H locs hP hS (lv_sub (l' := [(0, .ref o), (1, .int x1), (2, .int v7), (3, .int (x3 ||| (1 <<< (x2 &&& 31))))]) hl [2, 3, 0, 1] rfl) hf
  have w63 : ∀ (n : Nat) (k52 : Int32 → Int32 → Int32 → (Nat → Int32) → Option (Int32 × Int32 × (Nat → Int32))), (∀ (b0 : Int32) (b1 : Int32) (b2 : Int32) (b3 : (Nat → Int32)) (ls : Array Slot) (H : Heap) (locs : List Loc), va_P D cl (mW mi cI cJ cB o ad th tp st fk fp ac si fr tt kd nu fa pl fo wd b1 b2 lm om nw rd aa kp ta nm rn gv b3 rw rh lg lh ou) H → va_S (mA o ad) s.heap H locs → lv_has ls 4 [(0, .ref o), (1, .int b0)] → k52 b0 b1 b2 b3 = some out → W p l e (rM 4 90) s m ([.ref o] : List Value).toArray below meth c H locs 0 0 (MQ below (gQ D cl none True (mW mi cI cJ cB o ad th tp st fk fp ac si fr tt kd nu fa pl fo wd out.1 out.2.1 lm om nw rd aa kp ta nm rn gv out.2.2 rw rh lg lh ou) (mA o ad)) ([.ref o] : List Value).toArray s 0 0 (mA o ad)) (F0 m 52 ls [])) → ∀ (x1 : Int32) (x2 : Int32) (x3 : Int32) (ci : Int32) (gr : Int32) (gt : (Nat → Int32)) (ls : Array Slot) (H : Heap) (locs : List Loc), va_P D cl (mW mi cI cJ cB o ad th tp st fk fp ac si fr tt kd nu fa pl fo wd ci gr lm om nw rd aa kp ta nm rn gv gt rw rh lg lh ou) H → va_S (mA o ad) s.heap H locs → lv_has ls 4 [(0, .ref o), (1, .int x1), (2, .int x2), (3, .int x3)] → f_X3_laysTrades_63 n k52 nw x1 x2 x3 ci gr gt = some out → W p l e (rM 4 90) s m ([.ref o] : List Value).toArray below meth c H locs 0 0 (MQ below (gQ D cl none True (mW mi cI cJ cB o ad th tp st fk fp ac si fr tt kd nu fa pl fo wd out.1 out.2.1 lm om nw rd aa kp ta nm rn gv out.2.2 rw rh lg lh ou) (mA o ad)) ([.ref o] : List Value).toArray s 0 0 (mA o ad)) (F0 m 63 ls []) := by
    intro n
    induction n with
    | zero =>
      intro k52 hk52 x1 x2 x3 ci gr gt ls H locs hP hS hl hf
      exact absurd hf (by rw [f_X3_laysTrades_63]; exact nofun)
    | succ n ih =>
      intro k52 hk52 x1 x2 x3 ci gr gt ls H locs hP hS hl hf
      rw [f_X3_laysTrades_63] at hf
      refine lv_iload_n hx hb dX3_laysTrades_63 rfl (lv_at hl 3 rfl) ?_
      refine lv_bipush hx hb dX3_laysTrades_64 kc_b8 ?_
      refine lv_icmp_ge (tgt := 87) hx hb dX3_laysTrades_66 (by decide) (fun c1 => ?_) (fun c1 => ?_)
      · replace hf := it_t c1 hf
        refine lv_iconst hx hb dX3_laysTrades_87 kc_i0 ?_
        refine lv_istore_n (i := 3) (lv' := [(3, .int 0), (0, .ref o), (1, .int x1), (2, .int x2)]) hx hb dX3_laysTrades_88 rfl hl (by decide) rfl (fun ls hl => ?_)
        exact (w89 FU k52 hk52) x1 x2 0 ci gr gt ls H locs hP hS (lv_sub (l' := [(0, .ref o), (1, .int x1), (2, .int x2), (3, .int 0)]) hl [1, 2, 3, 0] rfl) hf
      · replace hf := it_f c1 hf
        refine lv_aload_n hx hb dX3_laysTrades_69 rfl (lv_at hl 0 rfl) ?_
        refine lv_aload_n hx hb dX3_laysTrades_70 rfl (lv_at hl 0 rfl) ?_
        refine lv_iload_n hx hb dX3_laysTrades_71 rfl (lv_at hl 2 rfl) ?_
        refine lv_iload_n hx hb dX3_laysTrades_72 rfl (lv_at hl 1 rfl) ?_
        obtain ⟨v2, hv2, hf⟩ := ob_s hf
        refine mc_X3_X3_looksAt S hC hK hP hv2 hl.1 ⟨Nat.le_of_ble_eq_true rfl, Nat.le_of_ble_eq_true rfl⟩ (Nat.le_of_ble_eq_true rfl) ⟨Nat.zero_le _, Nat.zero_le _⟩ dX3_laysTrades_73 (fun _ => ?_)
        refine lv_iconst hx hb dX3_laysTrades_76 kc_i2 ?_
        obtain ⟨v3, hv3, hf⟩ := ob_s hf
        refine mc_X3_X3_home0 S hC hK hP hv3 hl.1 ⟨Nat.le_of_ble_eq_true rfl, Nat.le_of_ble_eq_true rfl⟩ (Nat.le_of_ble_eq_true rfl) ⟨Nat.zero_le _, Nat.zero_le _⟩ dX3_laysTrades_77 (fun _ => ?_)
        refine lv_istore_n (i := 2) (lv' := [(2, .int v3), (0, .ref o), (1, .int x1), (3, .int x3)]) hx hb dX3_laysTrades_80 rfl hl (by decide) rfl (fun ls hl => ?_)
        refine lv_iinc (v := (x3 + 1)) (lv' := [(3, .int (x3 + 1)), (2, .int v3), (0, .ref o), (1, .int x1)]) hx hb dX3_laysTrades_81 hl (k := 3) rfl rfl (by decide) rfl (fun ls hl => ?_)
        refine lv_goto (tgt := 63) hx hb dX3_laysTrades_84 (by decide) ?_
        exact (ih k52 hk52) x1 v3 (x3 + 1) ci gr gt ls H locs hP hS (lv_sub (l' := [(0, .ref o), (1, .int x1), (2, .int v3), (3, .int (x3 + 1))]) hl [2, 3, 1, 0] rfl) hf
  have w52 : ∀ (n : Nat) , ∀ (x1 : Int32) (ci : Int32) (gr : Int32) (gt : (Nat → Int32)) (ls : Array Slot) (H : Heap) (locs : List Loc), va_P D cl (mW mi cI cJ cB o ad th tp st fk fp ac si fr tt kd nu fa pl fo wd ci gr lm om nw rd aa kp ta nm rn gv gt rw rh lg lh ou) H → va_S (mA o ad) s.heap H locs → lv_has ls 4 [(0, .ref o), (1, .int x1)] → f_X3_laysTrades_52 n nw x1 ci gr gt = some out → W p l e (rM 4 90) s m ([.ref o] : List Value).toArray below meth c H locs 0 0 (MQ below (gQ D cl none True (mW mi cI cJ cB o ad th tp st fk fp ac si fr tt kd nu fa pl fo wd out.1 out.2.1 lm om nw rd aa kp ta nm rn gv out.2.2 rw rh lg lh ou) (mA o ad)) ([.ref o] : List Value).toArray s 0 0 (mA o ad)) (F0 m 52 ls []) := by
    intro n
    induction n with
    | zero =>
      intro x1 ci gr gt ls H locs hP hS hl hf
      exact absurd hf (by rw [f_X3_laysTrades_52]; exact nofun)
    | succ n ih =>
      intro x1 ci gr gt ls H locs hP hS hl hf
      rw [f_X3_laysTrades_52] at hf
      refine lv_iload_n hx hb dX3_laysTrades_52 rfl (lv_at hl 1 rfl) ?_
      refine lv_if_eq (tgt := 176) hx hb dX3_laysTrades_53 (by decide) (fun c1 => ?_) (fun c1 => ?_)
      · replace hf := it_t c1 hf
        have hE := Option.some.inj hf
        subst hE
        exact gt_wv S hr hlocks trivial hP hS dX3_laysTrades_176
      · replace hf := it_f c1 hf
        refine lv_iload_n hx hb dX3_laysTrades_56 rfl (lv_at hl 1 rfl) ?_
        obtain ⟨v2, hv2, hf⟩ := ob_s hf
        refine mc_X3_J5_numberOfTrailingZeros S hK hv2 hl.1 ⟨Nat.le_of_ble_eq_true rfl, Nat.le_of_ble_eq_true rfl⟩ (Nat.le_of_ble_eq_true rfl) ⟨Nat.zero_le _, Nat.zero_le _⟩ dX3_laysTrades_57 (fun _ => ?_)
        refine lv_istore_n (i := 2) (lv' := [(2, .int v2), (0, .ref o), (1, .int x1)]) hx hb dX3_laysTrades_60 rfl hl (by decide) rfl (fun ls hl => ?_)
        refine lv_iconst hx hb dX3_laysTrades_61 kc_i0 ?_
        refine lv_istore_n (i := 3) (lv' := [(3, .int 0), (2, .int v2), (0, .ref o), (1, .int x1)]) hx hb dX3_laysTrades_62 rfl hl (by decide) rfl (fun ls hl => ?_)
        exact (w63 FU (f_X3_laysTrades_52 n nw) (ih)) x1 v2 0 ci gr gt ls H locs hP hS (lv_sub (l' := [(0, .ref o), (1, .int x1), (2, .int v2), (3, .int 0)]) hl [2, 3, 1, 0] rfl) hf
  have w14 : ∀ (n : Nat) , ∀ (x1 : Int32) (x2 : Int32) (ci : Int32) (gr : Int32) (gt : (Nat → Int32)) (ls : Array Slot) (H : Heap) (locs : List Loc), va_P D cl (mW mi cI cJ cB o ad th tp st fk fp ac si fr tt kd nu fa pl fo wd ci gr lm om nw rd aa kp ta nm rn gv gt rw rh lg lh ou) H → va_S (mA o ad) s.heap H locs → lv_has ls 4 [(0, .ref o), (1, .int x1), (2, .int x2)] → f_X3_laysTrades_14 n nw x1 x2 ci gr gt = some out → W p l e (rM 4 90) s m ([.ref o] : List Value).toArray below meth c H locs 0 0 (MQ below (gQ D cl none True (mW mi cI cJ cB o ad th tp st fk fp ac si fr tt kd nu fa pl fo wd out.1 out.2.1 lm om nw rd aa kp ta nm rn gv out.2.2 rw rh lg lh ou) (mA o ad)) ([.ref o] : List Value).toArray s 0 0 (mA o ad)) (F0 m 14 ls []) := by
    intro n
    induction n with
    | zero =>
      intro x1 x2 ci gr gt ls H locs hP hS hl hf
      exact absurd hf (by rw [f_X3_laysTrades_14]; exact nofun)
    | succ n ih =>
      intro x1 x2 ci gr gt ls H locs hP hS hl hf
      rw [f_X3_laysTrades_14] at hf
      refine lv_iload_n hx hb dX3_laysTrades_14 rfl (lv_at hl 2 rfl) ?_
      refine lv_aload_n hx hb dX3_laysTrades_15 rfl (lv_at hl 0 rfl) ?_
      refine mg_1 S hC hK hP dX3_laysTrades_16 ?_
      refine lv_sipush hx hb dX3_laysTrades_19 kc_s231 ?_
      refine ma_1 S hC hK hP kv_231_390 kn_231 dX3_laysTrades_22 ?_
      refine lv_icmp_ge (tgt := 52) hx hb dX3_laysTrades_23 (by decide) (fun c1 => ?_) (fun c1 => ?_)
      · replace hf := it_t c1 hf
        exact (w52 FU) x1 ci gr gt ls H locs hP hS (lv_sub (l' := [(0, .ref o), (1, .int x1)]) hl [0, 1] rfl) hf
      · replace hf := it_f c1 hf
        refine lv_iload_n hx hb dX3_laysTrades_26 rfl (lv_at hl 1 rfl) ?_
        refine lv_aload_n hx hb dX3_laysTrades_27 rfl (lv_at hl 0 rfl) ?_
        refine lv_iload_n hx hb dX3_laysTrades_28 rfl (lv_at hl 2 rfl) ?_
        refine lv_iconst hx hb dX3_laysTrades_29 kc_i4 ?_
        obtain ⟨v2, hv2, hf⟩ := ob_s hf
        refine mc_X3_X3_of S hC hK hP hv2 hl.1 ⟨Nat.le_of_ble_eq_true rfl, Nat.le_of_ble_eq_true rfl⟩ (Nat.le_of_ble_eq_true rfl) ⟨Nat.zero_le _, Nat.zero_le _⟩ dX3_laysTrades_30 (fun _ => ?_)
        refine lv_iconst hx hb dX3_laysTrades_33 kc_im1 ?_
        refine lv_icmp_ne (tgt := 41) hx hb dX3_laysTrades_34 (by decide) (fun c3 => ?_) (fun c3 => ?_)
        · replace hf := it_f c3 hf
          refine lv_iconst hx hb dX3_laysTrades_41 kc_i1 ?_
          refine lv_iload_n hx hb dX3_laysTrades_42 rfl (lv_at hl 2 rfl) ?_
          refine lv_ishl hx hb dX3_laysTrades_43 ?_
          refine lv_ior hx hb dX3_laysTrades_44 ?_
          refine lv_istore_n (i := 1) (lv' := [(1, .int (x1 ||| (1 <<< (x2 &&& 31)))), (0, .ref o), (2, .int x2)]) hx hb dX3_laysTrades_45 rfl hl (by decide) rfl (fun ls hl => ?_)
          refine lv_iinc (v := (x2 + 1)) (lv' := [(2, .int (x2 + 1)), (1, .int (x1 ||| (1 <<< (x2 &&& 31)))), (0, .ref o)]) hx hb dX3_laysTrades_46 hl (k := 2) rfl rfl (by decide) rfl (fun ls hl => ?_)
          refine lv_goto (tgt := 14) hx hb dX3_laysTrades_49 (by decide) ?_
          exact (ih) (x1 ||| (1 <<< (x2 &&& 31))) (x2 + 1) ci gr gt ls H locs hP hS (lv_sub (l' := [(0, .ref o), (1, .int (x1 ||| (1 <<< (x2 &&& 31)))), (2, .int (x2 + 1))]) hl [2, 1, 0] rfl) hf
        · replace hf := it_t c3 hf
          refine lv_iconst hx hb dX3_laysTrades_37 kc_i0 ?_
          refine lv_goto (tgt := 44) hx hb dX3_laysTrades_38 (by decide) ?_
          refine lv_ior hx hb dX3_laysTrades_44 ?_
          refine lv_istore_n (i := 1) (lv' := [(1, .int (x1 ||| 0)), (0, .ref o), (2, .int x2)]) hx hb dX3_laysTrades_45 rfl hl (by decide) rfl (fun ls hl => ?_)
          refine lv_iinc (v := (x2 + 1)) (lv' := [(2, .int (x2 + 1)), (1, .int (x1 ||| 0)), (0, .ref o)]) hx hb dX3_laysTrades_46 hl (k := 2) rfl rfl (by decide) rfl (fun ls hl => ?_)
          refine lv_goto (tgt := 14) hx hb dX3_laysTrades_49 (by decide) ?_
          exact (ih) (x1 ||| 0) (x2 + 1) ci gr gt ls H locs hP hS (lv_sub (l' := [(0, .ref o), (1, .int (x1 ||| 0)), (2, .int (x2 + 1))]) hl [2, 1, 0] rfl) hf
  suffices hg : ∀ (H : Heap) (locs : List Loc), va_P D cl (mW mi cI cJ cB o ad th tp st fk fp ac si fr tt kd nu fa pl fo wd ci gr lm om nw rd aa kp ta nm rn gv gt rw rh lg lh ou) H → va_S (mA o ad) s.heap H locs → W p l e (rM 4 90) s m ([.ref o] : List Value).toArray below meth c H locs 0 0 (MQ below (gQ D cl none True (mW mi cI cJ cB o ad th tp st fk fp ac si fr tt kd nu fa pl fo wd out.1 out.2.1 lm om nw rd aa kp ta nm rn gv out.2.2 rw rh lg lh ou) (mA o ad)) ([.ref o] : List Value).toArray s 0 0 (mA o ad)) (F0 m 0 ls []) from hg s.heap [] hP va_S.rf
  clear hP
  intro H locs hP hS
  rw [f_X3_laysTrades] at hf
  refine lv_iconst hx hb dX3_laysTrades_0 kc_i0 ?_
  refine lv_istore_n (i := 1) (lv' := [(1, .int 0), (0, .ref o)]) hx hb dX3_laysTrades_1 rfl hl (by decide) rfl (fun ls hl => ?_)
  refine lv_aload_n hx hb dX3_laysTrades_2 rfl (lv_at hl 1 rfl) ?_
  refine lv_iconst hx hb dX3_laysTrades_3 kc_i0 ?_
  refine mp_24 S hC hD hK hP hS dX3_laysTrades_4 (fun H locs hP hS => ?_)
  refine lv_aload_n hx hb dX3_laysTrades_7 rfl (lv_at hl 1 rfl) ?_
  refine lv_iconst hx hb dX3_laysTrades_8 kc_i0 ?_
  refine mp_25 S hC hD hK hP hS dX3_laysTrades_9 (fun H locs hP hS => ?_)
  refine lv_iconst hx hb dX3_laysTrades_12 kc_i0 ?_
  refine lv_istore_n (i := 2) (lv' := [(2, .int 0), (1, .int 0), (0, .ref o)]) hx hb dX3_laysTrades_13 rfl hl (by decide) rfl (fun ls hl => ?_)
  exact (w14 FU) 0 0 0 0 gt ls H locs hP hS (lv_sub (l' := [(0, .ref o), (1, .int 0), (2, .int 0)]) hl [2, 1, 0] rfl) hf
set_option maxRecDepth 100000 in
theorem mc_X3_X3_laysTrades  {out : Int32 × Int32 × (Nat → Int32)} (S : CallFix p m c cc nL s args lw_all RX3) (hC : mC cl tys mi cI cJ cB) (hD : mD o ad) (hK : va_K D cl tys s) (hP : va_P D cl (mW mi cI cJ cB o ad th tp st fk fp ac si fr tt kd nu fa pl fo wd ci gr lm om nw rd aa kp ta nm rn gv gt rw rh lg lh ou) H) (hS : va_S (mA o ad) H0 H locs) (hf : f_X3_laysTrades nw ci gr gt = some out) (hsz : ls.size = nL) (hR : 4 + 1 ≤ R.frames ∧ 8 + (4 + 11) + 90 ≤ R.locals) (hW : (rest.map fun v => v.category).sum ≤ 8) (hcs : cells ≤ R.cells ∧ slots ≤ R.slots) (hdg : decode cc pc = .ok (.invokevirtual 380, 3)) (kk : ∀ (H1 : Heap) (locs1 : List Loc), True → va_P D cl (mW mi cI cJ cB o ad th tp st fk fp ac si fr tt kd nu fa pl fo wd out.1 out.2.1 lm om nw rd aa kp ta nm rn gv out.2.2 rw rh lg lh ou) H1 → va_S (mA o ad) H0 H1 locs1 → W p l e R s m args below meth c H1 locs1 cells slots Q (F0 m (pc + 3) ls (rest))) : W p l e R s m args below meth c H locs cells slots Q (F0 m pc ls (.ref o :: rest)) :=
  gc_Vv (As := []) S (mm_X3_laysTrades hC hD hf) (cwV 0 S.2.2.2.2 (lw_V q2541 q2543 qs162 q189 q2544) rfl rfl rfl hd_X3_laysTrades hR) (gPreV hK hP hC.1 (q0 := 0) rfl) rfl hsz rfl hW hdg hcs hS kk
theorem hd_X3_trade : yX3_trade.cls = RX3 ∧ yX3_trade.cls ≠ "java/lang/invoke/MethodHandle" ∧ yX3_trade.cls ≠ "java/lang/invoke/VarHandle" ∧ (parseMethodDescriptor yX3_trade.desc).map (fun d => d.parameters.length) = some 1 := by decide +kernel
set_option maxHeartbeats 4000000 in
set_option maxRecDepth 100000 in
theorem mm_X3_trade {a0 : Int32} {out : Int32 × Int32 × Int32 × Int32 × Int32 × (Nat → Int32)} (hC : mC cl tys mi cI cJ cB) (hD : mD o ad) (hf : f_X3_trade nw th st ci gr gt a0 = some out) : Met l yX3_trade (ws_ yX3_trade cX3_trade 2 (some .int)) (rM 5 113) (gPc D cl tys [.ref o, .int a0] (mW mi cI cJ cB o ad th tp st fk fp ac si fr tt kd nu fa pl fo wd ci gr lm om nw rd aa kp ta nm rn gv gt rw rh lg lh ou)) (gQ D cl (some (.int out.1)) True (mW mi cI cJ cB o ad out.2.1 tp out.2.2.1 fk fp ac si fr tt kd nu fa pl fo wd out.2.2.2.1 out.2.2.2.2.1 lm om nw rd aa kp ta nm rn gv out.2.2.2.2.2 rw rh lg lh ou) (mA o ad)) 0 0 (mA o ad) := by
  refine gGo (by decide +kernel) (Nat.le_of_ble_eq_true rfl) (fun p e s m below meth c ls S hr hlocks hK hP hl => ?_)
  have S : CallFix p m c cX3_trade 2 s _ lw_all RX3 := S
  obtain ⟨hx, hb, hml, hown, hts⟩ := id S
  have hl : lv_has ls 2 [(0, .ref o), (1, .int a0)] := hl
  suffices hg : ∀ (H : Heap) (locs : List Loc), va_P D cl (mW mi cI cJ cB o ad th tp st fk fp ac si fr tt kd nu fa pl fo wd ci gr lm om nw rd aa kp ta nm rn gv gt rw rh lg lh ou) H → va_S (mA o ad) s.heap H locs → W p l e (rM 5 113) s m ([.ref o, .int a0] : List Value).toArray below meth c H locs 0 0 (MQ below (gQ D cl (some (.int out.1)) True (mW mi cI cJ cB o ad out.2.1 tp out.2.2.1 fk fp ac si fr tt kd nu fa pl fo wd out.2.2.2.1 out.2.2.2.2.1 lm om nw rd aa kp ta nm rn gv out.2.2.2.2.2 rw rh lg lh ou) (mA o ad)) ([.ref o, .int a0] : List Value).toArray s 0 0 (mA o ad)) (F0 m 0 ls []) from hg s.heap [] hP va_S.rf
  clear hP
  intro H locs hP hS
  rw [f_X3_trade] at hf
  refine lv_aload_n hx hb dX3_trade_0 rfl (lv_at hl 0 rfl) ?_
  refine lv_iload_n hx hb dX3_trade_1 rfl (lv_at hl 1 rfl) ?_
  obtain ⟨v1, hv1, hf⟩ := ob_s hf
  refine mc_X3_X3_isHouse S hC hK hP hv1 hl.1 ⟨Nat.le_of_ble_eq_true rfl, Nat.le_of_ble_eq_true rfl⟩ (Nat.le_of_ble_eq_true rfl) ⟨Nat.zero_le _, Nat.zero_le _⟩ dX3_trade_2 (fun hnv1 => ?_)
  refine lv_if_ne (tgt := 14) hx hb dX3_trade_5 (by decide) (fun c2 => ?_) (fun c2 => ?_)
  · replace hf := it_f c2 hf
    refine lv_aload_n hx hb dX3_trade_14 rfl (lv_at hl 0 rfl) ?_
    refine lv_iload_n hx hb dX3_trade_15 rfl (lv_at hl 1 rfl) ?_
    refine lv_iconst hx hb dX3_trade_16 kc_i4 ?_
    obtain ⟨v3, hv3, hf⟩ := ob_s hf
    refine mc_X3_X3_of S hC hK hP hv3 hl.1 ⟨Nat.le_of_ble_eq_true rfl, Nat.le_of_ble_eq_true rfl⟩ (Nat.le_of_ble_eq_true rfl) ⟨Nat.zero_le _, Nat.zero_le _⟩ dX3_trade_17 (fun _ => ?_)
    refine lv_iconst hx hb dX3_trade_20 kc_im1 ?_
    refine lv_icmp_ne (tgt := 30) hx hb dX3_trade_21 (by decide) (fun c4 => ?_) (fun c4 => ?_)
    · replace hf := it_f c4 hf
      refine lv_aload_n hx hb dX3_trade_30 rfl (lv_at hl 0 rfl) ?_
      obtain ⟨v5, hv5, hf⟩ := ob_s hf
      refine mc_X3_X3_laysTrades S hC hD hK hP hS hv5 hl.1 ⟨Nat.le_of_ble_eq_true rfl, Nat.le_of_ble_eq_true rfl⟩ (Nat.le_of_ble_eq_true rfl) ⟨Nat.zero_le _, Nat.zero_le _⟩ dX3_trade_31 (fun H locs _ hP hS => ?_)
      refine lv_aload_n hx hb dX3_trade_34 rfl (lv_at hl 0 rfl) ?_
      refine lv_aload_n hx hb dX3_trade_35 rfl (lv_at hl 0 rfl) ?_
      refine mg_23 S hC hK hP dX3_trade_36 ?_
      refine lv_iload_n hx hb dX3_trade_39 rfl (lv_at hl 1 rfl) ?_
      obtain ⟨g6, hf⟩ := gd_t hf
      refine ma_23 S hC hK hP (inR_vp g6) rfl dX3_trade_40 ?_
      obtain ⟨v7, hv7, hf⟩ := ob_s hf
      refine mc_X3_X3_gives S hC hD hK hP hS hv7 hl.1 ⟨Nat.le_of_ble_eq_true rfl, Nat.le_of_ble_eq_true rfl⟩ (Nat.le_of_ble_eq_true rfl) ⟨Nat.zero_le _, Nat.zero_le _⟩ dX3_trade_41 (fun H locs _ hP hS => ?_)
      have hE := Option.some.inj hf
      subst hE
      exact gt_wi S hr hlocks trivial hP hS dX3_trade_44
    · replace hf := it_t c4 hf
      refine lv_aload_n hx hb dX3_trade_24 rfl (lv_at hl 0 rfl) ?_
      refine lv_iconst hx hb dX3_trade_25 kc_i5 ?_
      obtain ⟨v8, hv8, hf⟩ := ob_s hf
      refine mc_X3_X3_refuse S hC hD hK hP hS hv8 hl.1 ⟨Nat.le_of_ble_eq_true rfl, Nat.le_of_ble_eq_true rfl⟩ (Nat.le_of_ble_eq_true rfl) ⟨Nat.zero_le _, Nat.zero_le _⟩ dX3_trade_26 (fun H locs _ hP hS => ?_)
      have hE := Option.some.inj hf
      subst hE
      exact gt_wi S hr hlocks trivial hP hS dX3_trade_29
  · replace hf := it_t c2 hf
    refine lv_aload_n hx hb dX3_trade_8 rfl (lv_at hl 0 rfl) ?_
    refine lv_iconst hx hb dX3_trade_9 kc_i2 ?_
    obtain ⟨v9, hv9, hf⟩ := ob_s hf
    refine mc_X3_X3_refuse S hC hD hK hP hS hv9 hl.1 ⟨Nat.le_of_ble_eq_true rfl, Nat.le_of_ble_eq_true rfl⟩ (Nat.le_of_ble_eq_true rfl) ⟨Nat.zero_le _, Nat.zero_le _⟩ dX3_trade_10 (fun H locs _ hP hS => ?_)
    have hE := Option.some.inj hf
    subst hE
    exact gt_wi S hr hlocks trivial hP hS dX3_trade_13
theorem hd_X3_trades : yX3_trades.cls = RX3 ∧ yX3_trades.cls ≠ "java/lang/invoke/MethodHandle" ∧ yX3_trades.cls ≠ "java/lang/invoke/VarHandle" ∧ (parseMethodDescriptor yX3_trades.desc).map (fun d => d.parameters.length) = some 1 := by decide +kernel
set_option maxHeartbeats 4000000 in
set_option maxRecDepth 100000 in
theorem mm_X3_trades {a0 : Int32} {out : Int32 × Int32 × Int32 × Int32 × Int32 × (Nat → Int32)} (hC : mC cl tys mi cI cJ cB) (hD : mD o ad) (hf : f_X3_trades nw th st ci gr gt a0 = some out) : Met l yX3_trades (ws_ yX3_trades cX3_trades 4 (some .int)) (rM 5 113) (gPc D cl tys [.ref o, .int a0] (mW mi cI cJ cB o ad th tp st fk fp ac si fr tt kd nu fa pl fo wd ci gr lm om nw rd aa kp ta nm rn gv gt rw rh lg lh ou)) (gQ D cl (some (.int out.1)) True (mW mi cI cJ cB o ad out.2.1 tp out.2.2.1 fk fp ac si fr tt kd nu fa pl fo wd out.2.2.2.1 out.2.2.2.2.1 lm om nw rd aa kp ta nm rn gv out.2.2.2.2.2 rw rh lg lh ou) (mA o ad)) 0 0 (mA o ad) := by
  refine gGo (by decide +kernel) (Nat.le_of_ble_eq_true rfl) (fun p e s m below meth c ls S hr hlocks hK hP hl => ?_)
  have S : CallFix p m c cX3_trades 4 s _ lw_all RX3 := S
  obtain ⟨hx, hb, hml, hown, hts⟩ := id S
  have hl : lv_has ls 4 [(0, .ref o), (1, .int a0)] := hl
  have w40 : ∀ (y1 : Int32) (th : Int32) (st : Int32) (ci : Int32) (gr : Int32) (gt : (Nat → Int32)) (ls : Array Slot) (H : Heap) (locs : List Loc), va_P D cl (mW mi cI cJ cB o ad th tp st fk fp ac si fr tt kd nu fa pl fo wd ci gr lm om nw rd aa kp ta nm rn gv gt rw rh lg lh ou) H → va_S (mA o ad) s.heap H locs → lv_has ls 4 [] → f_X3_trades_40 nw y1 th st ci gr gt = some out → W p l e (rM 5 113) s m ([.ref o, .int a0] : List Value).toArray below meth c H locs 0 0 (MQ below (gQ D cl (some (.int out.1)) True (mW mi cI cJ cB o ad out.2.1 tp out.2.2.1 fk fp ac si fr tt kd nu fa pl fo wd out.2.2.2.1 out.2.2.2.2.1 lm om nw rd aa kp ta nm rn gv out.2.2.2.2.2 rw rh lg lh ou) (mA o ad)) ([.ref o, .int a0] : List Value).toArray s 0 0 (mA o ad)) (F0 m 40 ls [.int y1, .ref o]) := by
    intro y1 th st ci gr gt ls H locs hP hS hl hf
    rw [f_X3_trades_40] at hf
    obtain ⟨v1, hv1, hf⟩ := ob_s hf
    refine mc_X3_X3_gives S hC hD hK hP hS hv1 hl.1 ⟨Nat.le_of_ble_eq_true rfl, Nat.le_of_ble_eq_true rfl⟩ (Nat.le_of_ble_eq_true rfl) ⟨Nat.zero_le _, Nat.zero_le _⟩ dX3_trades_40 (fun H locs _ hP hS => ?_)
    have hE := Option.some.inj hf
    subst hE
    exact gt_wi S hr hlocks trivial hP hS dX3_trades_43
  have w48 : ∀ (n : Nat) , ∀ (x2 : Int32) (x3 : Int32) (th : Int32) (st : Int32) (ci : Int32) (gr : Int32) (gt : (Nat → Int32)) (ls : Array Slot) (H : Heap) (locs : List Loc), va_P D cl (mW mi cI cJ cB o ad th tp st fk fp ac si fr tt kd nu fa pl fo wd ci gr lm om nw rd aa kp ta nm rn gv gt rw rh lg lh ou) H → va_S (mA o ad) s.heap H locs → lv_has ls 4 [(0, .ref o), (2, .int x2), (3, .int x3)] → f_X3_trades_48 n nw x2 x3 th st ci gr gt = some out → W p l e (rM 5 113) s m ([.ref o, .int a0] : List Value).toArray below meth c H locs 0 0 (MQ below (gQ D cl (some (.int out.1)) True (mW mi cI cJ cB o ad out.2.1 tp out.2.2.1 fk fp ac si fr tt kd nu fa pl fo wd out.2.2.2.1 out.2.2.2.2.1 lm om nw rd aa kp ta nm rn gv out.2.2.2.2.2 rw rh lg lh ou) (mA o ad)) ([.ref o, .int a0] : List Value).toArray s 0 0 (mA o ad)) (F0 m 48 ls []) := by
    intro n
    induction n with
    | zero =>
      intro x2 x3 th st ci gr gt ls H locs hP hS hl hf
      exact absurd hf (by rw [f_X3_trades_48]; exact nofun)
    | succ n ih =>
      intro x2 x3 th st ci gr gt ls H locs hP hS hl hf
      rw [f_X3_trades_48] at hf
      refine lv_iload_n hx hb dX3_trades_48 rfl (lv_at hl 2 rfl) ?_
      refine lv_aload_n hx hb dX3_trades_49 rfl (lv_at hl 0 rfl) ?_
      refine mg_1 S hC hK hP dX3_trades_50 ?_
      refine lv_sipush hx hb dX3_trades_53 kc_s231 ?_
      refine ma_1 S hC hK hP kv_231_390 kn_231 dX3_trades_56 ?_
      refine lv_icmp_ge (tgt := 99) hx hb dX3_trades_57 (by decide) (fun c1 => ?_) (fun c1 => ?_)
      · replace hf := it_t c1 hf
        refine lv_aload_n hx hb dX3_trades_99 rfl (lv_at hl 0 rfl) ?_
        refine lv_iload_n hx hb dX3_trades_100 rfl (lv_at hl 1 rfl) ?_
        obtain ⟨v2, hv2, hf⟩ := ob_s hf
        refine mc_X3_X3_gives S hC hD hK hP hS hv2 hl.1 ⟨Nat.le_of_ble_eq_true rfl, Nat.le_of_ble_eq_true rfl⟩ (Nat.le_of_ble_eq_true rfl) ⟨Nat.zero_le _, Nat.zero_le _⟩ dX3_trades_101 (fun H locs _ hP hS => ?_)
        have hE := Option.some.inj hf
        subst hE
        exact gt_wi S hr hlocks trivial hP hS dX3_trades_104
      · replace hf := it_f c1 hf
        refine lv_iload_n hx hb dX3_trades_60 rfl (lv_at hl 1 rfl) ?_
        refine lv_aload_n hx hb dX3_trades_61 rfl (lv_at hl 0 rfl) ?_
        refine lv_iload_n hx hb dX3_trades_62 rfl (lv_at hl 2 rfl) ?_
        refine lv_iconst hx hb dX3_trades_63 kc_i4 ?_
        obtain ⟨v3, hv3, hf⟩ := ob_s hf
        refine mc_X3_X3_of S hC hK hP hv3 hl.1 ⟨Nat.le_of_ble_eq_true rfl, Nat.le_of_ble_eq_true rfl⟩ (Nat.le_of_ble_eq_true rfl) ⟨Nat.zero_le _, Nat.zero_le _⟩ dX3_trades_64 (fun _ => ?_)
        refine lv_iconst hx hb dX3_trades_67 kc_im1 ?_
        refine lv_icmp_eq (tgt := 90) hx hb dX3_trades_68 (by decide) (fun c4 => ?_) (fun c4 => ?_)
        · replace hf := it_t c4 hf
          refine lv_iconst hx hb dX3_trades_90 kc_i0 ?_
          refine lv_iadd hx hb dX3_trades_91 ?_
          refine lv_istore_n (i := 2) (lv' := [(2, .int (x2 + 0)), (0, .ref o), (3, .int x3)]) hx hb dX3_trades_92 rfl hl (by decide) rfl (fun ls hl => ?_)
          refine lv_iinc (v := (x3 + 1)) (lv' := [(3, .int (x3 + 1)), (2, .int (x2 + 0)), (0, .ref o)]) hx hb dX3_trades_93 hl (k := 2) rfl rfl (by decide) rfl (fun ls hl => ?_)
          refine lv_goto (tgt := 48) hx hb dX3_trades_96 (by decide) ?_
          exact (ih) (x2 + 0) (x3 + 1) th st ci gr gt ls H locs hP hS (lv_sub (l' := [(0, .ref o), (2, .int (x2 + 0)), (3, .int (x3 + 1))]) hl [2, 1, 0] rfl) hf
        · replace hf := it_f c4 hf
          refine lv_aload_n hx hb dX3_trades_71 rfl (lv_at hl 0 rfl) ?_
          refine mg_23 S hC hK hP dX3_trades_72 ?_
          refine lv_iload_n hx hb dX3_trades_75 rfl (lv_at hl 2 rfl) ?_
          obtain ⟨g5, hf⟩ := gd_t hf
          refine ma_23 S hC hK hP (inR_vp g5) rfl dX3_trades_76 ?_
          refine lv_aload_n hx hb dX3_trades_77 rfl (lv_at hl 0 rfl) ?_
          refine lv_iload_n hx hb dX3_trades_78 rfl (lv_at hl 2 rfl) ?_
          refine lv_iconst hx hb dX3_trades_79 kc_i4 ?_
          obtain ⟨v6, hv6, hf⟩ := ob_s hf
          refine mc_X3_X3_of S hC hK hP hv6 hl.1 ⟨Nat.le_of_ble_eq_true rfl, Nat.le_of_ble_eq_true rfl⟩ (Nat.le_of_ble_eq_true rfl) ⟨Nat.zero_le _, Nat.zero_le _⟩ dX3_trades_80 (fun _ => ?_)
          refine lv_icmp_eq (tgt := 90) hx hb dX3_trades_83 (by decide) (fun c7 => ?_) (fun c7 => ?_)
          · replace hf := it_t c7 hf
            refine lv_iconst hx hb dX3_trades_90 kc_i0 ?_
            refine lv_iadd hx hb dX3_trades_91 ?_
            refine lv_istore_n (i := 2) (lv' := [(2, .int (x2 + 0)), (0, .ref o), (3, .int x3)]) hx hb dX3_trades_92 rfl hl (by decide) rfl (fun ls hl => ?_)
            refine lv_iinc (v := (x3 + 1)) (lv' := [(3, .int (x3 + 1)), (2, .int (x2 + 0)), (0, .ref o)]) hx hb dX3_trades_93 hl (k := 2) rfl rfl (by decide) rfl (fun ls hl => ?_)
            refine lv_goto (tgt := 48) hx hb dX3_trades_96 (by decide) ?_
            exact (ih) (x2 + 0) (x3 + 1) th st ci gr gt ls H locs hP hS (lv_sub (l' := [(0, .ref o), (2, .int (x2 + 0)), (3, .int (x3 + 1))]) hl [2, 1, 0] rfl) hf
          · replace hf := it_f c7 hf
            refine lv_iconst hx hb dX3_trades_86 kc_i1 ?_
            refine lv_goto (tgt := 91) hx hb dX3_trades_87 (by decide) ?_
            refine lv_iadd hx hb dX3_trades_91 ?_
            refine lv_istore_n (i := 2) (lv' := [(2, .int (x2 + 1)), (0, .ref o), (3, .int x3)]) hx hb dX3_trades_92 rfl hl (by decide) rfl (fun ls hl => ?_)
            refine lv_iinc (v := (x3 + 1)) (lv' := [(3, .int (x3 + 1)), (2, .int (x2 + 1)), (0, .ref o)]) hx hb dX3_trades_93 hl (k := 2) rfl rfl (by decide) rfl (fun ls hl => ?_)
            refine lv_goto (tgt := 48) hx hb dX3_trades_96 (by decide) ?_
            exact (ih) (x2 + 1) (x3 + 1) th st ci gr gt ls H locs hP hS (lv_sub (l' := [(0, .ref o), (2, .int (x2 + 1)), (3, .int (x3 + 1))]) hl [2, 1, 0] rfl) hf
  suffices hg : ∀ (H : Heap) (locs : List Loc), va_P D cl (mW mi cI cJ cB o ad th tp st fk fp ac si fr tt kd nu fa pl fo wd ci gr lm om nw rd aa kp ta nm rn gv gt rw rh lg lh ou) H → va_S (mA o ad) s.heap H locs → W p l e (rM 5 113) s m ([.ref o, .int a0] : List Value).toArray below meth c H locs 0 0 (MQ below (gQ D cl (some (.int out.1)) True (mW mi cI cJ cB o ad out.2.1 tp out.2.2.1 fk fp ac si fr tt kd nu fa pl fo wd out.2.2.2.1 out.2.2.2.2.1 lm om nw rd aa kp ta nm rn gv out.2.2.2.2.2 rw rh lg lh ou) (mA o ad)) ([.ref o, .int a0] : List Value).toArray s 0 0 (mA o ad)) (F0 m 0 ls []) from hg s.heap [] hP va_S.rf
  clear hP
  intro H locs hP hS
  rw [f_X3_trades] at hf
  refine lv_iload_n hx hb dX3_trades_0 rfl (lv_at hl 1 rfl) ?_
  refine lv_iconst hx hb dX3_trades_1 kc_i0 ?_
  refine lv_iconst hx hb dX3_trades_2 kc_i2 ?_
  obtain ⟨v1, hv1, hf⟩ := ob_s hf
  refine mc_X3_X3_isFrom S hK hv1 hl.1 ⟨Nat.le_of_ble_eq_true rfl, Nat.le_of_ble_eq_true rfl⟩ (Nat.le_of_ble_eq_true rfl) ⟨Nat.zero_le _, Nat.zero_le _⟩ dX3_trades_3 (fun hnv1 => ?_)
  refine lv_if_ne (tgt := 15) hx hb dX3_trades_6 (by decide) (fun c2 => ?_) (fun c2 => ?_)
  · replace hf := it_f c2 hf
    refine lv_aload_n hx hb dX3_trades_15 rfl (lv_at hl 0 rfl) ?_
    obtain ⟨v3, hv3, hf⟩ := ob_s hf
    refine mc_X3_X3_laysTrades S hC hD hK hP hS hv3 hl.1 ⟨Nat.le_of_ble_eq_true rfl, Nat.le_of_ble_eq_true rfl⟩ (Nat.le_of_ble_eq_true rfl) ⟨Nat.zero_le _, Nat.zero_le _⟩ dX3_trades_16 (fun H locs _ hP hS => ?_)
    refine lv_iload_n hx hb dX3_trades_19 rfl (lv_at hl 1 rfl) ?_
    refine lv_if_le (tgt := 44) hx hb dX3_trades_20 (by decide) (fun c4 => ?_) (fun c4 => ?_)
    · replace hf := it_t c4 hf
      refine lv_iconst hx hb dX3_trades_44 kc_i0 ?_
      refine lv_istore_n (i := 2) (lv' := [(2, .int 0), (0, .ref o), (1, .int a0)]) hx hb dX3_trades_45 rfl hl (by decide) rfl (fun ls hl => ?_)
      refine lv_iconst hx hb dX3_trades_46 kc_i0 ?_
      refine lv_istore_n (i := 3) (lv' := [(3, .int 0), (2, .int 0), (0, .ref o), (1, .int a0)]) hx hb dX3_trades_47 rfl hl (by decide) rfl (fun ls hl => ?_)
      exact (w48 FU) 0 0 th st v3.1 v3.2.1 v3.2.2 ls H locs hP hS (lv_sub (l' := [(0, .ref o), (2, .int 0), (3, .int 0)]) hl [2, 1, 0] rfl) hf
    · replace hf := it_f c4 hf
      refine lv_aload_n hx hb dX3_trades_23 rfl (lv_at hl 0 rfl) ?_
      refine lv_iload_n hx hb dX3_trades_24 rfl (lv_at hl 1 rfl) ?_
      refine lv_iconst hx hb dX3_trades_25 kc_i1 ?_
      refine lv_icmp_ne (tgt := 36) hx hb dX3_trades_26 (by decide) (fun c5 => ?_) (fun c5 => ?_)
      · replace hf := it_f c5 hf
        refine lv_aload_n hx hb dX3_trades_36 rfl (lv_at hl 0 rfl) ?_
        refine mg_25 S hC hK hP dX3_trades_37 ?_
        exact (w40) v3.2.1 th st v3.1 v3.2.1 v3.2.2 ls H locs hP hS (lv_sub (l' := []) hl [] rfl) hf
      · replace hf := it_t c5 hf
        refine lv_aload_n hx hb dX3_trades_29 rfl (lv_at hl 0 rfl) ?_
        refine mg_24 S hC hK hP dX3_trades_30 ?_
        refine lv_goto (tgt := 40) hx hb dX3_trades_33 (by decide) ?_
        exact (w40) v3.1 th st v3.1 v3.2.1 v3.2.2 ls H locs hP hS (lv_sub (l' := []) hl [] rfl) hf
  · replace hf := it_t c2 hf
    refine lv_aload_n hx hb dX3_trades_9 rfl (lv_at hl 0 rfl) ?_
    refine lv_iconst hx hb dX3_trades_10 kc_i1 ?_
    obtain ⟨v6, hv6, hf⟩ := ob_s hf
    refine mc_X3_X3_refuse S hC hD hK hP hS hv6 hl.1 ⟨Nat.le_of_ble_eq_true rfl, Nat.le_of_ble_eq_true rfl⟩ (Nat.le_of_ble_eq_true rfl) ⟨Nat.zero_le _, Nat.zero_le _⟩ dX3_trades_11 (fun H locs _ hP hS => ?_)
    have hE := Option.some.inj hf
    subst hE
    exact gt_wi S hr hlocks trivial hP hS dX3_trades_14
theorem hd_X3_undo : yX3_undo.cls = RX3 ∧ yX3_undo.cls ≠ "java/lang/invoke/MethodHandle" ∧ yX3_undo.cls ≠ "java/lang/invoke/VarHandle" ∧ (parseMethodDescriptor yX3_undo.desc).map (fun d => d.parameters.length) = some 0 := by decide +kernel
set_option maxHeartbeats 4000000 in
set_option maxRecDepth 100000 in
theorem mm_X3_undo  {out : Int32 × Int32 × Int32 × Int32 × (Nat → Int32)} (hC : mC cl tys mi cI cJ cB) (hD : mD o ad) (hf : f_X3_undo kp th st ac nw = some out) : Met l yX3_undo (ws_ yX3_undo cX3_undo 2 (some .int)) (rM 1 21) (gPc D cl tys [.ref o] (mW mi cI cJ cB o ad th tp st fk fp ac si fr tt kd nu fa pl fo wd ci gr lm om nw rd aa kp ta nm rn gv gt rw rh lg lh ou)) (gQ D cl (some (.int out.1)) True (mW mi cI cJ cB o ad out.2.1 tp out.2.2.1 fk fp out.2.2.2.1 si fr tt kd nu fa pl fo wd ci gr lm om out.2.2.2.2 rd aa kp ta nm rn gv gt rw rh lg lh ou) (mA o ad)) 0 0 (mA o ad) := by
  refine gGo (by decide +kernel) (Nat.le_of_ble_eq_true rfl) (fun p e s m below meth c ls S hr hlocks hK hP hl => ?_)
  have S : CallFix p m c cX3_undo 2 s _ lw_all RX3 := S
  obtain ⟨hx, hb, hml, hown, hts⟩ := id S
  have hl : lv_has ls 2 [(0, .ref o)] := hl
  have w25 : ∀ (n : Nat) , ∀ (x1 : Int32) (th : Int32) (st : Int32) (ac : Int32) (nw : (Nat → Int32)) (ls : Array Slot) (H : Heap) (locs : List Loc), va_P D cl (mW mi cI cJ cB o ad th tp st fk fp ac si fr tt kd nu fa pl fo wd ci gr lm om nw rd aa kp ta nm rn gv gt rw rh lg lh ou) H → va_S (mA o ad) s.heap H locs → lv_has ls 2 [(0, .ref o), (1, .int x1)] → f_X3_undo_25 n kp x1 th st ac nw = some out → W p l e (rM 1 21) s m ([.ref o] : List Value).toArray below meth c H locs 0 0 (MQ below (gQ D cl (some (.int out.1)) True (mW mi cI cJ cB o ad out.2.1 tp out.2.2.1 fk fp out.2.2.2.1 si fr tt kd nu fa pl fo wd ci gr lm om out.2.2.2.2 rd aa kp ta nm rn gv gt rw rh lg lh ou) (mA o ad)) ([.ref o] : List Value).toArray s 0 0 (mA o ad)) (F0 m 25 ls []) := by
    intro n
    induction n with
    | zero =>
      intro x1 th st ac nw ls H locs hP hS hl hf
      exact absurd hf (by rw [f_X3_undo_25]; exact nofun)
    | succ n ih =>
      intro x1 th st ac nw ls H locs hP hS hl hf
      rw [f_X3_undo_25] at hf
      refine lv_iload_n hx hb dX3_undo_25 rfl (lv_at hl 1 rfl) ?_
      refine lv_sipush hx hb dX3_undo_26 kc_s390 ?_
      refine lv_icmp_ge (tgt := 59) hx hb dX3_undo_29 (by decide) (fun c1 => ?_) (fun c1 => ?_)
      · replace hf := it_t c1 hf
        refine lv_aload_n hx hb dX3_undo_59 rfl (lv_at hl 0 rfl) ?_
        refine lv_aload_n hx hb dX3_undo_60 rfl (lv_at hl 0 rfl) ?_
        refine mg_12 S hC hK hP dX3_undo_61 ?_
        obtain ⟨v2, hv2, hf⟩ := ob_s hf
        refine mc_X3_X3_gives S hC hD hK hP hS hv2 hl.1 ⟨Nat.le_of_ble_eq_true rfl, Nat.le_of_ble_eq_true rfl⟩ (Nat.le_of_ble_eq_true rfl) ⟨Nat.zero_le _, Nat.zero_le _⟩ dX3_undo_64 (fun H locs _ hP hS => ?_)
        have hE := Option.some.inj hf
        subst hE
        exact gt_wi S hr hlocks trivial hP hS dX3_undo_67
      · replace hf := it_f c1 hf
        refine lv_aload_n hx hb dX3_undo_32 rfl (lv_at hl 0 rfl) ?_
        refine mg_1 S hC hK hP dX3_undo_33 ?_
        refine lv_iload_n hx hb dX3_undo_36 rfl (lv_at hl 1 rfl) ?_
        refine lv_aload_n hx hb dX3_undo_37 rfl (lv_at hl 0 rfl) ?_
        refine mg_4 S hC hK hP dX3_undo_38 ?_
        refine lv_sipush hx hb dX3_undo_41 kc_s390 ?_
        refine lv_aload_n hx hb dX3_undo_44 rfl (lv_at hl 0 rfl) ?_
        refine mg_12 S hC hK hP dX3_undo_45 ?_
        refine lv_imul hx hb dX3_undo_48 ?_
        refine lv_iload_n hx hb dX3_undo_49 rfl (lv_at hl 1 rfl) ?_
        refine lv_iadd hx hb dX3_undo_50 ?_
        obtain ⟨g3, hf⟩ := gd_t hf
        refine ma_4 S hC hK hP (inR_vp g3) rfl dX3_undo_51 ?_
        obtain ⟨g4, hf⟩ := gd_t hf
        refine ms_1 S hC hD hK hP hS (inR_vp g4) rfl dX3_undo_52 (fun H locs hP hS => ?_)
        refine lv_iinc (v := (x1 + 1)) (lv' := [(1, .int (x1 + 1)), (0, .ref o)]) hx hb dX3_undo_53 hl (k := 1) rfl rfl (by decide) rfl (fun ls hl => ?_)
        refine lv_goto (tgt := 25) hx hb dX3_undo_56 (by decide) ?_
        exact (ih) (x1 + 1) th st ac (upd nw x1.toNatClampNeg (kp (((nI 390) * ac) + x1).toNatClampNeg)) ls H locs hP hS (lv_sub (l' := [(0, .ref o), (1, .int (x1 + 1))]) hl [1, 0] rfl) hf
  suffices hg : ∀ (H : Heap) (locs : List Loc), va_P D cl (mW mi cI cJ cB o ad th tp st fk fp ac si fr tt kd nu fa pl fo wd ci gr lm om nw rd aa kp ta nm rn gv gt rw rh lg lh ou) H → va_S (mA o ad) s.heap H locs → W p l e (rM 1 21) s m ([.ref o] : List Value).toArray below meth c H locs 0 0 (MQ below (gQ D cl (some (.int out.1)) True (mW mi cI cJ cB o ad out.2.1 tp out.2.2.1 fk fp out.2.2.2.1 si fr tt kd nu fa pl fo wd ci gr lm om out.2.2.2.2 rd aa kp ta nm rn gv gt rw rh lg lh ou) (mA o ad)) ([.ref o] : List Value).toArray s 0 0 (mA o ad)) (F0 m 0 ls []) from hg s.heap [] hP va_S.rf
  clear hP
  intro H locs hP hS
  rw [f_X3_undo] at hf
  refine lv_aload_n hx hb dX3_undo_0 rfl (lv_at hl 0 rfl) ?_
  refine mg_12 S hC hK hP dX3_undo_1 ?_
  refine lv_if_ne (tgt := 13) hx hb dX3_undo_4 (by decide) (fun c1 => ?_) (fun c1 => ?_)
  · replace hf := it_f c1 hf
    refine lv_aload_n hx hb dX3_undo_13 rfl (lv_at hl 0 rfl) ?_
    refine lv_dup hx hb dX3_undo_14 rfl ?_
    refine mg_12 S hC hK hP dX3_undo_15 ?_
    refine lv_iconst hx hb dX3_undo_18 kc_i1 ?_
    refine lv_isub hx hb dX3_undo_19 ?_
    refine mp_12 S hC hD hK hP hS dX3_undo_20 (fun H locs hP hS => ?_)
    refine lv_iconst hx hb dX3_undo_23 kc_i0 ?_
    refine lv_istore_n (i := 1) (lv' := [(1, .int 0), (0, .ref o)]) hx hb dX3_undo_24 rfl hl (by decide) rfl (fun ls hl => ?_)
    exact (w25 FU) 0 th st (ac - 1) nw ls H locs hP hS (lv_sub (l' := [(0, .ref o), (1, .int 0)]) hl [1, 0] rfl) hf
  · replace hf := it_t c1 hf
    refine lv_aload_n hx hb dX3_undo_7 rfl (lv_at hl 0 rfl) ?_
    refine lv_iconst hx hb dX3_undo_8 kc_i5 ?_
    obtain ⟨v2, hv2, hf⟩ := ob_s hf
    refine mc_X3_X3_refuse S hC hD hK hP hS hv2 hl.1 ⟨Nat.le_of_ble_eq_true rfl, Nat.le_of_ble_eq_true rfl⟩ (Nat.le_of_ble_eq_true rfl) ⟨Nat.zero_le _, Nat.zero_le _⟩ dX3_undo_9 (fun H locs _ hP hS => ?_)
    have hE := Option.some.inj hf
    subst hE
    exact gt_wi S hr hlocks trivial hP hS dX3_undo_12
theorem hd_X3_keeps : yX3_keeps.cls = RX3 ∧ yX3_keeps.cls ≠ "java/lang/invoke/MethodHandle" ∧ yX3_keeps.cls ≠ "java/lang/invoke/VarHandle" ∧ (parseMethodDescriptor yX3_keeps.desc).map (fun d => d.parameters.length) = some 0 := by decide +kernel
set_option maxHeartbeats 4000000 in
set_option maxRecDepth 100000 in
theorem mm_X3_keeps  {out : Int32 × (Nat → Int32)} (hC : mC cl tys mi cI cJ cB) (hD : mD o ad) (hf : f_X3_keeps nw ac kp = some out) : Met l yX3_keeps (ws_ yX3_keeps cX3_keeps 2 none) (rM 0 0) (gPc D cl tys [.ref o] (mW mi cI cJ cB o ad th tp st fk fp ac si fr tt kd nu fa pl fo wd ci gr lm om nw rd aa kp ta nm rn gv gt rw rh lg lh ou)) (gQ D cl none True (mW mi cI cJ cB o ad th tp st fk fp out.1 si fr tt kd nu fa pl fo wd ci gr lm om nw rd aa out.2 ta nm rn gv gt rw rh lg lh ou) (mA o ad)) 0 0 (mA o ad) := by
  refine gGo (by decide +kernel) (Nat.le_of_ble_eq_true rfl) (fun p e s m below meth c ls S hr hlocks hK hP hl => ?_)
  have S : CallFix p m c cX3_keeps 2 s _ lw_all RX3 := S
  obtain ⟨hx, hb, hml, hown, hts⟩ := id S
  have hl : lv_has ls 2 [(0, .ref o)] := hl
  have w13 : ∀ (n : Nat) (k54 : Int32 → Int32 → (Nat → Int32) → Option (Int32 × (Nat → Int32))), (∀ (b0 : Int32) (b1 : Int32) (b2 : (Nat → Int32)) (ls : Array Slot) (H : Heap) (locs : List Loc), va_P D cl (mW mi cI cJ cB o ad th tp st fk fp b1 si fr tt kd nu fa pl fo wd ci gr lm om nw rd aa b2 ta nm rn gv gt rw rh lg lh ou) H → va_S (mA o ad) s.heap H locs → lv_has ls 2 [(0, .ref o), (1, .int b0)] → k54 b0 b1 b2 = some out → W p l e (rM 0 0) s m ([.ref o] : List Value).toArray below meth c H locs 0 0 (MQ below (gQ D cl none True (mW mi cI cJ cB o ad th tp st fk fp out.1 si fr tt kd nu fa pl fo wd ci gr lm om nw rd aa out.2 ta nm rn gv gt rw rh lg lh ou) (mA o ad)) ([.ref o] : List Value).toArray s 0 0 (mA o ad)) (F0 m 54 ls [])) → ∀ (x1 : Int32) (ac : Int32) (kp : (Nat → Int32)) (ls : Array Slot) (H : Heap) (locs : List Loc), va_P D cl (mW mi cI cJ cB o ad th tp st fk fp ac si fr tt kd nu fa pl fo wd ci gr lm om nw rd aa kp ta nm rn gv gt rw rh lg lh ou) H → va_S (mA o ad) s.heap H locs → lv_has ls 2 [(0, .ref o), (1, .int x1)] → f_X3_keeps_13 n k54 nw x1 ac kp = some out → W p l e (rM 0 0) s m ([.ref o] : List Value).toArray below meth c H locs 0 0 (MQ below (gQ D cl none True (mW mi cI cJ cB o ad th tp st fk fp out.1 si fr tt kd nu fa pl fo wd ci gr lm om nw rd aa out.2 ta nm rn gv gt rw rh lg lh ou) (mA o ad)) ([.ref o] : List Value).toArray s 0 0 (mA o ad)) (F0 m 13 ls []) := by
    intro n
    induction n with
    | zero =>
      intro k54 hk54 x1 ac kp ls H locs hP hS hl hf
      exact absurd hf (by rw [f_X3_keeps_13]; exact nofun)
    | succ n ih =>
      intro k54 hk54 x1 ac kp ls H locs hP hS hl hf
      rw [f_X3_keeps_13] at hf
      refine lv_iload_n hx hb dX3_keeps_13 rfl (lv_at hl 1 rfl) ?_
      refine lv_sipush hx hb dX3_keeps_14 kc_s4680 ?_
      refine lv_icmp_ge (tgt := 42) hx hb dX3_keeps_17 (by decide) (fun c1 => ?_) (fun c1 => ?_)
      · replace hf := it_t c1 hf
        refine lv_aload_n hx hb dX3_keeps_42 rfl (lv_at hl 0 rfl) ?_
        refine lv_dup hx hb dX3_keeps_43 rfl ?_
        refine mg_12 S hC hK hP dX3_keeps_44 ?_
        refine lv_iconst hx hb dX3_keeps_47 kc_i1 ?_
        refine lv_isub hx hb dX3_keeps_48 ?_
        refine mp_12 S hC hD hK hP hS dX3_keeps_49 (fun H locs hP hS => ?_)
        refine lv_iconst hx hb dX3_keeps_52 kc_i0 ?_
        refine lv_istore_n (i := 1) (lv' := [(1, .int 0), (0, .ref o)]) hx hb dX3_keeps_53 rfl hl (by decide) rfl (fun ls hl => ?_)
        exact hk54 0 (ac - 1) kp ls H locs hP hS (lv_sub (l' := [(0, .ref o), (1, .int 0)]) hl [1, 0] rfl) hf
      · replace hf := it_f c1 hf
        refine lv_aload_n hx hb dX3_keeps_20 rfl (lv_at hl 0 rfl) ?_
        refine mg_4 S hC hK hP dX3_keeps_21 ?_
        refine lv_iload_n hx hb dX3_keeps_24 rfl (lv_at hl 1 rfl) ?_
        refine lv_sipush hx hb dX3_keeps_25 kc_s390 ?_
        refine lv_isub hx hb dX3_keeps_28 ?_
        refine lv_aload_n hx hb dX3_keeps_29 rfl (lv_at hl 0 rfl) ?_
        refine mg_4 S hC hK hP dX3_keeps_30 ?_
        refine lv_iload_n hx hb dX3_keeps_33 rfl (lv_at hl 1 rfl) ?_
        obtain ⟨g2, hf⟩ := gd_t hf
        refine ma_4 S hC hK hP (inR_vp g2) rfl dX3_keeps_34 ?_
        obtain ⟨g3, hf⟩ := gd_t hf
        refine ms_4 S hC hD hK hP hS (inR_vp g3) rfl dX3_keeps_35 (fun H locs hP hS => ?_)
        refine lv_iinc (v := (x1 + 1)) (lv' := [(1, .int (x1 + 1)), (0, .ref o)]) hx hb dX3_keeps_36 hl (k := 1) rfl rfl (by decide) rfl (fun ls hl => ?_)
        refine lv_goto (tgt := 13) hx hb dX3_keeps_39 (by decide) ?_
        exact (ih k54 hk54) (x1 + 1) ac (upd kp (x1 - (nI 390)).toNatClampNeg (kp x1.toNatClampNeg)) ls H locs hP hS (lv_sub (l' := [(0, .ref o), (1, .int (x1 + 1))]) hl [1, 0] rfl) hf
  have w54 : ∀ (n : Nat) , ∀ (x1 : Int32) (ac : Int32) (kp : (Nat → Int32)) (ls : Array Slot) (H : Heap) (locs : List Loc), va_P D cl (mW mi cI cJ cB o ad th tp st fk fp ac si fr tt kd nu fa pl fo wd ci gr lm om nw rd aa kp ta nm rn gv gt rw rh lg lh ou) H → va_S (mA o ad) s.heap H locs → lv_has ls 2 [(0, .ref o), (1, .int x1)] → f_X3_keeps_54 n nw x1 ac kp = some out → W p l e (rM 0 0) s m ([.ref o] : List Value).toArray below meth c H locs 0 0 (MQ below (gQ D cl none True (mW mi cI cJ cB o ad th tp st fk fp out.1 si fr tt kd nu fa pl fo wd ci gr lm om nw rd aa out.2 ta nm rn gv gt rw rh lg lh ou) (mA o ad)) ([.ref o] : List Value).toArray s 0 0 (mA o ad)) (F0 m 54 ls []) := by
    intro n
    induction n with
    | zero =>
      intro x1 ac kp ls H locs hP hS hl hf
      exact absurd hf (by rw [f_X3_keeps_54]; exact nofun)
    | succ n ih =>
      intro x1 ac kp ls H locs hP hS hl hf
      rw [f_X3_keeps_54] at hf
      refine lv_iload_n hx hb dX3_keeps_54 rfl (lv_at hl 1 rfl) ?_
      refine lv_sipush hx hb dX3_keeps_55 kc_s390 ?_
      refine lv_icmp_ge (tgt := 88) hx hb dX3_keeps_58 (by decide) (fun c1 => ?_) (fun c1 => ?_)
      · replace hf := it_t c1 hf
        refine lv_aload_n hx hb dX3_keeps_88 rfl (lv_at hl 0 rfl) ?_
        refine lv_dup hx hb dX3_keeps_89 rfl ?_
        refine mg_12 S hC hK hP dX3_keeps_90 ?_
        refine lv_iconst hx hb dX3_keeps_93 kc_i1 ?_
        refine lv_iadd hx hb dX3_keeps_94 ?_
        refine mp_12 S hC hD hK hP hS dX3_keeps_95 (fun H locs hP hS => ?_)
        have hE := Option.some.inj hf
        subst hE
        exact gt_wv S hr hlocks trivial hP hS dX3_keeps_98
      · replace hf := it_f c1 hf
        refine lv_aload_n hx hb dX3_keeps_61 rfl (lv_at hl 0 rfl) ?_
        refine mg_4 S hC hK hP dX3_keeps_62 ?_
        refine lv_sipush hx hb dX3_keeps_65 kc_s390 ?_
        refine lv_aload_n hx hb dX3_keeps_68 rfl (lv_at hl 0 rfl) ?_
        refine mg_12 S hC hK hP dX3_keeps_69 ?_
        refine lv_imul hx hb dX3_keeps_72 ?_
        refine lv_iload_n hx hb dX3_keeps_73 rfl (lv_at hl 1 rfl) ?_
        refine lv_iadd hx hb dX3_keeps_74 ?_
        refine lv_aload_n hx hb dX3_keeps_75 rfl (lv_at hl 0 rfl) ?_
        refine mg_1 S hC hK hP dX3_keeps_76 ?_
        refine lv_iload_n hx hb dX3_keeps_79 rfl (lv_at hl 1 rfl) ?_
        obtain ⟨g2, hf⟩ := gd_t hf
        refine ma_1 S hC hK hP (inR_vp g2) rfl dX3_keeps_80 ?_
        obtain ⟨g3, hf⟩ := gd_t hf
        refine ms_4 S hC hD hK hP hS (inR_vp g3) rfl dX3_keeps_81 (fun H locs hP hS => ?_)
        refine lv_iinc (v := (x1 + 1)) (lv' := [(1, .int (x1 + 1)), (0, .ref o)]) hx hb dX3_keeps_82 hl (k := 1) rfl rfl (by decide) rfl (fun ls hl => ?_)
        refine lv_goto (tgt := 54) hx hb dX3_keeps_85 (by decide) ?_
        exact (ih) (x1 + 1) ac (upd kp (((nI 390) * ac) + x1).toNatClampNeg (nw x1.toNatClampNeg)) ls H locs hP hS (lv_sub (l' := [(0, .ref o), (1, .int (x1 + 1))]) hl [1, 0] rfl) hf
  suffices hg : ∀ (H : Heap) (locs : List Loc), va_P D cl (mW mi cI cJ cB o ad th tp st fk fp ac si fr tt kd nu fa pl fo wd ci gr lm om nw rd aa kp ta nm rn gv gt rw rh lg lh ou) H → va_S (mA o ad) s.heap H locs → W p l e (rM 0 0) s m ([.ref o] : List Value).toArray below meth c H locs 0 0 (MQ below (gQ D cl none True (mW mi cI cJ cB o ad th tp st fk fp out.1 si fr tt kd nu fa pl fo wd ci gr lm om nw rd aa out.2 ta nm rn gv gt rw rh lg lh ou) (mA o ad)) ([.ref o] : List Value).toArray s 0 0 (mA o ad)) (F0 m 0 ls []) from hg s.heap [] hP va_S.rf
  clear hP
  intro H locs hP hS
  rw [f_X3_keeps] at hf
  refine lv_aload_n hx hb dX3_keeps_0 rfl (lv_at hl 0 rfl) ?_
  refine mg_12 S hC hK hP dX3_keeps_1 ?_
  refine lv_bipush hx hb dX3_keeps_4 kc_b12 ?_
  refine lv_icmp_ne (tgt := 52) hx hb dX3_keeps_6 (by decide) (fun c1 => ?_) (fun c1 => ?_)
  · replace hf := it_f c1 hf
    refine lv_iconst hx hb dX3_keeps_52 kc_i0 ?_
    refine lv_istore_n (i := 1) (lv' := [(1, .int 0), (0, .ref o)]) hx hb dX3_keeps_53 rfl hl (by decide) rfl (fun ls hl => ?_)
    exact (w54 FU) 0 ac kp ls H locs hP hS (lv_sub (l' := [(0, .ref o), (1, .int 0)]) hl [1, 0] rfl) hf
  · replace hf := it_t c1 hf
    refine lv_sipush hx hb dX3_keeps_9 kc_s390 ?_
    refine lv_istore_n (i := 1) (lv' := [(1, .int (nI 390)), (0, .ref o)]) hx hb dX3_keeps_12 rfl hl (by decide) rfl (fun ls hl => ?_)
    exact (w13 FU (f_X3_keeps_54 FU nw) (w54 FU)) (nI 390) ac kp ls H locs hP hS (lv_sub (l' := [(0, .ref o), (1, .int (nI 390))]) hl [1, 0] rfl) hf
set_option maxRecDepth 100000 in
theorem mc_X3_X3_keeps  {out : Int32 × (Nat → Int32)} (S : CallFix p m c cc nL s args lw_all RX3) (hC : mC cl tys mi cI cJ cB) (hD : mD o ad) (hK : va_K D cl tys s) (hP : va_P D cl (mW mi cI cJ cB o ad th tp st fk fp ac si fr tt kd nu fa pl fo wd ci gr lm om nw rd aa kp ta nm rn gv gt rw rh lg lh ou) H) (hS : va_S (mA o ad) H0 H locs) (hf : f_X3_keeps nw ac kp = some out) (hsz : ls.size = nL) (hR : 0 + 1 ≤ R.frames ∧ 8 + (2 + 11) + 0 ≤ R.locals) (hW : (rest.map fun v => v.category).sum ≤ 8) (hcs : cells ≤ R.cells ∧ slots ≤ R.slots) (hdg : decode cc pc = .ok (.invokevirtual 389, 3)) (kk : ∀ (H1 : Heap) (locs1 : List Loc), True → va_P D cl (mW mi cI cJ cB o ad th tp st fk fp out.1 si fr tt kd nu fa pl fo wd ci gr lm om nw rd aa out.2 ta nm rn gv gt rw rh lg lh ou) H1 → va_S (mA o ad) H0 H1 locs1 → W p l e R s m args below meth c H1 locs1 cells slots Q (F0 m (pc + 3) ls (rest))) : W p l e R s m args below meth c H locs cells slots Q (F0 m pc ls (.ref o :: rest)) :=
  gc_Vv (As := []) S (mm_X3_keeps hC hD hf) (cwV 0 S.2.2.2.2 (lw_V q2570 q2572 qs165 q189 q2573) rfl rfl rfl hd_X3_keeps hR) (gPreV hK hP hC.1 (q0 := 0) rfl) rfl hsz rfl hW hdg hcs hS kk
theorem hd_X3_bid : yX3_bid.cls = RX3 ∧ yX3_bid.cls ≠ "java/lang/invoke/MethodHandle" ∧ yX3_bid.cls ≠ "java/lang/invoke/VarHandle" ∧ (parseMethodDescriptor yX3_bid.desc).map (fun d => d.parameters.length) = some 2 := by decide +kernel
set_option maxHeartbeats 4000000 in
set_option maxRecDepth 100000 in
theorem mm_X3_bid {a0 : Int32} {a1 : Int32} {out : Int32 × Int32 × Int32 × Int32 × (Nat → Int32) × (Nat → Int32)} (hC : mC cl tys mi cI cJ cB) (hD : mD o ad) (hf : f_X3_bid th st ac nw kp a0 a1 = some out) : Met l yX3_bid (ws_ yX3_bid cX3_bid 3 (some .int)) (rM 4 87) (gPc D cl tys [.ref o, .int a0, .int a1] (mW mi cI cJ cB o ad th tp st fk fp ac si fr tt kd nu fa pl fo wd ci gr lm om nw rd aa kp ta nm rn gv gt rw rh lg lh ou)) (gQ D cl (some (.int out.1)) True (mW mi cI cJ cB o ad out.2.1 tp out.2.2.1 fk fp out.2.2.2.1 si fr tt kd nu fa pl fo wd ci gr lm om out.2.2.2.2.1 rd aa out.2.2.2.2.2 ta nm rn gv gt rw rh lg lh ou) (mA o ad)) 0 0 (mA o ad) := by
  refine gGo (by decide +kernel) (Nat.le_of_ble_eq_true rfl) (fun p e s m below meth c ls S hr hlocks hK hP hl => ?_)
  have S : CallFix p m c cX3_bid 3 s _ lw_all RX3 := S
  obtain ⟨hx, hb, hml, hown, hts⟩ := id S
  have hl : lv_has ls 3 [(0, .ref o), (1, .int a0), (2, .int a1)] := hl
  suffices hg : ∀ (H : Heap) (locs : List Loc), va_P D cl (mW mi cI cJ cB o ad th tp st fk fp ac si fr tt kd nu fa pl fo wd ci gr lm om nw rd aa kp ta nm rn gv gt rw rh lg lh ou) H → va_S (mA o ad) s.heap H locs → W p l e (rM 4 87) s m ([.ref o, .int a0, .int a1] : List Value).toArray below meth c H locs 0 0 (MQ below (gQ D cl (some (.int out.1)) True (mW mi cI cJ cB o ad out.2.1 tp out.2.2.1 fk fp out.2.2.2.1 si fr tt kd nu fa pl fo wd ci gr lm om out.2.2.2.2.1 rd aa out.2.2.2.2.2 ta nm rn gv gt rw rh lg lh ou) (mA o ad)) ([.ref o, .int a0, .int a1] : List Value).toArray s 0 0 (mA o ad)) (F0 m 0 ls []) from hg s.heap [] hP va_S.rf
  clear hP
  intro H locs hP hS
  rw [f_X3_bid] at hf
  refine lv_aload_n hx hb dX3_bid_0 rfl (lv_at hl 0 rfl) ?_
  refine lv_iload_n hx hb dX3_bid_1 rfl (lv_at hl 1 rfl) ?_
  refine lv_iload_n hx hb dX3_bid_2 rfl (lv_at hl 2 rfl) ?_
  obtain ⟨v1, hv1, hf⟩ := ob_s hf
  refine mc_X3_X3_areOnes S hC hK hP hv1 hl.1 ⟨Nat.le_of_ble_eq_true rfl, Nat.le_of_ble_eq_true rfl⟩ (Nat.le_of_ble_eq_true rfl) ⟨Nat.zero_le _, Nat.zero_le _⟩ dX3_bid_3 (fun hnv1 => ?_)
  refine lv_if_ne (tgt := 15) hx hb dX3_bid_6 (by decide) (fun c2 => ?_) (fun c2 => ?_)
  · replace hf := it_f c2 hf
    refine lv_aload_n hx hb dX3_bid_15 rfl (lv_at hl 0 rfl) ?_
    refine lv_iload_n hx hb dX3_bid_16 rfl (lv_at hl 1 rfl) ?_
    refine lv_iload_n hx hb dX3_bid_17 rfl (lv_at hl 2 rfl) ?_
    obtain ⟨v3, hv3, hf⟩ := ob_s hf
    refine mc_X3_X3_whyNot S hC hK hP hv3 hl.1 ⟨Nat.le_of_ble_eq_true rfl, Nat.le_of_ble_eq_true rfl⟩ (Nat.le_of_ble_eq_true rfl) ⟨Nat.zero_le _, Nat.zero_le _⟩ dX3_bid_18 (fun _ => ?_)
    refine lv_if_eq (tgt := 31) hx hb dX3_bid_21 (by decide) (fun c4 => ?_) (fun c4 => ?_)
    · replace hf := it_t c4 hf
      refine lv_aload_n hx hb dX3_bid_31 rfl (lv_at hl 0 rfl) ?_
      obtain ⟨v5, hv5, hf⟩ := ob_s hf
      refine mc_X3_X3_keeps S hC hD hK hP hS hv5 hl.1 ⟨Nat.le_of_ble_eq_true rfl, Nat.le_of_ble_eq_true rfl⟩ (Nat.le_of_ble_eq_true rfl) ⟨Nat.zero_le _, Nat.zero_le _⟩ dX3_bid_32 (fun H locs _ hP hS => ?_)
      refine lv_aload_n hx hb dX3_bid_35 rfl (lv_at hl 0 rfl) ?_
      refine lv_iload_n hx hb dX3_bid_36 rfl (lv_at hl 1 rfl) ?_
      refine lv_bipush hx hb dX3_bid_37 kc_b10 ?_
      refine lv_aload_n hx hb dX3_bid_39 rfl (lv_at hl 0 rfl) ?_
      refine lv_iload_n hx hb dX3_bid_40 rfl (lv_at hl 1 rfl) ?_
      refine lv_bipush hx hb dX3_bid_41 kc_b10 ?_
      obtain ⟨v6, hv6, hf⟩ := ob_s hf
      refine mc_X3_X3_of S hC hK hP hv6 hl.1 ⟨Nat.le_of_ble_eq_true rfl, Nat.le_of_ble_eq_true rfl⟩ (Nat.le_of_ble_eq_true rfl) ⟨Nat.zero_le _, Nat.zero_le _⟩ dX3_bid_43 (fun _ => ?_)
      refine lv_iconst hx hb dX3_bid_46 kc_i1 ?_
      refine lv_iload_n hx hb dX3_bid_47 rfl (lv_at hl 2 rfl) ?_
      refine lv_ishl hx hb dX3_bid_48 ?_
      refine lv_ior hx hb dX3_bid_49 ?_
      obtain ⟨v7, hv7, hf⟩ := ob_s hf
      refine mc_X3_X3_puts S hC hD hK hP hS hv7 hl.1 ⟨Nat.le_of_ble_eq_true rfl, Nat.le_of_ble_eq_true rfl⟩ (Nat.le_of_ble_eq_true rfl) ⟨Nat.zero_le _, Nat.zero_le _⟩ dX3_bid_50 (fun H locs _ hP hS => ?_)
      refine lv_aload_n hx hb dX3_bid_53 rfl (lv_at hl 0 rfl) ?_
      refine lv_aload_n hx hb dX3_bid_54 rfl (lv_at hl 0 rfl) ?_
      refine lv_iload_n hx hb dX3_bid_55 rfl (lv_at hl 1 rfl) ?_
      refine lv_bipush hx hb dX3_bid_56 kc_b10 ?_
      obtain ⟨v8, hv8, hf⟩ := ob_s hf
      refine mc_X3_X3_of S hC hK hP hv8 hl.1 ⟨Nat.le_of_ble_eq_true rfl, Nat.le_of_ble_eq_true rfl⟩ (Nat.le_of_ble_eq_true rfl) ⟨Nat.zero_le _, Nat.zero_le _⟩ dX3_bid_58 (fun _ => ?_)
      obtain ⟨v9, hv9, hf⟩ := ob_s hf
      refine mc_X3_X3_bits S hK hv9 hl.1 ⟨Nat.le_of_ble_eq_true rfl, Nat.le_of_ble_eq_true rfl⟩ (Nat.le_of_ble_eq_true rfl) ⟨Nat.zero_le _, Nat.zero_le _⟩ dX3_bid_61 (fun _ => ?_)
      obtain ⟨v10, hv10, hf⟩ := ob_s hf
      refine mc_X3_X3_gives S hC hD hK hP hS hv10 hl.1 ⟨Nat.le_of_ble_eq_true rfl, Nat.le_of_ble_eq_true rfl⟩ (Nat.le_of_ble_eq_true rfl) ⟨Nat.zero_le _, Nat.zero_le _⟩ dX3_bid_64 (fun H locs _ hP hS => ?_)
      have hE := Option.some.inj hf
      subst hE
      exact gt_wi S hr hlocks trivial hP hS dX3_bid_67
    · replace hf := it_f c4 hf
      refine lv_aload_n hx hb dX3_bid_24 rfl (lv_at hl 0 rfl) ?_
      refine lv_bipush hx hb dX3_bid_25 kc_b7 ?_
      obtain ⟨v11, hv11, hf⟩ := ob_s hf
      refine mc_X3_X3_refuse S hC hD hK hP hS hv11 hl.1 ⟨Nat.le_of_ble_eq_true rfl, Nat.le_of_ble_eq_true rfl⟩ (Nat.le_of_ble_eq_true rfl) ⟨Nat.zero_le _, Nat.zero_le _⟩ dX3_bid_27 (fun H locs _ hP hS => ?_)
      have hE := Option.some.inj hf
      subst hE
      exact gt_wi S hr hlocks trivial hP hS dX3_bid_30
  · replace hf := it_t c2 hf
    refine lv_aload_n hx hb dX3_bid_9 rfl (lv_at hl 0 rfl) ?_
    refine lv_iconst hx hb dX3_bid_10 kc_i2 ?_
    obtain ⟨v12, hv12, hf⟩ := ob_s hf
    refine mc_X3_X3_refuse S hC hD hK hP hS hv12 hl.1 ⟨Nat.le_of_ble_eq_true rfl, Nat.le_of_ble_eq_true rfl⟩ (Nat.le_of_ble_eq_true rfl) ⟨Nat.zero_le _, Nat.zero_le _⟩ dX3_bid_11 (fun H locs _ hP hS => ?_)
    have hE := Option.some.inj hf
    subst hE
    exact gt_wi S hr hlocks trivial hP hS dX3_bid_14
theorem hd_X3_unbid : yX3_unbid.cls = RX3 ∧ yX3_unbid.cls ≠ "java/lang/invoke/MethodHandle" ∧ yX3_unbid.cls ≠ "java/lang/invoke/VarHandle" ∧ (parseMethodDescriptor yX3_unbid.desc).map (fun d => d.parameters.length) = some 2 := by decide +kernel
set_option maxHeartbeats 4000000 in
set_option maxRecDepth 100000 in
theorem mm_X3_unbid {a0 : Int32} {a1 : Int32} {out : Int32 × Int32 × Int32 × Int32 × (Nat → Int32) × (Nat → Int32)} (hC : mC cl tys mi cI cJ cB) (hD : mD o ad) (hf : f_X3_unbid th st ac nw kp a0 a1 = some out) : Met l yX3_unbid (ws_ yX3_unbid cX3_unbid 3 (some .int)) (rM 3 65) (gPc D cl tys [.ref o, .int a0, .int a1] (mW mi cI cJ cB o ad th tp st fk fp ac si fr tt kd nu fa pl fo wd ci gr lm om nw rd aa kp ta nm rn gv gt rw rh lg lh ou)) (gQ D cl (some (.int out.1)) True (mW mi cI cJ cB o ad out.2.1 tp out.2.2.1 fk fp out.2.2.2.1 si fr tt kd nu fa pl fo wd ci gr lm om out.2.2.2.2.1 rd aa out.2.2.2.2.2 ta nm rn gv gt rw rh lg lh ou) (mA o ad)) 0 0 (mA o ad) := by
  refine gGo (by decide +kernel) (Nat.le_of_ble_eq_true rfl) (fun p e s m below meth c ls S hr hlocks hK hP hl => ?_)
  have S : CallFix p m c cX3_unbid 3 s _ lw_all RX3 := S
  obtain ⟨hx, hb, hml, hown, hts⟩ := id S
  have hl : lv_has ls 3 [(0, .ref o), (1, .int a0), (2, .int a1)] := hl
  suffices hg : ∀ (H : Heap) (locs : List Loc), va_P D cl (mW mi cI cJ cB o ad th tp st fk fp ac si fr tt kd nu fa pl fo wd ci gr lm om nw rd aa kp ta nm rn gv gt rw rh lg lh ou) H → va_S (mA o ad) s.heap H locs → W p l e (rM 3 65) s m ([.ref o, .int a0, .int a1] : List Value).toArray below meth c H locs 0 0 (MQ below (gQ D cl (some (.int out.1)) True (mW mi cI cJ cB o ad out.2.1 tp out.2.2.1 fk fp out.2.2.2.1 si fr tt kd nu fa pl fo wd ci gr lm om out.2.2.2.2.1 rd aa out.2.2.2.2.2 ta nm rn gv gt rw rh lg lh ou) (mA o ad)) ([.ref o, .int a0, .int a1] : List Value).toArray s 0 0 (mA o ad)) (F0 m 0 ls []) from hg s.heap [] hP va_S.rf
  clear hP
  intro H locs hP hS
  rw [f_X3_unbid] at hf
  refine lv_aload_n hx hb dX3_unbid_0 rfl (lv_at hl 0 rfl) ?_
  refine lv_iload_n hx hb dX3_unbid_1 rfl (lv_at hl 1 rfl) ?_
  refine lv_iload_n hx hb dX3_unbid_2 rfl (lv_at hl 2 rfl) ?_
  obtain ⟨v1, hv1, hf⟩ := ob_s hf
  refine mc_X3_X3_areOnes S hC hK hP hv1 hl.1 ⟨Nat.le_of_ble_eq_true rfl, Nat.le_of_ble_eq_true rfl⟩ (Nat.le_of_ble_eq_true rfl) ⟨Nat.zero_le _, Nat.zero_le _⟩ dX3_unbid_3 (fun hnv1 => ?_)
  refine lv_if_ne (tgt := 15) hx hb dX3_unbid_6 (by decide) (fun c2 => ?_) (fun c2 => ?_)
  · replace hf := it_f c2 hf
    refine lv_aload_n hx hb dX3_unbid_15 rfl (lv_at hl 0 rfl) ?_
    refine lv_iload_n hx hb dX3_unbid_16 rfl (lv_at hl 1 rfl) ?_
    refine lv_iload_n hx hb dX3_unbid_17 rfl (lv_at hl 2 rfl) ?_
    obtain ⟨v3, hv3, hf⟩ := ob_s hf
    refine mc_X3_X3_isBid S hC hK hP hv3 hl.1 ⟨Nat.le_of_ble_eq_true rfl, Nat.le_of_ble_eq_true rfl⟩ (Nat.le_of_ble_eq_true rfl) ⟨Nat.zero_le _, Nat.zero_le _⟩ dX3_unbid_18 (fun hnv3 => ?_)
    refine lv_if_ne (tgt := 30) hx hb dX3_unbid_21 (by decide) (fun c4 => ?_) (fun c4 => ?_)
    · replace hf := it_f c4 hf
      refine lv_aload_n hx hb dX3_unbid_30 rfl (lv_at hl 0 rfl) ?_
      obtain ⟨v5, hv5, hf⟩ := ob_s hf
      refine mc_X3_X3_keeps S hC hD hK hP hS hv5 hl.1 ⟨Nat.le_of_ble_eq_true rfl, Nat.le_of_ble_eq_true rfl⟩ (Nat.le_of_ble_eq_true rfl) ⟨Nat.zero_le _, Nat.zero_le _⟩ dX3_unbid_31 (fun H locs _ hP hS => ?_)
      refine lv_aload_n hx hb dX3_unbid_34 rfl (lv_at hl 0 rfl) ?_
      refine lv_iload_n hx hb dX3_unbid_35 rfl (lv_at hl 1 rfl) ?_
      refine lv_bipush hx hb dX3_unbid_36 kc_b10 ?_
      refine lv_aload_n hx hb dX3_unbid_38 rfl (lv_at hl 0 rfl) ?_
      refine lv_iload_n hx hb dX3_unbid_39 rfl (lv_at hl 1 rfl) ?_
      refine lv_bipush hx hb dX3_unbid_40 kc_b10 ?_
      obtain ⟨v6, hv6, hf⟩ := ob_s hf
      refine mc_X3_X3_of S hC hK hP hv6 hl.1 ⟨Nat.le_of_ble_eq_true rfl, Nat.le_of_ble_eq_true rfl⟩ (Nat.le_of_ble_eq_true rfl) ⟨Nat.zero_le _, Nat.zero_le _⟩ dX3_unbid_42 (fun _ => ?_)
      refine lv_iconst hx hb dX3_unbid_45 kc_i1 ?_
      refine lv_iload_n hx hb dX3_unbid_46 rfl (lv_at hl 2 rfl) ?_
      refine lv_ishl hx hb dX3_unbid_47 ?_
      refine lv_iconst hx hb dX3_unbid_48 kc_im1 ?_
      refine lv_ixor hx hb dX3_unbid_49 ?_
      refine lv_iand hx hb dX3_unbid_50 ?_
      obtain ⟨v7, hv7, hf⟩ := ob_s hf
      refine mc_X3_X3_puts S hC hD hK hP hS hv7 hl.1 ⟨Nat.le_of_ble_eq_true rfl, Nat.le_of_ble_eq_true rfl⟩ (Nat.le_of_ble_eq_true rfl) ⟨Nat.zero_le _, Nat.zero_le _⟩ dX3_unbid_51 (fun H locs _ hP hS => ?_)
      refine lv_aload_n hx hb dX3_unbid_54 rfl (lv_at hl 0 rfl) ?_
      refine lv_aload_n hx hb dX3_unbid_55 rfl (lv_at hl 0 rfl) ?_
      refine lv_iload_n hx hb dX3_unbid_56 rfl (lv_at hl 1 rfl) ?_
      refine lv_bipush hx hb dX3_unbid_57 kc_b10 ?_
      obtain ⟨v8, hv8, hf⟩ := ob_s hf
      refine mc_X3_X3_of S hC hK hP hv8 hl.1 ⟨Nat.le_of_ble_eq_true rfl, Nat.le_of_ble_eq_true rfl⟩ (Nat.le_of_ble_eq_true rfl) ⟨Nat.zero_le _, Nat.zero_le _⟩ dX3_unbid_59 (fun _ => ?_)
      obtain ⟨v9, hv9, hf⟩ := ob_s hf
      refine mc_X3_X3_bits S hK hv9 hl.1 ⟨Nat.le_of_ble_eq_true rfl, Nat.le_of_ble_eq_true rfl⟩ (Nat.le_of_ble_eq_true rfl) ⟨Nat.zero_le _, Nat.zero_le _⟩ dX3_unbid_62 (fun _ => ?_)
      obtain ⟨v10, hv10, hf⟩ := ob_s hf
      refine mc_X3_X3_gives S hC hD hK hP hS hv10 hl.1 ⟨Nat.le_of_ble_eq_true rfl, Nat.le_of_ble_eq_true rfl⟩ (Nat.le_of_ble_eq_true rfl) ⟨Nat.zero_le _, Nat.zero_le _⟩ dX3_unbid_65 (fun H locs _ hP hS => ?_)
      have hE := Option.some.inj hf
      subst hE
      exact gt_wi S hr hlocks trivial hP hS dX3_unbid_68
    · replace hf := it_t c4 hf
      refine lv_aload_n hx hb dX3_unbid_24 rfl (lv_at hl 0 rfl) ?_
      refine lv_iconst hx hb dX3_unbid_25 kc_i5 ?_
      obtain ⟨v11, hv11, hf⟩ := ob_s hf
      refine mc_X3_X3_refuse S hC hD hK hP hS hv11 hl.1 ⟨Nat.le_of_ble_eq_true rfl, Nat.le_of_ble_eq_true rfl⟩ (Nat.le_of_ble_eq_true rfl) ⟨Nat.zero_le _, Nat.zero_le _⟩ dX3_unbid_26 (fun H locs _ hP hS => ?_)
      have hE := Option.some.inj hf
      subst hE
      exact gt_wi S hr hlocks trivial hP hS dX3_unbid_29
  · replace hf := it_t c2 hf
    refine lv_aload_n hx hb dX3_unbid_9 rfl (lv_at hl 0 rfl) ?_
    refine lv_iconst hx hb dX3_unbid_10 kc_i2 ?_
    obtain ⟨v12, hv12, hf⟩ := ob_s hf
    refine mc_X3_X3_refuse S hC hD hK hP hS hv12 hl.1 ⟨Nat.le_of_ble_eq_true rfl, Nat.le_of_ble_eq_true rfl⟩ (Nat.le_of_ble_eq_true rfl) ⟨Nat.zero_le _, Nat.zero_le _⟩ dX3_unbid_11 (fun H locs _ hP hS => ?_)
    have hE := Option.some.inj hf
    subst hE
    exact gt_wi S hr hlocks trivial hP hS dX3_unbid_14
theorem hd_X3_auto : yX3_auto.cls = RX3 ∧ yX3_auto.cls ≠ "java/lang/invoke/MethodHandle" ∧ yX3_auto.cls ≠ "java/lang/invoke/VarHandle" ∧ (parseMethodDescriptor yX3_auto.desc).map (fun d => d.parameters.length) = some 0 := by decide +kernel
set_option maxHeartbeats 4000000 in
set_option maxRecDepth 100000 in
theorem mm_X3_auto  {out : Int32 × Int32 × Int32 × Int32 × (Nat → Int32) × (Nat → Int32) × (Nat → Int32)} (hC : mC cl tys mi cI cJ cB) (hD : mD o ad) (hf : f_X3_auto th st ac nw aa kp = some out) : Met l yX3_auto (ws_ yX3_auto cX3_auto 2 (some .int)) (rM 6 134) (gPc D cl tys [.ref o] (mW mi cI cJ cB o ad th tp st fk fp ac si fr tt kd nu fa pl fo wd ci gr lm om nw rd aa kp ta nm rn gv gt rw rh lg lh ou)) (gQ D cl (some (.int out.1)) True (mW mi cI cJ cB o ad out.2.1 tp out.2.2.1 fk fp out.2.2.2.1 si fr tt kd nu fa pl fo wd ci gr lm om out.2.2.2.2.1 rd out.2.2.2.2.2.1 out.2.2.2.2.2.2 ta nm rn gv gt rw rh lg lh ou) (mA o ad)) 0 0 (mA o ad) := by
  refine gGo (by decide +kernel) (Nat.le_of_ble_eq_true rfl) (fun p e s m below meth c ls S hr hlocks hK hP hl => ?_)
  have S : CallFix p m c cX3_auto 2 s _ lw_all RX3 := S
  obtain ⟨hx, hb, hml, hown, hts⟩ := id S
  have hl : lv_has ls 2 [(0, .ref o)] := hl
  suffices hg : ∀ (H : Heap) (locs : List Loc), va_P D cl (mW mi cI cJ cB o ad th tp st fk fp ac si fr tt kd nu fa pl fo wd ci gr lm om nw rd aa kp ta nm rn gv gt rw rh lg lh ou) H → va_S (mA o ad) s.heap H locs → W p l e (rM 6 134) s m ([.ref o] : List Value).toArray below meth c H locs 0 0 (MQ below (gQ D cl (some (.int out.1)) True (mW mi cI cJ cB o ad out.2.1 tp out.2.2.1 fk fp out.2.2.2.1 si fr tt kd nu fa pl fo wd ci gr lm om out.2.2.2.2.1 rd out.2.2.2.2.2.1 out.2.2.2.2.2.2 ta nm rn gv gt rw rh lg lh ou) (mA o ad)) ([.ref o] : List Value).toArray s 0 0 (mA o ad)) (F0 m 0 ls []) from hg s.heap [] hP va_S.rf
  clear hP
  intro H locs hP hS
  rw [f_X3_auto] at hf
  refine lv_aload_n hx hb dX3_auto_0 rfl (lv_at hl 0 rfl) ?_
  refine mg_1 S hC hK hP dX3_auto_1 ?_
  refine lv_aload_n hx hb dX3_auto_4 rfl (lv_at hl 0 rfl) ?_
  refine mg_3 S hC hK hP dX3_auto_5 ?_
  obtain ⟨v1, hv1, hf⟩ := ob_s hf
  refine mc_X3_X3_copies_nw_aa S hC hD hK hP hS hv1 hl.1 ⟨Nat.le_of_ble_eq_true rfl, Nat.le_of_ble_eq_true rfl⟩ (Nat.le_of_ble_eq_true rfl) ⟨Nat.zero_le _, Nat.zero_le _⟩ dX3_auto_8 (fun H locs _ hP hS => ?_)
  refine lv_aload_n hx hb dX3_auto_11 rfl (lv_at hl 0 rfl) ?_
  obtain ⟨v2, hv2, hf⟩ := ob_s hf
  refine mc_X3_X3_allBid S hC hD hK hP hS hv2 hl.1 ⟨Nat.le_of_ble_eq_true rfl, Nat.le_of_ble_eq_true rfl⟩ (Nat.le_of_ble_eq_true rfl) ⟨Nat.zero_le _, Nat.zero_le _⟩ dX3_auto_12 (fun H locs _ hP hS => ?_)
  refine lv_istore_n (i := 1) (lv' := [(1, .int v2.1), (0, .ref o)]) hx hb dX3_auto_15 rfl hl (by decide) rfl (fun ls hl => ?_)
  refine lv_aload_n hx hb dX3_auto_16 rfl (lv_at hl 1 rfl) ?_
  refine mg_3 S hC hK hP dX3_auto_17 ?_
  refine lv_aload_n hx hb dX3_auto_20 rfl (lv_at hl 1 rfl) ?_
  refine mg_1 S hC hK hP dX3_auto_21 ?_
  obtain ⟨v3, hv3, hf⟩ := ob_s hf
  refine mc_X3_X3_copies_aa_nw S hC hD hK hP hS hv3 hl.1 ⟨Nat.le_of_ble_eq_true rfl, Nat.le_of_ble_eq_true rfl⟩ (Nat.le_of_ble_eq_true rfl) ⟨Nat.zero_le _, Nat.zero_le _⟩ dX3_auto_24 (fun H locs _ hP hS => ?_)
  refine lv_iload_n hx hb dX3_auto_27 rfl (lv_at hl 0 rfl) ?_
  refine lv_if_ne (tgt := 37) hx hb dX3_auto_28 (by decide) (fun c4 => ?_) (fun c4 => ?_)
  · replace hf := it_f c4 hf
    refine lv_aload_n hx hb dX3_auto_37 rfl (lv_at hl 1 rfl) ?_
    obtain ⟨v5, hv5, hf⟩ := ob_s hf
    refine mc_X3_X3_keeps S hC hD hK hP hS hv5 hl.1 ⟨Nat.le_of_ble_eq_true rfl, Nat.le_of_ble_eq_true rfl⟩ (Nat.le_of_ble_eq_true rfl) ⟨Nat.zero_le _, Nat.zero_le _⟩ dX3_auto_38 (fun H locs _ hP hS => ?_)
    refine lv_aload_n hx hb dX3_auto_41 rfl (lv_at hl 1 rfl) ?_
    refine lv_aload_n hx hb dX3_auto_42 rfl (lv_at hl 1 rfl) ?_
    obtain ⟨v6, hv6, hf⟩ := ob_s hf
    refine mc_X3_X3_allBid S hC hD hK hP hS hv6 hl.1 ⟨Nat.le_of_ble_eq_true rfl, Nat.le_of_ble_eq_true rfl⟩ (Nat.le_of_ble_eq_true rfl) ⟨Nat.zero_le _, Nat.zero_le _⟩ dX3_auto_43 (fun H locs _ hP hS => ?_)
    obtain ⟨v7, hv7, hf⟩ := ob_s hf
    refine mc_X3_X3_gives S hC hD hK hP hS hv7 hl.1 ⟨Nat.le_of_ble_eq_true rfl, Nat.le_of_ble_eq_true rfl⟩ (Nat.le_of_ble_eq_true rfl) ⟨Nat.zero_le _, Nat.zero_le _⟩ dX3_auto_46 (fun H locs _ hP hS => ?_)
    have hE := Option.some.inj hf
    subst hE
    exact gt_wi S hr hlocks trivial hP hS dX3_auto_49
  · replace hf := it_t c4 hf
    refine lv_aload_n hx hb dX3_auto_31 rfl (lv_at hl 1 rfl) ?_
    refine lv_iconst hx hb dX3_auto_32 kc_i4 ?_
    obtain ⟨v8, hv8, hf⟩ := ob_s hf
    refine mc_X3_X3_refuse S hC hD hK hP hS hv8 hl.1 ⟨Nat.le_of_ble_eq_true rfl, Nat.le_of_ble_eq_true rfl⟩ (Nat.le_of_ble_eq_true rfl) ⟨Nat.zero_le _, Nat.zero_le _⟩ dX3_auto_33 (fun H locs _ hP hS => ?_)
    have hE := Option.some.inj hf
    subst hE
    exact gt_wi S hr hlocks trivial hP hS dX3_auto_36
theorem hd_X3_week : yX3_week.cls = RX3 ∧ yX3_week.cls ≠ "java/lang/invoke/MethodHandle" ∧ yX3_week.cls ≠ "java/lang/invoke/VarHandle" ∧ (parseMethodDescriptor yX3_week.desc).map (fun d => d.parameters.length) = some 0 := by decide +kernel
set_option maxHeartbeats 4000000 in
set_option maxRecDepth 100000 in
theorem mm_X3_week  {out : Int32 × Int32 × Int32 × Int32 × (Nat → Int32) × (Nat → Int32)} (hC : mC cl tys mi cI cJ cB) (hD : mD o ad) (hf : f_X3_week th st ac nw kp = some out) : Met l yX3_week (ws_ yX3_week cX3_week 1 (some .int)) (rM 8 183) (gPc D cl tys [.ref o] (mW mi cI cJ cB o ad th tp st fk fp ac si fr tt kd nu fa pl fo wd ci gr lm om nw rd aa kp ta nm rn gv gt rw rh lg lh ou)) (gQ D cl (some (.int out.1)) True (mW mi cI cJ cB o ad out.2.1 tp out.2.2.1 fk fp out.2.2.2.1 si fr tt kd nu fa pl fo wd ci gr lm om out.2.2.2.2.1 rd aa out.2.2.2.2.2 ta nm rn gv gt rw rh lg lh ou) (mA o ad)) 0 0 (mA o ad) := by
  refine gGo (by decide +kernel) (Nat.le_of_ble_eq_true rfl) (fun p e s m below meth c ls S hr hlocks hK hP hl => ?_)
  have S : CallFix p m c cX3_week 1 s _ lw_all RX3 := S
  obtain ⟨hx, hb, hml, hown, hts⟩ := id S
  have hl : lv_has ls 1 [(0, .ref o)] := hl
  suffices hg : ∀ (H : Heap) (locs : List Loc), va_P D cl (mW mi cI cJ cB o ad th tp st fk fp ac si fr tt kd nu fa pl fo wd ci gr lm om nw rd aa kp ta nm rn gv gt rw rh lg lh ou) H → va_S (mA o ad) s.heap H locs → W p l e (rM 8 183) s m ([.ref o] : List Value).toArray below meth c H locs 0 0 (MQ below (gQ D cl (some (.int out.1)) True (mW mi cI cJ cB o ad out.2.1 tp out.2.2.1 fk fp out.2.2.2.1 si fr tt kd nu fa pl fo wd ci gr lm om out.2.2.2.2.1 rd aa out.2.2.2.2.2 ta nm rn gv gt rw rh lg lh ou) (mA o ad)) ([.ref o] : List Value).toArray s 0 0 (mA o ad)) (F0 m 0 ls []) from hg s.heap [] hP va_S.rf
  clear hP
  intro H locs hP hS
  rw [f_X3_week] at hf
  refine lv_aload_n hx hb dX3_week_0 rfl (lv_at hl 0 rfl) ?_
  refine mg_1 S hC hK hP dX3_week_1 ?_
  refine lv_sipush hx hb dX3_week_4 kc_s232 ?_
  refine ma_1 S hC hK hP kv_232_390 kn_232 dX3_week_7 ?_
  refine lv_sipush hx hb dX3_week_8 kc_s999 ?_
  refine lv_icmp_ne (tgt := 20) hx hb dX3_week_11 (by decide) (fun c1 => ?_) (fun c1 => ?_)
  · replace hf := it_f c1 hf
    refine lv_aload_n hx hb dX3_week_20 rfl (lv_at hl 0 rfl) ?_
    obtain ⟨v2, hv2, hf⟩ := ob_s hf
    refine mc_X3_X3_keeps S hC hD hK hP hS hv2 hl.1 ⟨Nat.le_of_ble_eq_true rfl, Nat.le_of_ble_eq_true rfl⟩ (Nat.le_of_ble_eq_true rfl) ⟨Nat.zero_le _, Nat.zero_le _⟩ dX3_week_21 (fun H locs _ hP hS => ?_)
    refine lv_aload_n hx hb dX3_week_24 rfl (lv_at hl 0 rfl) ?_
    refine lv_aload_n hx hb dX3_week_25 rfl (lv_at hl 0 rfl) ?_
    obtain ⟨v3, hv3, hf⟩ := ob_s hf
    refine mc_X3_X3_weekEnds S hC hD hK hP hS hv3 hl.1 ⟨Nat.le_of_ble_eq_true rfl, Nat.le_of_ble_eq_true rfl⟩ (Nat.le_of_ble_eq_true rfl) ⟨Nat.zero_le _, Nat.zero_le _⟩ dX3_week_26 (fun H locs _ hP hS => ?_)
    obtain ⟨v4, hv4, hf⟩ := ob_s hf
    refine mc_X3_X3_gives S hC hD hK hP hS hv4 hl.1 ⟨Nat.le_of_ble_eq_true rfl, Nat.le_of_ble_eq_true rfl⟩ (Nat.le_of_ble_eq_true rfl) ⟨Nat.zero_le _, Nat.zero_le _⟩ dX3_week_29 (fun H locs _ hP hS => ?_)
    have hE := Option.some.inj hf
    subst hE
    exact gt_wi S hr hlocks trivial hP hS dX3_week_32
  · replace hf := it_t c1 hf
    refine lv_aload_n hx hb dX3_week_14 rfl (lv_at hl 0 rfl) ?_
    refine lv_iconst hx hb dX3_week_15 kc_i3 ?_
    obtain ⟨v5, hv5, hf⟩ := ob_s hf
    refine mc_X3_X3_refuse S hC hD hK hP hS hv5 hl.1 ⟨Nat.le_of_ble_eq_true rfl, Nat.le_of_ble_eq_true rfl⟩ (Nat.le_of_ble_eq_true rfl) ⟨Nat.zero_le _, Nat.zero_le _⟩ dX3_week_16 (fun H locs _ hP hS => ?_)
    have hE := Option.some.inj hf
    subst hE
    exact gt_wi S hr hlocks trivial hP hS dX3_week_19
theorem hd_X3_wish : yX3_wish.cls = RX3 ∧ yX3_wish.cls ≠ "java/lang/invoke/MethodHandle" ∧ yX3_wish.cls ≠ "java/lang/invoke/VarHandle" ∧ (parseMethodDescriptor yX3_wish.desc).map (fun d => d.parameters.length) = some 2 := by decide +kernel
set_option maxHeartbeats 4000000 in
set_option maxRecDepth 100000 in
theorem mm_X3_wish {a0 : Int32} {a1 : Int32} {out : Int32 × Int32 × Int32 × Int32 × (Nat → Int32) × (Nat → Int32)} (hC : mC cl tys mi cI cJ cB) (hD : mD o ad) (hf : f_X3_wish th st ac nw kp a0 a1 = some out) : Met l yX3_wish (ws_ yX3_wish cX3_wish 4 (some .int)) (rM 3 66) (gPc D cl tys [.ref o, .int a0, .int a1] (mW mi cI cJ cB o ad th tp st fk fp ac si fr tt kd nu fa pl fo wd ci gr lm om nw rd aa kp ta nm rn gv gt rw rh lg lh ou)) (gQ D cl (some (.int out.1)) True (mW mi cI cJ cB o ad out.2.1 tp out.2.2.1 fk fp out.2.2.2.1 si fr tt kd nu fa pl fo wd ci gr lm om out.2.2.2.2.1 rd aa out.2.2.2.2.2 ta nm rn gv gt rw rh lg lh ou) (mA o ad)) 0 0 (mA o ad) := by
  refine gGo (by decide +kernel) (Nat.le_of_ble_eq_true rfl) (fun p e s m below meth c ls S hr hlocks hK hP hl => ?_)
  have S : CallFix p m c cX3_wish 4 s _ lw_all RX3 := S
  obtain ⟨hx, hb, hml, hown, hts⟩ := id S
  have hl : lv_has ls 4 [(0, .ref o), (1, .int a0), (2, .int a1)] := hl
  suffices hg : ∀ (H : Heap) (locs : List Loc), va_P D cl (mW mi cI cJ cB o ad th tp st fk fp ac si fr tt kd nu fa pl fo wd ci gr lm om nw rd aa kp ta nm rn gv gt rw rh lg lh ou) H → va_S (mA o ad) s.heap H locs → W p l e (rM 3 66) s m ([.ref o, .int a0, .int a1] : List Value).toArray below meth c H locs 0 0 (MQ below (gQ D cl (some (.int out.1)) True (mW mi cI cJ cB o ad out.2.1 tp out.2.2.1 fk fp out.2.2.2.1 si fr tt kd nu fa pl fo wd ci gr lm om out.2.2.2.2.1 rd aa out.2.2.2.2.2 ta nm rn gv gt rw rh lg lh ou) (mA o ad)) ([.ref o, .int a0, .int a1] : List Value).toArray s 0 0 (mA o ad)) (F0 m 0 ls []) from hg s.heap [] hP va_S.rf
  clear hP
  intro H locs hP hS
  rw [f_X3_wish] at hf
  refine lv_aload_n hx hb dX3_wish_0 rfl (lv_at hl 0 rfl) ?_
  refine lv_iload_n hx hb dX3_wish_1 rfl (lv_at hl 1 rfl) ?_
  refine lv_iload_n hx hb dX3_wish_2 rfl (lv_at hl 2 rfl) ?_
  obtain ⟨v1, hv1, hf⟩ := ob_s hf
  refine mc_X3_X3_areOnes S hC hK hP hv1 hl.1 ⟨Nat.le_of_ble_eq_true rfl, Nat.le_of_ble_eq_true rfl⟩ (Nat.le_of_ble_eq_true rfl) ⟨Nat.zero_le _, Nat.zero_le _⟩ dX3_wish_3 (fun hnv1 => ?_)
  refine lv_if_ne (tgt := 15) hx hb dX3_wish_6 (by decide) (fun c2 => ?_) (fun c2 => ?_)
  · replace hf := it_f c2 hf
    refine lv_aload_n hx hb dX3_wish_15 rfl (lv_at hl 0 rfl) ?_
    refine lv_iload_n hx hb dX3_wish_16 rfl (lv_at hl 1 rfl) ?_
    refine lv_iload_n hx hb dX3_wish_17 rfl (lv_at hl 2 rfl) ?_
    obtain ⟨v3, hv3, hf⟩ := ob_s hf
    refine mc_X3_X3_wishOf S hC hK hP hv3 hl.1 ⟨Nat.le_of_ble_eq_true rfl, Nat.le_of_ble_eq_true rfl⟩ (Nat.le_of_ble_eq_true rfl) ⟨Nat.zero_le _, Nat.zero_le _⟩ dX3_wish_18 (fun _ => ?_)
    refine lv_iconst hx hb dX3_wish_21 kc_im1 ?_
    refine lv_icmp_eq (tgt := 31) hx hb dX3_wish_22 (by decide) (fun c4 => ?_) (fun c4 => ?_)
    · replace hf := it_t c4 hf
      refine lv_aload_n hx hb dX3_wish_31 rfl (lv_at hl 0 rfl) ?_
      refine lv_iload_n hx hb dX3_wish_32 rfl (lv_at hl 1 rfl) ?_
      refine lv_bipush hx hb dX3_wish_33 kc_b11 ?_
      obtain ⟨v5, hv5, hf⟩ := ob_s hf
      refine mc_X3_X3_of S hC hK hP hv5 hl.1 ⟨Nat.le_of_ble_eq_true rfl, Nat.le_of_ble_eq_true rfl⟩ (Nat.le_of_ble_eq_true rfl) ⟨Nat.zero_le _, Nat.zero_le _⟩ dX3_wish_35 (fun _ => ?_)
      refine lv_istore_n (i := 3) (lv' := [(3, .int v5), (0, .ref o), (1, .int a0), (2, .int a1)]) hx hb dX3_wish_38 rfl hl (by decide) rfl (fun ls hl => ?_)
      refine lv_iload_n hx hb dX3_wish_39 rfl (lv_at hl 0 rfl) ?_
      refine lv_bipush hx hb dX3_wish_40 kc_b6 ?_
      refine lv_icmp_ne (tgt := 51) hx hb dX3_wish_42 (by decide) (fun c6 => ?_) (fun c6 => ?_)
      · replace hf := it_f c6 hf
        refine lv_aload_n hx hb dX3_wish_51 rfl (lv_at hl 1 rfl) ?_
        obtain ⟨v7, hv7, hf⟩ := ob_s hf
        refine mc_X3_X3_keeps S hC hD hK hP hS hv7 hl.1 ⟨Nat.le_of_ble_eq_true rfl, Nat.le_of_ble_eq_true rfl⟩ (Nat.le_of_ble_eq_true rfl) ⟨Nat.zero_le _, Nat.zero_le _⟩ dX3_wish_52 (fun H locs _ hP hS => ?_)
        refine lv_aload_n hx hb dX3_wish_55 rfl (lv_at hl 1 rfl) ?_
        refine lv_iload_n hx hb dX3_wish_56 rfl (lv_at hl 2 rfl) ?_
        refine lv_bipush hx hb dX3_wish_57 kc_b12 ?_
        refine lv_iload_n hx hb dX3_wish_59 rfl (lv_at hl 0 rfl) ?_
        refine lv_iadd hx hb dX3_wish_60 ?_
        refine lv_iload_n hx hb dX3_wish_61 rfl (lv_at hl 3 rfl) ?_
        obtain ⟨v8, hv8, hf⟩ := ob_s hf
        refine mc_X3_X3_puts S hC hD hK hP hS hv8 hl.1 ⟨Nat.le_of_ble_eq_true rfl, Nat.le_of_ble_eq_true rfl⟩ (Nat.le_of_ble_eq_true rfl) ⟨Nat.zero_le _, Nat.zero_le _⟩ dX3_wish_62 (fun H locs _ hP hS => ?_)
        refine lv_aload_n hx hb dX3_wish_65 rfl (lv_at hl 1 rfl) ?_
        refine lv_iload_n hx hb dX3_wish_66 rfl (lv_at hl 2 rfl) ?_
        refine lv_bipush hx hb dX3_wish_67 kc_b11 ?_
        refine lv_iload_n hx hb dX3_wish_69 rfl (lv_at hl 0 rfl) ?_
        refine lv_iconst hx hb dX3_wish_70 kc_i1 ?_
        refine lv_iadd hx hb dX3_wish_71 ?_
        obtain ⟨v9, hv9, hf⟩ := ob_s hf
        refine mc_X3_X3_puts S hC hD hK hP hS hv9 hl.1 ⟨Nat.le_of_ble_eq_true rfl, Nat.le_of_ble_eq_true rfl⟩ (Nat.le_of_ble_eq_true rfl) ⟨Nat.zero_le _, Nat.zero_le _⟩ dX3_wish_72 (fun H locs _ hP hS => ?_)
        refine lv_aload_n hx hb dX3_wish_75 rfl (lv_at hl 1 rfl) ?_
        refine lv_iload_n hx hb dX3_wish_76 rfl (lv_at hl 0 rfl) ?_
        refine lv_iconst hx hb dX3_wish_77 kc_i1 ?_
        refine lv_iadd hx hb dX3_wish_78 ?_
        obtain ⟨v10, hv10, hf⟩ := ob_s hf
        refine mc_X3_X3_gives S hC hD hK hP hS hv10 hl.1 ⟨Nat.le_of_ble_eq_true rfl, Nat.le_of_ble_eq_true rfl⟩ (Nat.le_of_ble_eq_true rfl) ⟨Nat.zero_le _, Nat.zero_le _⟩ dX3_wish_79 (fun H locs _ hP hS => ?_)
        have hE := Option.some.inj hf
        subst hE
        exact gt_wi S hr hlocks trivial hP hS dX3_wish_82
      · replace hf := it_t c6 hf
        refine lv_aload_n hx hb dX3_wish_45 rfl (lv_at hl 1 rfl) ?_
        refine lv_iconst hx hb dX3_wish_46 kc_i3 ?_
        obtain ⟨v11, hv11, hf⟩ := ob_s hf
        refine mc_X3_X3_refuse S hC hD hK hP hS hv11 hl.1 ⟨Nat.le_of_ble_eq_true rfl, Nat.le_of_ble_eq_true rfl⟩ (Nat.le_of_ble_eq_true rfl) ⟨Nat.zero_le _, Nat.zero_le _⟩ dX3_wish_47 (fun H locs _ hP hS => ?_)
        have hE := Option.some.inj hf
        subst hE
        exact gt_wi S hr hlocks trivial hP hS dX3_wish_50
    · replace hf := it_f c4 hf
      refine lv_aload_n hx hb dX3_wish_25 rfl (lv_at hl 0 rfl) ?_
      refine lv_iconst hx hb dX3_wish_26 kc_i4 ?_
      obtain ⟨v12, hv12, hf⟩ := ob_s hf
      refine mc_X3_X3_refuse S hC hD hK hP hS hv12 hl.1 ⟨Nat.le_of_ble_eq_true rfl, Nat.le_of_ble_eq_true rfl⟩ (Nat.le_of_ble_eq_true rfl) ⟨Nat.zero_le _, Nat.zero_le _⟩ dX3_wish_27 (fun H locs _ hP hS => ?_)
      have hE := Option.some.inj hf
      subst hE
      exact gt_wi S hr hlocks trivial hP hS dX3_wish_30
  · replace hf := it_t c2 hf
    refine lv_aload_n hx hb dX3_wish_9 rfl (lv_at hl 0 rfl) ?_
    refine lv_iconst hx hb dX3_wish_10 kc_i2 ?_
    obtain ⟨v13, hv13, hf⟩ := ob_s hf
    refine mc_X3_X3_refuse S hC hD hK hP hS hv13 hl.1 ⟨Nat.le_of_ble_eq_true rfl, Nat.le_of_ble_eq_true rfl⟩ (Nat.le_of_ble_eq_true rfl) ⟨Nat.zero_le _, Nat.zero_le _⟩ dX3_wish_11 (fun H locs _ hP hS => ?_)
    have hE := Option.some.inj hf
    subst hE
    exact gt_wi S hr hlocks trivial hP hS dX3_wish_14
theorem hd_X3_unwish : yX3_unwish.cls = RX3 ∧ yX3_unwish.cls ≠ "java/lang/invoke/MethodHandle" ∧ yX3_unwish.cls ≠ "java/lang/invoke/VarHandle" ∧ (parseMethodDescriptor yX3_unwish.desc).map (fun d => d.parameters.length) = some 2 := by decide +kernel
set_option maxHeartbeats 4000000 in
set_option maxRecDepth 100000 in
theorem mm_X3_unwish {a0 : Int32} {a1 : Int32} {out : Int32 × Int32 × Int32 × Int32 × (Nat → Int32) × (Nat → Int32)} (hC : mC cl tys mi cI cJ cB) (hD : mD o ad) (hf : f_X3_unwish th st ac nw kp a0 a1 = some out) : Met l yX3_unwish (ws_ yX3_unwish cX3_unwish 6 (some .int)) (rM 3 66) (gPc D cl tys [.ref o, .int a0, .int a1] (mW mi cI cJ cB o ad th tp st fk fp ac si fr tt kd nu fa pl fo wd ci gr lm om nw rd aa kp ta nm rn gv gt rw rh lg lh ou)) (gQ D cl (some (.int out.1)) True (mW mi cI cJ cB o ad out.2.1 tp out.2.2.1 fk fp out.2.2.2.1 si fr tt kd nu fa pl fo wd ci gr lm om out.2.2.2.2.1 rd aa out.2.2.2.2.2 ta nm rn gv gt rw rh lg lh ou) (mA o ad)) 0 0 (mA o ad) := by
  refine gGo (by decide +kernel) (Nat.le_of_ble_eq_true rfl) (fun p e s m below meth c ls S hr hlocks hK hP hl => ?_)
  have S : CallFix p m c cX3_unwish 6 s _ lw_all RX3 := S
  obtain ⟨hx, hb, hml, hown, hts⟩ := id S
  have hl : lv_has ls 6 [(0, .ref o), (1, .int a0), (2, .int a1)] := hl
  have w51 : ∀ (n : Nat) , ∀ (x1 : Int32) (x4 : Int32) (x5 : Int32) (th : Int32) (st : Int32) (ac : Int32) (nw : (Nat → Int32)) (kp : (Nat → Int32)) (ls : Array Slot) (H : Heap) (locs : List Loc), va_P D cl (mW mi cI cJ cB o ad th tp st fk fp ac si fr tt kd nu fa pl fo wd ci gr lm om nw rd aa kp ta nm rn gv gt rw rh lg lh ou) H → va_S (mA o ad) s.heap H locs → lv_has ls 6 [(0, .ref o), (1, .int x1), (4, .int x4), (5, .int x5)] → f_X3_unwish_51 n x1 x4 x5 th st ac nw kp = some out → W p l e (rM 3 66) s m ([.ref o, .int a0, .int a1] : List Value).toArray below meth c H locs 0 0 (MQ below (gQ D cl (some (.int out.1)) True (mW mi cI cJ cB o ad out.2.1 tp out.2.2.1 fk fp out.2.2.2.1 si fr tt kd nu fa pl fo wd ci gr lm om out.2.2.2.2.1 rd aa out.2.2.2.2.2 ta nm rn gv gt rw rh lg lh ou) (mA o ad)) ([.ref o, .int a0, .int a1] : List Value).toArray s 0 0 (mA o ad)) (F0 m 51 ls []) := by
    intro n
    induction n with
    | zero =>
      intro x1 x4 x5 th st ac nw kp ls H locs hP hS hl hf
      exact absurd hf (by rw [f_X3_unwish_51]; exact nofun)
    | succ n ih =>
      intro x1 x4 x5 th st ac nw kp ls H locs hP hS hl hf
      rw [f_X3_unwish_51] at hf
      refine lv_iload hx hb dX3_unwish_51 (lv_at hl 3 rfl) ?_
      refine lv_iload hx hb dX3_unwish_53 (lv_at hl 2 rfl) ?_
      refine lv_icmp_ge (tgt := 86) hx hb dX3_unwish_55 (by decide) (fun c1 => ?_) (fun c1 => ?_)
      · replace hf := it_t c1 hf
        refine lv_aload_n hx hb dX3_unwish_86 rfl (lv_at hl 0 rfl) ?_
        refine lv_iload_n hx hb dX3_unwish_87 rfl (lv_at hl 1 rfl) ?_
        refine lv_bipush hx hb dX3_unwish_88 kc_b11 ?_
        refine lv_iload hx hb dX3_unwish_90 (lv_at hl 2 rfl) ?_
        obtain ⟨v2, hv2, hf⟩ := ob_s hf
        refine mc_X3_X3_puts S hC hD hK hP hS hv2 hl.1 ⟨Nat.le_of_ble_eq_true rfl, Nat.le_of_ble_eq_true rfl⟩ (Nat.le_of_ble_eq_true rfl) ⟨Nat.zero_le _, Nat.zero_le _⟩ dX3_unwish_92 (fun H locs _ hP hS => ?_)
        refine lv_aload_n hx hb dX3_unwish_95 rfl (lv_at hl 0 rfl) ?_
        refine lv_iload hx hb dX3_unwish_96 (lv_at hl 2 rfl) ?_
        obtain ⟨v3, hv3, hf⟩ := ob_s hf
        refine mc_X3_X3_gives S hC hD hK hP hS hv3 hl.1 ⟨Nat.le_of_ble_eq_true rfl, Nat.le_of_ble_eq_true rfl⟩ (Nat.le_of_ble_eq_true rfl) ⟨Nat.zero_le _, Nat.zero_le _⟩ dX3_unwish_98 (fun H locs _ hP hS => ?_)
        have hE := Option.some.inj hf
        subst hE
        exact gt_wi S hr hlocks trivial hP hS dX3_unwish_101
      · replace hf := it_f c1 hf
        refine lv_aload_n hx hb dX3_unwish_58 rfl (lv_at hl 0 rfl) ?_
        refine lv_iload_n hx hb dX3_unwish_59 rfl (lv_at hl 1 rfl) ?_
        refine lv_bipush hx hb dX3_unwish_60 kc_b12 ?_
        refine lv_iload hx hb dX3_unwish_62 (lv_at hl 3 rfl) ?_
        refine lv_iadd hx hb dX3_unwish_64 ?_
        refine lv_aload_n hx hb dX3_unwish_65 rfl (lv_at hl 0 rfl) ?_
        refine lv_iload_n hx hb dX3_unwish_66 rfl (lv_at hl 1 rfl) ?_
        refine lv_bipush hx hb dX3_unwish_67 kc_b12 ?_
        refine lv_iload hx hb dX3_unwish_69 (lv_at hl 3 rfl) ?_
        refine lv_iadd hx hb dX3_unwish_71 ?_
        refine lv_iconst hx hb dX3_unwish_72 kc_i1 ?_
        refine lv_iadd hx hb dX3_unwish_73 ?_
        obtain ⟨v4, hv4, hf⟩ := ob_s hf
        refine mc_X3_X3_of S hC hK hP hv4 hl.1 ⟨Nat.le_of_ble_eq_true rfl, Nat.le_of_ble_eq_true rfl⟩ (Nat.le_of_ble_eq_true rfl) ⟨Nat.zero_le _, Nat.zero_le _⟩ dX3_unwish_74 (fun _ => ?_)
        obtain ⟨v5, hv5, hf⟩ := ob_s hf
        refine mc_X3_X3_puts S hC hD hK hP hS hv5 hl.1 ⟨Nat.le_of_ble_eq_true rfl, Nat.le_of_ble_eq_true rfl⟩ (Nat.le_of_ble_eq_true rfl) ⟨Nat.zero_le _, Nat.zero_le _⟩ dX3_unwish_77 (fun H locs _ hP hS => ?_)
        refine lv_iinc (v := (x5 + 1)) (lv' := [(5, .int (x5 + 1)), (0, .ref o), (1, .int x1), (4, .int x4)]) hx hb dX3_unwish_80 hl (k := 3) rfl rfl (by decide) rfl (fun ls hl => ?_)
        refine lv_goto (tgt := 51) hx hb dX3_unwish_83 (by decide) ?_
        exact (ih) x1 x4 (x5 + 1) th st ac v5 kp ls H locs hP hS (lv_sub (l' := [(0, .ref o), (1, .int x1), (4, .int x4), (5, .int (x5 + 1))]) hl [1, 2, 3, 0] rfl) hf
  suffices hg : ∀ (H : Heap) (locs : List Loc), va_P D cl (mW mi cI cJ cB o ad th tp st fk fp ac si fr tt kd nu fa pl fo wd ci gr lm om nw rd aa kp ta nm rn gv gt rw rh lg lh ou) H → va_S (mA o ad) s.heap H locs → W p l e (rM 3 66) s m ([.ref o, .int a0, .int a1] : List Value).toArray below meth c H locs 0 0 (MQ below (gQ D cl (some (.int out.1)) True (mW mi cI cJ cB o ad out.2.1 tp out.2.2.1 fk fp out.2.2.2.1 si fr tt kd nu fa pl fo wd ci gr lm om out.2.2.2.2.1 rd aa out.2.2.2.2.2 ta nm rn gv gt rw rh lg lh ou) (mA o ad)) ([.ref o, .int a0, .int a1] : List Value).toArray s 0 0 (mA o ad)) (F0 m 0 ls []) from hg s.heap [] hP va_S.rf
  clear hP
  intro H locs hP hS
  rw [f_X3_unwish] at hf
  refine lv_aload_n hx hb dX3_unwish_0 rfl (lv_at hl 0 rfl) ?_
  refine lv_iload_n hx hb dX3_unwish_1 rfl (lv_at hl 1 rfl) ?_
  refine lv_iload_n hx hb dX3_unwish_2 rfl (lv_at hl 2 rfl) ?_
  obtain ⟨v1, hv1, hf⟩ := ob_s hf
  refine mc_X3_X3_areOnes S hC hK hP hv1 hl.1 ⟨Nat.le_of_ble_eq_true rfl, Nat.le_of_ble_eq_true rfl⟩ (Nat.le_of_ble_eq_true rfl) ⟨Nat.zero_le _, Nat.zero_le _⟩ dX3_unwish_3 (fun hnv1 => ?_)
  refine lv_if_ne (tgt := 15) hx hb dX3_unwish_6 (by decide) (fun c2 => ?_) (fun c2 => ?_)
  · replace hf := it_f c2 hf
    refine lv_aload_n hx hb dX3_unwish_15 rfl (lv_at hl 0 rfl) ?_
    refine lv_iload_n hx hb dX3_unwish_16 rfl (lv_at hl 1 rfl) ?_
    refine lv_iload_n hx hb dX3_unwish_17 rfl (lv_at hl 2 rfl) ?_
    obtain ⟨v3, hv3, hf⟩ := ob_s hf
    refine mc_X3_X3_wishOf S hC hK hP hv3 hl.1 ⟨Nat.le_of_ble_eq_true rfl, Nat.le_of_ble_eq_true rfl⟩ (Nat.le_of_ble_eq_true rfl) ⟨Nat.zero_le _, Nat.zero_le _⟩ dX3_unwish_18 (fun _ => ?_)
    refine lv_istore_n (i := 3) (lv' := [(3, .int v3), (0, .ref o), (1, .int a0), (2, .int a1)]) hx hb dX3_unwish_21 rfl hl (by decide) rfl (fun ls hl => ?_)
    refine lv_iload_n hx hb dX3_unwish_22 rfl (lv_at hl 0 rfl) ?_
    refine lv_iconst hx hb dX3_unwish_23 kc_im1 ?_
    refine lv_icmp_ne (tgt := 33) hx hb dX3_unwish_24 (by decide) (fun c4 => ?_) (fun c4 => ?_)
    · replace hf := it_f c4 hf
      refine lv_aload_n hx hb dX3_unwish_33 rfl (lv_at hl 1 rfl) ?_
      obtain ⟨v5, hv5, hf⟩ := ob_s hf
      refine mc_X3_X3_keeps S hC hD hK hP hS hv5 hl.1 ⟨Nat.le_of_ble_eq_true rfl, Nat.le_of_ble_eq_true rfl⟩ (Nat.le_of_ble_eq_true rfl) ⟨Nat.zero_le _, Nat.zero_le _⟩ dX3_unwish_34 (fun H locs _ hP hS => ?_)
      refine lv_aload_n hx hb dX3_unwish_37 rfl (lv_at hl 1 rfl) ?_
      refine lv_iload_n hx hb dX3_unwish_38 rfl (lv_at hl 2 rfl) ?_
      refine lv_bipush hx hb dX3_unwish_39 kc_b11 ?_
      obtain ⟨v6, hv6, hf⟩ := ob_s hf
      refine mc_X3_X3_of S hC hK hP hv6 hl.1 ⟨Nat.le_of_ble_eq_true rfl, Nat.le_of_ble_eq_true rfl⟩ (Nat.le_of_ble_eq_true rfl) ⟨Nat.zero_le _, Nat.zero_le _⟩ dX3_unwish_41 (fun _ => ?_)
      refine lv_iconst hx hb dX3_unwish_44 kc_i1 ?_
      refine lv_isub hx hb dX3_unwish_45 ?_
      refine lv_istore (lv' := [(4, .int (v6 - 1)), (3, .int v3), (0, .ref o), (1, .int a0), (2, .int a1)]) hx hb dX3_unwish_46 hl (by decide) rfl (fun ls hl => ?_)
      refine lv_iload_n hx hb dX3_unwish_48 rfl (lv_at hl 1 rfl) ?_
      refine lv_istore (lv' := [(5, .int v3), (4, .int (v6 - 1)), (3, .int v3), (0, .ref o), (1, .int a0), (2, .int a1)]) hx hb dX3_unwish_49 hl (by decide) rfl (fun ls hl => ?_)
      exact (w51 FU) a0 (v6 - 1) v3 th st v5.1 nw v5.2 ls H locs hP hS (lv_sub (l' := [(0, .ref o), (1, .int a0), (4, .int (v6 - 1)), (5, .int v3)]) hl [3, 4, 1, 0] rfl) hf
    · replace hf := it_t c4 hf
      refine lv_aload_n hx hb dX3_unwish_27 rfl (lv_at hl 1 rfl) ?_
      refine lv_iconst hx hb dX3_unwish_28 kc_i5 ?_
      obtain ⟨v7, hv7, hf⟩ := ob_s hf
      refine mc_X3_X3_refuse S hC hD hK hP hS hv7 hl.1 ⟨Nat.le_of_ble_eq_true rfl, Nat.le_of_ble_eq_true rfl⟩ (Nat.le_of_ble_eq_true rfl) ⟨Nat.zero_le _, Nat.zero_le _⟩ dX3_unwish_29 (fun H locs _ hP hS => ?_)
      have hE := Option.some.inj hf
      subst hE
      exact gt_wi S hr hlocks trivial hP hS dX3_unwish_32
  · replace hf := it_t c2 hf
    refine lv_aload_n hx hb dX3_unwish_9 rfl (lv_at hl 0 rfl) ?_
    refine lv_iconst hx hb dX3_unwish_10 kc_i2 ?_
    obtain ⟨v8, hv8, hf⟩ := ob_s hf
    refine mc_X3_X3_refuse S hC hD hK hP hS hv8 hl.1 ⟨Nat.le_of_ble_eq_true rfl, Nat.le_of_ble_eq_true rfl⟩ (Nat.le_of_ble_eq_true rfl) ⟨Nat.zero_le _, Nat.zero_le _⟩ dX3_unwish_11 (fun H locs _ hP hS => ?_)
    have hE := Option.some.inj hf
    subst hE
    exact gt_wi S hr hlocks trivial hP hS dX3_unwish_14
theorem hd_X3_leave : yX3_leave.cls = RX3 ∧ yX3_leave.cls ≠ "java/lang/invoke/MethodHandle" ∧ yX3_leave.cls ≠ "java/lang/invoke/VarHandle" ∧ (parseMethodDescriptor yX3_leave.desc).map (fun d => d.parameters.length) = some 1 := by decide +kernel
set_option maxHeartbeats 4000000 in
set_option maxRecDepth 100000 in
theorem mm_X3_leave {a0 : Int32} {out : Int32 × Int32 × Int32 × Int32 × (Nat → Int32) × (Nat → Int32)} (hC : mC cl tys mi cI cJ cB) (hD : mD o ad) (hf : f_X3_leave th st ac nw kp a0 = some out) : Met l yX3_leave (ws_ yX3_leave cX3_leave 2 (some .int)) (rM 4 86) (gPc D cl tys [.ref o, .int a0] (mW mi cI cJ cB o ad th tp st fk fp ac si fr tt kd nu fa pl fo wd ci gr lm om nw rd aa kp ta nm rn gv gt rw rh lg lh ou)) (gQ D cl (some (.int out.1)) True (mW mi cI cJ cB o ad out.2.1 tp out.2.2.1 fk fp out.2.2.2.1 si fr tt kd nu fa pl fo wd ci gr lm om out.2.2.2.2.1 rd aa out.2.2.2.2.2 ta nm rn gv gt rw rh lg lh ou) (mA o ad)) 0 0 (mA o ad) := by
  refine gGo (by decide +kernel) (Nat.le_of_ble_eq_true rfl) (fun p e s m below meth c ls S hr hlocks hK hP hl => ?_)
  have S : CallFix p m c cX3_leave 2 s _ lw_all RX3 := S
  obtain ⟨hx, hb, hml, hown, hts⟩ := id S
  have hl : lv_has ls 2 [(0, .ref o), (1, .int a0)] := hl
  have w69 : ∀ (x1 : Int32) (th : Int32) (st : Int32) (ac : Int32) (nw : (Nat → Int32)) (kp : (Nat → Int32)) (ls : Array Slot) (H : Heap) (locs : List Loc), va_P D cl (mW mi cI cJ cB o ad th tp st fk fp ac si fr tt kd nu fa pl fo wd ci gr lm om nw rd aa kp ta nm rn gv gt rw rh lg lh ou) H → va_S (mA o ad) s.heap H locs → lv_has ls 2 [(0, .ref o), (1, .int x1)] → f_X3_leave_69 x1 th st ac nw kp = some out → W p l e (rM 4 86) s m ([.ref o, .int a0] : List Value).toArray below meth c H locs 0 0 (MQ below (gQ D cl (some (.int out.1)) True (mW mi cI cJ cB o ad out.2.1 tp out.2.2.1 fk fp out.2.2.2.1 si fr tt kd nu fa pl fo wd ci gr lm om out.2.2.2.2.1 rd aa out.2.2.2.2.2 ta nm rn gv gt rw rh lg lh ou) (mA o ad)) ([.ref o, .int a0] : List Value).toArray s 0 0 (mA o ad)) (F0 m 69 ls []) := by
    intro x1 th st ac nw kp ls H locs hP hS hl hf
    rw [f_X3_leave_69] at hf
    refine lv_aload_n hx hb dX3_leave_69 rfl (lv_at hl 0 rfl) ?_
    refine lv_iload_n hx hb dX3_leave_70 rfl (lv_at hl 1 rfl) ?_
    refine lv_iconst hx hb dX3_leave_71 kc_i4 ?_
    refine lv_iconst hx hb dX3_leave_72 kc_im1 ?_
    obtain ⟨v1, hv1, hf⟩ := ob_s hf
    refine mc_X3_X3_puts S hC hD hK hP hS hv1 hl.1 ⟨Nat.le_of_ble_eq_true rfl, Nat.le_of_ble_eq_true rfl⟩ (Nat.le_of_ble_eq_true rfl) ⟨Nat.zero_le _, Nat.zero_le _⟩ dX3_leave_73 (fun H locs _ hP hS => ?_)
    refine lv_aload_n hx hb dX3_leave_76 rfl (lv_at hl 0 rfl) ?_
    refine lv_aload_n hx hb dX3_leave_77 rfl (lv_at hl 0 rfl) ?_
    obtain ⟨v2, hv2, hf⟩ := ob_s hf
    refine mc_X3_X3_inOnes S hC hK hP hv2 hl.1 ⟨Nat.le_of_ble_eq_true rfl, Nat.le_of_ble_eq_true rfl⟩ (Nat.le_of_ble_eq_true rfl) ⟨Nat.zero_le _, Nat.zero_le _⟩ dX3_leave_78 (fun _ => ?_)
    obtain ⟨v3, hv3, hf⟩ := ob_s hf
    refine mc_X3_X3_gives S hC hD hK hP hS hv3 hl.1 ⟨Nat.le_of_ble_eq_true rfl, Nat.le_of_ble_eq_true rfl⟩ (Nat.le_of_ble_eq_true rfl) ⟨Nat.zero_le _, Nat.zero_le _⟩ dX3_leave_81 (fun H locs _ hP hS => ?_)
    have hE := Option.some.inj hf
    subst hE
    exact gt_wi S hr hlocks trivial hP hS dX3_leave_84
  suffices hg : ∀ (H : Heap) (locs : List Loc), va_P D cl (mW mi cI cJ cB o ad th tp st fk fp ac si fr tt kd nu fa pl fo wd ci gr lm om nw rd aa kp ta nm rn gv gt rw rh lg lh ou) H → va_S (mA o ad) s.heap H locs → W p l e (rM 4 86) s m ([.ref o, .int a0] : List Value).toArray below meth c H locs 0 0 (MQ below (gQ D cl (some (.int out.1)) True (mW mi cI cJ cB o ad out.2.1 tp out.2.2.1 fk fp out.2.2.2.1 si fr tt kd nu fa pl fo wd ci gr lm om out.2.2.2.2.1 rd aa out.2.2.2.2.2 ta nm rn gv gt rw rh lg lh ou) (mA o ad)) ([.ref o, .int a0] : List Value).toArray s 0 0 (mA o ad)) (F0 m 0 ls []) from hg s.heap [] hP va_S.rf
  clear hP
  intro H locs hP hS
  rw [f_X3_leave] at hf
  refine lv_aload_n hx hb dX3_leave_0 rfl (lv_at hl 0 rfl) ?_
  refine lv_iload_n hx hb dX3_leave_1 rfl (lv_at hl 1 rfl) ?_
  obtain ⟨v1, hv1, hf⟩ := ob_s hf
  refine mc_X3_X3_isHouse S hC hK hP hv1 hl.1 ⟨Nat.le_of_ble_eq_true rfl, Nat.le_of_ble_eq_true rfl⟩ (Nat.le_of_ble_eq_true rfl) ⟨Nat.zero_le _, Nat.zero_le _⟩ dX3_leave_2 (fun hnv1 => ?_)
  refine lv_if_ne (tgt := 14) hx hb dX3_leave_5 (by decide) (fun c2 => ?_) (fun c2 => ?_)
  · replace hf := it_f c2 hf
    refine lv_aload_n hx hb dX3_leave_14 rfl (lv_at hl 0 rfl) ?_
    refine lv_iload_n hx hb dX3_leave_15 rfl (lv_at hl 1 rfl) ?_
    obtain ⟨v3, hv3, hf⟩ := ob_s hf
    refine mc_X3_X3_isIn S hC hK hP hv3 hl.1 ⟨Nat.le_of_ble_eq_true rfl, Nat.le_of_ble_eq_true rfl⟩ (Nat.le_of_ble_eq_true rfl) ⟨Nat.zero_le _, Nat.zero_le _⟩ dX3_leave_16 (fun hnv3 => ?_)
    refine lv_if_ne (tgt := 28) hx hb dX3_leave_19 (by decide) (fun c4 => ?_) (fun c4 => ?_)
    · replace hf := it_f c4 hf
      refine lv_aload_n hx hb dX3_leave_28 rfl (lv_at hl 0 rfl) ?_
      obtain ⟨v5, hv5, hf⟩ := ob_s hf
      refine mc_X3_X3_keeps S hC hD hK hP hS hv5 hl.1 ⟨Nat.le_of_ble_eq_true rfl, Nat.le_of_ble_eq_true rfl⟩ (Nat.le_of_ble_eq_true rfl) ⟨Nat.zero_le _, Nat.zero_le _⟩ dX3_leave_29 (fun H locs _ hP hS => ?_)
      refine lv_aload_n hx hb dX3_leave_32 rfl (lv_at hl 0 rfl) ?_
      refine lv_iload_n hx hb dX3_leave_33 rfl (lv_at hl 1 rfl) ?_
      refine lv_bipush hx hb dX3_leave_34 kc_b10 ?_
      refine lv_iconst hx hb dX3_leave_36 kc_i0 ?_
      obtain ⟨v6, hv6, hf⟩ := ob_s hf
      refine mc_X3_X3_puts S hC hD hK hP hS hv6 hl.1 ⟨Nat.le_of_ble_eq_true rfl, Nat.le_of_ble_eq_true rfl⟩ (Nat.le_of_ble_eq_true rfl) ⟨Nat.zero_le _, Nat.zero_le _⟩ dX3_leave_37 (fun H locs _ hP hS => ?_)
      refine lv_aload_n hx hb dX3_leave_40 rfl (lv_at hl 0 rfl) ?_
      refine lv_iload_n hx hb dX3_leave_41 rfl (lv_at hl 1 rfl) ?_
      refine lv_bipush hx hb dX3_leave_42 kc_b8 ?_
      refine lv_iconst hx hb dX3_leave_44 kc_i1 ?_
      obtain ⟨v7, hv7, hf⟩ := ob_s hf
      refine mc_X3_X3_puts S hC hD hK hP hS hv7 hl.1 ⟨Nat.le_of_ble_eq_true rfl, Nat.le_of_ble_eq_true rfl⟩ (Nat.le_of_ble_eq_true rfl) ⟨Nat.zero_le _, Nat.zero_le _⟩ dX3_leave_45 (fun H locs _ hP hS => ?_)
      refine lv_aload_n hx hb dX3_leave_48 rfl (lv_at hl 0 rfl) ?_
      refine lv_iload_n hx hb dX3_leave_49 rfl (lv_at hl 1 rfl) ?_
      refine lv_iconst hx hb dX3_leave_50 kc_i4 ?_
      obtain ⟨v8, hv8, hf⟩ := ob_s hf
      refine mc_X3_X3_of S hC hK hP hv8 hl.1 ⟨Nat.le_of_ble_eq_true rfl, Nat.le_of_ble_eq_true rfl⟩ (Nat.le_of_ble_eq_true rfl) ⟨Nat.zero_le _, Nat.zero_le _⟩ dX3_leave_51 (fun _ => ?_)
      refine lv_iconst hx hb dX3_leave_54 kc_im1 ?_
      refine lv_icmp_eq (tgt := 69) hx hb dX3_leave_55 (by decide) (fun c9 => ?_) (fun c9 => ?_)
      · replace hf := it_t c9 hf
        exact (w69) a0 th st v5.1 v7 v5.2 ls H locs hP hS hl hf
      · replace hf := it_f c9 hf
        refine lv_aload_n hx hb dX3_leave_58 rfl (lv_at hl 0 rfl) ?_
        refine lv_aload_n hx hb dX3_leave_59 rfl (lv_at hl 0 rfl) ?_
        refine lv_iload_n hx hb dX3_leave_60 rfl (lv_at hl 1 rfl) ?_
        refine lv_iconst hx hb dX3_leave_61 kc_i4 ?_
        obtain ⟨v10, hv10, hf⟩ := ob_s hf
        refine mc_X3_X3_of S hC hK hP hv10 hl.1 ⟨Nat.le_of_ble_eq_true rfl, Nat.le_of_ble_eq_true rfl⟩ (Nat.le_of_ble_eq_true rfl) ⟨Nat.zero_le _, Nat.zero_le _⟩ dX3_leave_62 (fun _ => ?_)
        refine lv_iconst hx hb dX3_leave_65 kc_i0 ?_
        obtain ⟨v11, hv11, hf⟩ := ob_s hf
        refine mc_X3_X3_leaves S hC hD hK hP hS hv11 hl.1 ⟨Nat.le_of_ble_eq_true rfl, Nat.le_of_ble_eq_true rfl⟩ (Nat.le_of_ble_eq_true rfl) ⟨Nat.zero_le _, Nat.zero_le _⟩ dX3_leave_66 (fun H locs _ hP hS => ?_)
        exact (w69) a0 th st v5.1 v11 v5.2 ls H locs hP hS hl hf
    · replace hf := it_t c4 hf
      refine lv_aload_n hx hb dX3_leave_22 rfl (lv_at hl 0 rfl) ?_
      refine lv_iconst hx hb dX3_leave_23 kc_i4 ?_
      obtain ⟨v12, hv12, hf⟩ := ob_s hf
      refine mc_X3_X3_refuse S hC hD hK hP hS hv12 hl.1 ⟨Nat.le_of_ble_eq_true rfl, Nat.le_of_ble_eq_true rfl⟩ (Nat.le_of_ble_eq_true rfl) ⟨Nat.zero_le _, Nat.zero_le _⟩ dX3_leave_24 (fun H locs _ hP hS => ?_)
      have hE := Option.some.inj hf
      subst hE
      exact gt_wi S hr hlocks trivial hP hS dX3_leave_27
  · replace hf := it_t c2 hf
    refine lv_aload_n hx hb dX3_leave_8 rfl (lv_at hl 0 rfl) ?_
    refine lv_iconst hx hb dX3_leave_9 kc_i2 ?_
    obtain ⟨v13, hv13, hf⟩ := ob_s hf
    refine mc_X3_X3_refuse S hC hD hK hP hS hv13 hl.1 ⟨Nat.le_of_ble_eq_true rfl, Nat.le_of_ble_eq_true rfl⟩ (Nat.le_of_ble_eq_true rfl) ⟨Nat.zero_le _, Nat.zero_le _⟩ dX3_leave_10 (fun H locs _ hP hS => ?_)
    have hE := Option.some.inj hf
    subst hE
    exact gt_wi S hr hlocks trivial hP hS dX3_leave_13
theorem hd_X3_dropsBid : yX3_dropsBid.cls = RX3 ∧ yX3_dropsBid.cls ≠ "java/lang/invoke/MethodHandle" ∧ yX3_dropsBid.cls ≠ "java/lang/invoke/VarHandle" ∧ (parseMethodDescriptor yX3_dropsBid.desc).map (fun d => d.parameters.length) = some 2 := by decide +kernel
set_option maxHeartbeats 4000000 in
set_option maxRecDepth 100000 in
theorem mm_X3_dropsBid {a0 : Int32} {a1 : Int32} {out : (Nat → Int32)} (hC : mC cl tys mi cI cJ cB) (hD : mD o ad) (hf : f_X3_dropsBid nw a0 a1 = some out) : Met l yX3_dropsBid (ws_ yX3_dropsBid cX3_dropsBid 3 none) (rM 2 44) (gPc D cl tys [.ref o, .int a0, .int a1] (mW mi cI cJ cB o ad th tp st fk fp ac si fr tt kd nu fa pl fo wd ci gr lm om nw rd aa kp ta nm rn gv gt rw rh lg lh ou)) (gQ D cl none True (mW mi cI cJ cB o ad th tp st fk fp ac si fr tt kd nu fa pl fo wd ci gr lm om out rd aa kp ta nm rn gv gt rw rh lg lh ou) (mA o ad)) 0 0 (mA o ad) := by
  refine gGo (by decide +kernel) (Nat.le_of_ble_eq_true rfl) (fun p e s m below meth c ls S hr hlocks hK hP hl => ?_)
  have S : CallFix p m c cX3_dropsBid 3 s _ lw_all RX3 := S
  obtain ⟨hx, hb, hml, hown, hts⟩ := id S
  have hl : lv_has ls 3 [(0, .ref o), (1, .int a0), (2, .int a1)] := hl
  suffices hg : ∀ (H : Heap) (locs : List Loc), va_P D cl (mW mi cI cJ cB o ad th tp st fk fp ac si fr tt kd nu fa pl fo wd ci gr lm om nw rd aa kp ta nm rn gv gt rw rh lg lh ou) H → va_S (mA o ad) s.heap H locs → W p l e (rM 2 44) s m ([.ref o, .int a0, .int a1] : List Value).toArray below meth c H locs 0 0 (MQ below (gQ D cl none True (mW mi cI cJ cB o ad th tp st fk fp ac si fr tt kd nu fa pl fo wd ci gr lm om out rd aa kp ta nm rn gv gt rw rh lg lh ou) (mA o ad)) ([.ref o, .int a0, .int a1] : List Value).toArray s 0 0 (mA o ad)) (F0 m 0 ls []) from hg s.heap [] hP va_S.rf
  clear hP
  intro H locs hP hS
  rw [f_X3_dropsBid] at hf
  refine lv_aload_n hx hb dX3_dropsBid_0 rfl (lv_at hl 0 rfl) ?_
  refine lv_iload_n hx hb dX3_dropsBid_1 rfl (lv_at hl 1 rfl) ?_
  refine lv_bipush hx hb dX3_dropsBid_2 kc_b10 ?_
  refine lv_aload_n hx hb dX3_dropsBid_4 rfl (lv_at hl 0 rfl) ?_
  refine lv_iload_n hx hb dX3_dropsBid_5 rfl (lv_at hl 1 rfl) ?_
  refine lv_bipush hx hb dX3_dropsBid_6 kc_b10 ?_
  obtain ⟨v1, hv1, hf⟩ := ob_s hf
  refine mc_X3_X3_of S hC hK hP hv1 hl.1 ⟨Nat.le_of_ble_eq_true rfl, Nat.le_of_ble_eq_true rfl⟩ (Nat.le_of_ble_eq_true rfl) ⟨Nat.zero_le _, Nat.zero_le _⟩ dX3_dropsBid_8 (fun _ => ?_)
  refine lv_iconst hx hb dX3_dropsBid_11 kc_i1 ?_
  refine lv_iload_n hx hb dX3_dropsBid_12 rfl (lv_at hl 2 rfl) ?_
  refine lv_ishl hx hb dX3_dropsBid_13 ?_
  refine lv_iconst hx hb dX3_dropsBid_14 kc_im1 ?_
  refine lv_ixor hx hb dX3_dropsBid_15 ?_
  refine lv_iand hx hb dX3_dropsBid_16 ?_
  obtain ⟨v2, hv2, hf⟩ := ob_s hf
  refine mc_X3_X3_puts S hC hD hK hP hS hv2 hl.1 ⟨Nat.le_of_ble_eq_true rfl, Nat.le_of_ble_eq_true rfl⟩ (Nat.le_of_ble_eq_true rfl) ⟨Nat.zero_le _, Nat.zero_le _⟩ dX3_dropsBid_17 (fun H locs _ hP hS => ?_)
  have hE := Option.some.inj hf
  subst hE
  exact gt_wv S hr hlocks trivial hP hS dX3_dropsBid_20
set_option maxRecDepth 100000 in
theorem mc_X3_X3_dropsBid {a0 : Int32} {a1 : Int32} {out : (Nat → Int32)} (S : CallFix p m c cc nL s args lw_all RX3) (hC : mC cl tys mi cI cJ cB) (hD : mD o ad) (hK : va_K D cl tys s) (hP : va_P D cl (mW mi cI cJ cB o ad th tp st fk fp ac si fr tt kd nu fa pl fo wd ci gr lm om nw rd aa kp ta nm rn gv gt rw rh lg lh ou) H) (hS : va_S (mA o ad) H0 H locs) (hf : f_X3_dropsBid nw a0 a1 = some out) (hsz : ls.size = nL) (hR : 2 + 1 ≤ R.frames ∧ 8 + (3 + 11) + 44 ≤ R.locals) (hW : (rest.map fun v => v.category).sum ≤ 8) (hcs : cells ≤ R.cells ∧ slots ≤ R.slots) (hdg : decode cc pc = .ok (.invokevirtual 392, 3)) (kk : ∀ (H1 : Heap) (locs1 : List Loc), True → va_P D cl (mW mi cI cJ cB o ad th tp st fk fp ac si fr tt kd nu fa pl fo wd ci gr lm om out rd aa kp ta nm rn gv gt rw rh lg lh ou) H1 → va_S (mA o ad) H0 H1 locs1 → W p l e R s m args below meth c H1 locs1 cells slots Q (F0 m (pc + 3) ls (rest))) : W p l e R s m args below meth c H locs cells slots Q (F0 m pc ls (.int a1 :: .int a0 :: .ref o :: rest)) :=
  gc_Vv (As := [.int a0, .int a1]) S (mm_X3_dropsBid hC hD hf) (cwV 2 S.2.2.2.2 (lw_V q2602 q2604 qs166 q189 q2605) rfl rfl rfl hd_X3_dropsBid hR) (gPreV hK hP hC.1 (q0 := 0) rfl) rfl hsz rfl hW hdg hcs hS kk
theorem hd_X3_shut : yX3_shut.cls = RX3 ∧ yX3_shut.cls ≠ "java/lang/invoke/MethodHandle" ∧ yX3_shut.cls ≠ "java/lang/invoke/VarHandle" ∧ (parseMethodDescriptor yX3_shut.desc).map (fun d => d.parameters.length) = some 2 := by decide +kernel
set_option maxHeartbeats 4000000 in
set_option maxRecDepth 100000 in
theorem mm_X3_shut {a0 : Int32} {a1 : Int32} {out : Int32 × Int32 × Int32 × Int32 × (Nat → Int32) × (Nat → Int32)} (hC : mC cl tys mi cI cJ cB) (hD : mD o ad) (hf : f_X3_shut th st ac nw kp a0 a1 = some out) : Met l yX3_shut (ws_ yX3_shut cX3_shut 4 (some .int)) (rM 3 66) (gPc D cl tys [.ref o, .int a0, .int a1] (mW mi cI cJ cB o ad th tp st fk fp ac si fr tt kd nu fa pl fo wd ci gr lm om nw rd aa kp ta nm rn gv gt rw rh lg lh ou)) (gQ D cl (some (.int out.1)) True (mW mi cI cJ cB o ad out.2.1 tp out.2.2.1 fk fp out.2.2.2.1 si fr tt kd nu fa pl fo wd ci gr lm om out.2.2.2.2.1 rd aa out.2.2.2.2.2 ta nm rn gv gt rw rh lg lh ou) (mA o ad)) 0 0 (mA o ad) := by
  refine gGo (by decide +kernel) (Nat.le_of_ble_eq_true rfl) (fun p e s m below meth c ls S hr hlocks hK hP hl => ?_)
  have S : CallFix p m c cX3_shut 4 s _ lw_all RX3 := S
  obtain ⟨hx, hb, hml, hown, hts⟩ := id S
  have hl : lv_has ls 4 [(0, .ref o), (1, .int a0), (2, .int a1)] := hl
  have w62 : ∀ (n : Nat) , ∀ (x1 : Int32) (x3 : Int32) (th : Int32) (st : Int32) (ac : Int32) (nw : (Nat → Int32)) (kp : (Nat → Int32)) (ls : Array Slot) (H : Heap) (locs : List Loc), va_P D cl (mW mi cI cJ cB o ad th tp st fk fp ac si fr tt kd nu fa pl fo wd ci gr lm om nw rd aa kp ta nm rn gv gt rw rh lg lh ou) H → va_S (mA o ad) s.heap H locs → lv_has ls 4 [(0, .ref o), (1, .int x1), (3, .int x3)] → f_X3_shut_62 n x1 x3 th st ac nw kp = some out → W p l e (rM 3 66) s m ([.ref o, .int a0, .int a1] : List Value).toArray below meth c H locs 0 0 (MQ below (gQ D cl (some (.int out.1)) True (mW mi cI cJ cB o ad out.2.1 tp out.2.2.1 fk fp out.2.2.2.1 si fr tt kd nu fa pl fo wd ci gr lm om out.2.2.2.2.1 rd aa out.2.2.2.2.2 ta nm rn gv gt rw rh lg lh ou) (mA o ad)) ([.ref o, .int a0, .int a1] : List Value).toArray s 0 0 (mA o ad)) (F0 m 62 ls []) := by
    intro n
    induction n with
    | zero =>
      intro x1 x3 th st ac nw kp ls H locs hP hS hl hf
      exact absurd hf (by rw [f_X3_shut_62]; exact nofun)
    | succ n ih =>
      intro x1 x3 th st ac nw kp ls H locs hP hS hl hf
      rw [f_X3_shut_62] at hf
      refine lv_iload_n hx hb dX3_shut_62 rfl (lv_at hl 2 rfl) ?_
      refine lv_aload_n hx hb dX3_shut_63 rfl (lv_at hl 0 rfl) ?_
      refine mg_1 S hC hK hP dX3_shut_64 ?_
      refine lv_sipush hx hb dX3_shut_67 kc_s231 ?_
      refine ma_1 S hC hK hP kv_231_390 kn_231 dX3_shut_70 ?_
      refine lv_icmp_ge (tgt := 86) hx hb dX3_shut_71 (by decide) (fun c1 => ?_) (fun c1 => ?_)
      · replace hf := it_t c1 hf
        refine lv_aload_n hx hb dX3_shut_86 rfl (lv_at hl 0 rfl) ?_
        refine lv_aload_n hx hb dX3_shut_87 rfl (lv_at hl 0 rfl) ?_
        obtain ⟨v2, hv2, hf⟩ := ob_s hf
        refine mc_X3_X3_freeOnes S hC hK hP hv2 hl.1 ⟨Nat.le_of_ble_eq_true rfl, Nat.le_of_ble_eq_true rfl⟩ (Nat.le_of_ble_eq_true rfl) ⟨Nat.zero_le _, Nat.zero_le _⟩ dX3_shut_88 (fun _ => ?_)
        obtain ⟨v3, hv3, hf⟩ := ob_s hf
        refine mc_X3_X3_gives S hC hD hK hP hS hv3 hl.1 ⟨Nat.le_of_ble_eq_true rfl, Nat.le_of_ble_eq_true rfl⟩ (Nat.le_of_ble_eq_true rfl) ⟨Nat.zero_le _, Nat.zero_le _⟩ dX3_shut_91 (fun H locs _ hP hS => ?_)
        have hE := Option.some.inj hf
        subst hE
        exact gt_wi S hr hlocks trivial hP hS dX3_shut_94
      · replace hf := it_f c1 hf
        refine lv_aload_n hx hb dX3_shut_74 rfl (lv_at hl 0 rfl) ?_
        refine lv_iload_n hx hb dX3_shut_75 rfl (lv_at hl 2 rfl) ?_
        refine lv_iload_n hx hb dX3_shut_76 rfl (lv_at hl 1 rfl) ?_
        obtain ⟨v4, hv4, hf⟩ := ob_s hf
        refine mc_X3_X3_dropsBid S hC hD hK hP hS hv4 hl.1 ⟨Nat.le_of_ble_eq_true rfl, Nat.le_of_ble_eq_true rfl⟩ (Nat.le_of_ble_eq_true rfl) ⟨Nat.zero_le _, Nat.zero_le _⟩ dX3_shut_77 (fun H locs _ hP hS => ?_)
        refine lv_iinc (v := (x3 + 1)) (lv' := [(3, .int (x3 + 1)), (0, .ref o), (1, .int x1)]) hx hb dX3_shut_80 hl (k := 2) rfl rfl (by decide) rfl (fun ls hl => ?_)
        refine lv_goto (tgt := 62) hx hb dX3_shut_83 (by decide) ?_
        exact (ih) x1 (x3 + 1) th st ac v4 kp ls H locs hP hS (lv_sub (l' := [(0, .ref o), (1, .int x1), (3, .int (x3 + 1))]) hl [1, 2, 0] rfl) hf
  have w57 : ∀ (x1 : Int32) (y1 : Int32) (y2 : Int32) (y3 : Int32) (th : Int32) (st : Int32) (ac : Int32) (nw : (Nat → Int32)) (kp : (Nat → Int32)) (ls : Array Slot) (H : Heap) (locs : List Loc), va_P D cl (mW mi cI cJ cB o ad th tp st fk fp ac si fr tt kd nu fa pl fo wd ci gr lm om nw rd aa kp ta nm rn gv gt rw rh lg lh ou) H → va_S (mA o ad) s.heap H locs → lv_has ls 4 [(0, .ref o), (1, .int x1)] → f_X3_shut_57 x1 y1 y2 y3 th st ac nw kp = some out → W p l e (rM 3 66) s m ([.ref o, .int a0, .int a1] : List Value).toArray below meth c H locs 0 0 (MQ below (gQ D cl (some (.int out.1)) True (mW mi cI cJ cB o ad out.2.1 tp out.2.2.1 fk fp out.2.2.2.1 si fr tt kd nu fa pl fo wd ci gr lm om out.2.2.2.2.1 rd aa out.2.2.2.2.2 ta nm rn gv gt rw rh lg lh ou) (mA o ad)) ([.ref o, .int a0, .int a1] : List Value).toArray s 0 0 (mA o ad)) (F0 m 57 ls [.int y3, .int y2, .int y1, .ref o]) := by
    intro x1 y1 y2 y3 th st ac nw kp ls H locs hP hS hl hf
    rw [f_X3_shut_57] at hf
    obtain ⟨v1, hv1, hf⟩ := ob_s hf
    refine mc_X3_X3_putsHome S hC hD hK hP hS hv1 hl.1 ⟨Nat.le_of_ble_eq_true rfl, Nat.le_of_ble_eq_true rfl⟩ (Nat.le_of_ble_eq_true rfl) ⟨Nat.zero_le _, Nat.zero_le _⟩ dX3_shut_57 (fun H locs _ hP hS => ?_)
    refine lv_iconst hx hb dX3_shut_60 kc_i0 ?_
    refine lv_istore_n (i := 3) (lv' := [(3, .int 0), (0, .ref o), (1, .int x1)]) hx hb dX3_shut_61 rfl hl (by decide) rfl (fun ls hl => ?_)
    exact (w62 FU) x1 0 th st ac v1 kp ls H locs hP hS (lv_sub (l' := [(0, .ref o), (1, .int x1), (3, .int 0)]) hl [1, 2, 0] rfl) hf
  have w30 : ∀ (x1 : Int32) (x2 : Int32) (y0 : Int32) (th : Int32) (st : Int32) (ac : Int32) (nw : (Nat → Int32)) (kp : (Nat → Int32)) (ls : Array Slot) (H : Heap) (locs : List Loc), va_P D cl (mW mi cI cJ cB o ad th tp st fk fp ac si fr tt kd nu fa pl fo wd ci gr lm om nw rd aa kp ta nm rn gv gt rw rh lg lh ou) H → va_S (mA o ad) s.heap H locs → lv_has ls 4 [(0, .ref o), (1, .int x1), (2, .int x2)] → f_X3_shut_30 x1 x2 y0 th st ac nw kp = some out → W p l e (rM 3 66) s m ([.ref o, .int a0, .int a1] : List Value).toArray below meth c H locs 0 0 (MQ below (gQ D cl (some (.int out.1)) True (mW mi cI cJ cB o ad out.2.1 tp out.2.2.1 fk fp out.2.2.2.1 si fr tt kd nu fa pl fo wd ci gr lm om out.2.2.2.2.1 rd aa out.2.2.2.2.2 ta nm rn gv gt rw rh lg lh ou) (mA o ad)) ([.ref o, .int a0, .int a1] : List Value).toArray s 0 0 (mA o ad)) (F0 m 30 ls [.int y0]) := by
    intro x1 x2 y0 th st ac nw kp ls H locs hP hS hl hf
    rw [f_X3_shut_30] at hf
    refine lv_iload_n hx hb dX3_shut_30 rfl (lv_at hl 2 rfl) ?_
    refine lv_icmp_ne (tgt := 40) hx hb dX3_shut_31 (by decide) (fun c1 => ?_) (fun c1 => ?_)
    · replace hf := it_f c1 hf
      refine lv_aload_n hx hb dX3_shut_40 rfl (lv_at hl 0 rfl) ?_
      obtain ⟨v2, hv2, hf⟩ := ob_s hf
      refine mc_X3_X3_keeps S hC hD hK hP hS hv2 hl.1 ⟨Nat.le_of_ble_eq_true rfl, Nat.le_of_ble_eq_true rfl⟩ (Nat.le_of_ble_eq_true rfl) ⟨Nat.zero_le _, Nat.zero_le _⟩ dX3_shut_41 (fun H locs _ hP hS => ?_)
      refine lv_aload_n hx hb dX3_shut_44 rfl (lv_at hl 0 rfl) ?_
      refine lv_iload_n hx hb dX3_shut_45 rfl (lv_at hl 1 rfl) ?_
      refine lv_bipush hx hb dX3_shut_46 kc_b6 ?_
      refine lv_iload_n hx hb dX3_shut_48 rfl (lv_at hl 2 rfl) ?_
      refine lv_if_eq (tgt := 56) hx hb dX3_shut_49 (by decide) (fun c3 => ?_) (fun c3 => ?_)
      · replace hf := it_t c3 hf
        refine lv_iconst hx hb dX3_shut_56 kc_i0 ?_
        exact (w57) x1 x1 (nI 6) 0 th st v2.1 nw v2.2 ls H locs hP hS (lv_sub (l' := [(0, .ref o), (1, .int x1)]) hl [0, 1] rfl) hf
      · replace hf := it_f c3 hf
        refine lv_iconst hx hb dX3_shut_52 kc_i1 ?_
        refine lv_goto (tgt := 57) hx hb dX3_shut_53 (by decide) ?_
        exact (w57) x1 x1 (nI 6) 1 th st v2.1 nw v2.2 ls H locs hP hS (lv_sub (l' := [(0, .ref o), (1, .int x1)]) hl [0, 1] rfl) hf
    · replace hf := it_t c1 hf
      refine lv_aload_n hx hb dX3_shut_34 rfl (lv_at hl 0 rfl) ?_
      refine lv_iconst hx hb dX3_shut_35 kc_i4 ?_
      obtain ⟨v4, hv4, hf⟩ := ob_s hf
      refine mc_X3_X3_refuse S hC hD hK hP hS hv4 hl.1 ⟨Nat.le_of_ble_eq_true rfl, Nat.le_of_ble_eq_true rfl⟩ (Nat.le_of_ble_eq_true rfl) ⟨Nat.zero_le _, Nat.zero_le _⟩ dX3_shut_36 (fun H locs _ hP hS => ?_)
      have hE := Option.some.inj hf
      subst hE
      exact gt_wi S hr hlocks trivial hP hS dX3_shut_39
  suffices hg : ∀ (H : Heap) (locs : List Loc), va_P D cl (mW mi cI cJ cB o ad th tp st fk fp ac si fr tt kd nu fa pl fo wd ci gr lm om nw rd aa kp ta nm rn gv gt rw rh lg lh ou) H → va_S (mA o ad) s.heap H locs → W p l e (rM 3 66) s m ([.ref o, .int a0, .int a1] : List Value).toArray below meth c H locs 0 0 (MQ below (gQ D cl (some (.int out.1)) True (mW mi cI cJ cB o ad out.2.1 tp out.2.2.1 fk fp out.2.2.2.1 si fr tt kd nu fa pl fo wd ci gr lm om out.2.2.2.2.1 rd aa out.2.2.2.2.2 ta nm rn gv gt rw rh lg lh ou) (mA o ad)) ([.ref o, .int a0, .int a1] : List Value).toArray s 0 0 (mA o ad)) (F0 m 0 ls []) from hg s.heap [] hP va_S.rf
  clear hP
  intro H locs hP hS
  rw [f_X3_shut] at hf
  refine lv_aload_n hx hb dX3_shut_0 rfl (lv_at hl 0 rfl) ?_
  refine lv_iload_n hx hb dX3_shut_1 rfl (lv_at hl 1 rfl) ?_
  obtain ⟨v1, hv1, hf⟩ := ob_s hf
  refine mc_X3_X3_isHome S hC hK hP hv1 hl.1 ⟨Nat.le_of_ble_eq_true rfl, Nat.le_of_ble_eq_true rfl⟩ (Nat.le_of_ble_eq_true rfl) ⟨Nat.zero_le _, Nat.zero_le _⟩ dX3_shut_2 (fun hnv1 => ?_)
  refine lv_if_ne (tgt := 14) hx hb dX3_shut_5 (by decide) (fun c2 => ?_) (fun c2 => ?_)
  · replace hf := it_f c2 hf
    refine lv_aload_n hx hb dX3_shut_14 rfl (lv_at hl 0 rfl) ?_
    refine lv_iload_n hx hb dX3_shut_15 rfl (lv_at hl 1 rfl) ?_
    refine lv_bipush hx hb dX3_shut_16 kc_b6 ?_
    obtain ⟨v3, hv3, hf⟩ := ob_s hf
    refine mc_X3_X3_home0 S hC hK hP hv3 hl.1 ⟨Nat.le_of_ble_eq_true rfl, Nat.le_of_ble_eq_true rfl⟩ (Nat.le_of_ble_eq_true rfl) ⟨Nat.zero_le _, Nat.zero_le _⟩ dX3_shut_18 (fun _ => ?_)
    refine lv_iconst hx hb dX3_shut_21 kc_i1 ?_
    refine lv_icmp_ne (tgt := 29) hx hb dX3_shut_22 (by decide) (fun c4 => ?_) (fun c4 => ?_)
    · replace hf := it_f c4 hf
      refine lv_iconst hx hb dX3_shut_29 kc_i0 ?_
      exact (w30) a0 a1 0 th st ac nw kp ls H locs hP hS hl hf
    · replace hf := it_t c4 hf
      refine lv_iconst hx hb dX3_shut_25 kc_i1 ?_
      refine lv_goto (tgt := 30) hx hb dX3_shut_26 (by decide) ?_
      exact (w30) a0 a1 1 th st ac nw kp ls H locs hP hS hl hf
  · replace hf := it_t c2 hf
    refine lv_aload_n hx hb dX3_shut_8 rfl (lv_at hl 0 rfl) ?_
    refine lv_iconst hx hb dX3_shut_9 kc_i2 ?_
    obtain ⟨v5, hv5, hf⟩ := ob_s hf
    refine mc_X3_X3_refuse S hC hD hK hP hS hv5 hl.1 ⟨Nat.le_of_ble_eq_true rfl, Nat.le_of_ble_eq_true rfl⟩ (Nat.le_of_ble_eq_true rfl) ⟨Nat.zero_le _, Nat.zero_le _⟩ dX3_shut_10 (fun H locs _ hP hS => ?_)
    have hE := Option.some.inj hf
    subst hE
    exact gt_wi S hr hlocks trivial hP hS dX3_shut_13
theorem hd_X3_need : yX3_need.cls = RX3 ∧ yX3_need.cls ≠ "java/lang/invoke/MethodHandle" ∧ yX3_need.cls ≠ "java/lang/invoke/VarHandle" ∧ (parseMethodDescriptor yX3_need.desc).map (fun d => d.parameters.length) = some 2 := by decide +kernel
set_option maxHeartbeats 4000000 in
set_option maxRecDepth 100000 in
theorem mm_X3_need {a0 : Int32} {a1 : Int32} {out : Int32 × Int32 × Int32 × Int32 × (Nat → Int32) × (Nat → Int32)} (hC : mC cl tys mi cI cJ cB) (hD : mD o ad) (hf : f_X3_need th st ac nw kp a0 a1 = some out) : Met l yX3_need (ws_ yX3_need cX3_need 5 (some .int)) (rM 3 66) (gPc D cl tys [.ref o, .int a0, .int a1] (mW mi cI cJ cB o ad th tp st fk fp ac si fr tt kd nu fa pl fo wd ci gr lm om nw rd aa kp ta nm rn gv gt rw rh lg lh ou)) (gQ D cl (some (.int out.1)) True (mW mi cI cJ cB o ad out.2.1 tp out.2.2.1 fk fp out.2.2.2.1 si fr tt kd nu fa pl fo wd ci gr lm om out.2.2.2.2.1 rd aa out.2.2.2.2.2 ta nm rn gv gt rw rh lg lh ou) (mA o ad)) 0 0 (mA o ad) := by
  refine gGo (by decide +kernel) (Nat.le_of_ble_eq_true rfl) (fun p e s m below meth c ls S hr hlocks hK hP hl => ?_)
  have S : CallFix p m c cX3_need 5 s _ lw_all RX3 := S
  obtain ⟨hx, hb, hml, hown, hts⟩ := id S
  have hl : lv_has ls 5 [(0, .ref o), (1, .int a0), (2, .int a1)] := hl
  have w61 : ∀ (n : Nat) , ∀ (x1 : Int32) (x3 : Int32) (x4 : Int32) (th : Int32) (st : Int32) (ac : Int32) (nw : (Nat → Int32)) (kp : (Nat → Int32)) (ls : Array Slot) (H : Heap) (locs : List Loc), va_P D cl (mW mi cI cJ cB o ad th tp st fk fp ac si fr tt kd nu fa pl fo wd ci gr lm om nw rd aa kp ta nm rn gv gt rw rh lg lh ou) H → va_S (mA o ad) s.heap H locs → lv_has ls 5 [(0, .ref o), (1, .int x1), (3, .int x3), (4, .int x4)] → f_X3_need_61 n x1 x3 x4 th st ac nw kp = some out → W p l e (rM 3 66) s m ([.ref o, .int a0, .int a1] : List Value).toArray below meth c H locs 0 0 (MQ below (gQ D cl (some (.int out.1)) True (mW mi cI cJ cB o ad out.2.1 tp out.2.2.1 fk fp out.2.2.2.1 si fr tt kd nu fa pl fo wd ci gr lm om out.2.2.2.2.1 rd aa out.2.2.2.2.2 ta nm rn gv gt rw rh lg lh ou) (mA o ad)) ([.ref o, .int a0, .int a1] : List Value).toArray s 0 0 (mA o ad)) (F0 m 61 ls []) := by
    intro n
    induction n with
    | zero =>
      intro x1 x3 x4 th st ac nw kp ls H locs hP hS hl hf
      exact absurd hf (by rw [f_X3_need_61]; exact nofun)
    | succ n ih =>
      intro x1 x3 x4 th st ac nw kp ls H locs hP hS hl hf
      rw [f_X3_need_61] at hf
      refine lv_iload hx hb dX3_need_61 (lv_at hl 3 rfl) ?_
      refine lv_aload_n hx hb dX3_need_63 rfl (lv_at hl 0 rfl) ?_
      refine mg_1 S hC hK hP dX3_need_64 ?_
      refine lv_sipush hx hb dX3_need_67 kc_s230 ?_
      refine ma_1 S hC hK hP kv_230_390 kn_230 dX3_need_70 ?_
      refine lv_icmp_ge (tgt := 97) hx hb dX3_need_71 (by decide) (fun c1 => ?_) (fun c1 => ?_)
      · replace hf := it_t c1 hf
        refine lv_aload_n hx hb dX3_need_97 rfl (lv_at hl 0 rfl) ?_
        refine lv_iload_n hx hb dX3_need_98 rfl (lv_at hl 2 rfl) ?_
        obtain ⟨v2, hv2, hf⟩ := ob_s hf
        refine mc_X3_X3_gives S hC hD hK hP hS hv2 hl.1 ⟨Nat.le_of_ble_eq_true rfl, Nat.le_of_ble_eq_true rfl⟩ (Nat.le_of_ble_eq_true rfl) ⟨Nat.zero_le _, Nat.zero_le _⟩ dX3_need_99 (fun H locs _ hP hS => ?_)
        have hE := Option.some.inj hf
        subst hE
        exact gt_wi S hr hlocks trivial hP hS dX3_need_102
      · replace hf := it_f c1 hf
        refine lv_aload_n hx hb dX3_need_74 rfl (lv_at hl 0 rfl) ?_
        refine lv_iload_n hx hb dX3_need_75 rfl (lv_at hl 1 rfl) ?_
        refine lv_iload hx hb dX3_need_76 (lv_at hl 3 rfl) ?_
        obtain ⟨v3, hv3, hf⟩ := ob_s hf
        refine mc_X3_X3_doesFit S hC hK hP hv3 hl.1 ⟨Nat.le_of_ble_eq_true rfl, Nat.le_of_ble_eq_true rfl⟩ (Nat.le_of_ble_eq_true rfl) ⟨Nat.zero_le _, Nat.zero_le _⟩ dX3_need_78 (fun hnv3 => ?_)
        refine lv_if_ne (tgt := 91) hx hb dX3_need_81 (by decide) (fun c4 => ?_) (fun c4 => ?_)
        · replace hf := it_f c4 hf
          refine lv_iinc (v := (x4 + 1)) (lv' := [(4, .int (x4 + 1)), (0, .ref o), (1, .int x1), (3, .int x3)]) hx hb dX3_need_91 hl (k := 3) rfl rfl (by decide) rfl (fun ls hl => ?_)
          refine lv_goto (tgt := 61) hx hb dX3_need_94 (by decide) ?_
          exact (ih) x1 x3 (x4 + 1) th st ac nw kp ls H locs hP hS (lv_sub (l' := [(0, .ref o), (1, .int x1), (3, .int x3), (4, .int (x4 + 1))]) hl [1, 2, 3, 0] rfl) hf
        · replace hf := it_t c4 hf
          refine lv_aload_n hx hb dX3_need_84 rfl (lv_at hl 0 rfl) ?_
          refine lv_iload_n hx hb dX3_need_85 rfl (lv_at hl 1 rfl) ?_
          refine lv_iload hx hb dX3_need_86 (lv_at hl 3 rfl) ?_
          obtain ⟨v5, hv5, hf⟩ := ob_s hf
          refine mc_X3_X3_dropsBid S hC hD hK hP hS hv5 hl.1 ⟨Nat.le_of_ble_eq_true rfl, Nat.le_of_ble_eq_true rfl⟩ (Nat.le_of_ble_eq_true rfl) ⟨Nat.zero_le _, Nat.zero_le _⟩ dX3_need_88 (fun H locs _ hP hS => ?_)
          refine lv_iinc (v := (x4 + 1)) (lv' := [(4, .int (x4 + 1)), (0, .ref o), (1, .int x1), (3, .int x3)]) hx hb dX3_need_91 hl (k := 3) rfl rfl (by decide) rfl (fun ls hl => ?_)
          refine lv_goto (tgt := 61) hx hb dX3_need_94 (by decide) ?_
          exact (ih) x1 x3 (x4 + 1) th st ac v5 kp ls H locs hP hS (lv_sub (l' := [(0, .ref o), (1, .int x1), (3, .int x3), (4, .int (x4 + 1))]) hl [1, 2, 3, 0] rfl) hf
  suffices hg : ∀ (H : Heap) (locs : List Loc), va_P D cl (mW mi cI cJ cB o ad th tp st fk fp ac si fr tt kd nu fa pl fo wd ci gr lm om nw rd aa kp ta nm rn gv gt rw rh lg lh ou) H → va_S (mA o ad) s.heap H locs → W p l e (rM 3 66) s m ([.ref o, .int a0, .int a1] : List Value).toArray below meth c H locs 0 0 (MQ below (gQ D cl (some (.int out.1)) True (mW mi cI cJ cB o ad out.2.1 tp out.2.2.1 fk fp out.2.2.2.1 si fr tt kd nu fa pl fo wd ci gr lm om out.2.2.2.2.1 rd aa out.2.2.2.2.2 ta nm rn gv gt rw rh lg lh ou) (mA o ad)) ([.ref o, .int a0, .int a1] : List Value).toArray s 0 0 (mA o ad)) (F0 m 0 ls []) from hg s.heap [] hP va_S.rf
  clear hP
  intro H locs hP hS
  rw [f_X3_need] at hf
  refine lv_iload_n hx hb dX3_need_0 rfl (lv_at hl 2 rfl) ?_
  refine lv_iconst hx hb dX3_need_1 kc_i1 ?_
  refine lv_iconst hx hb dX3_need_2 kc_i4 ?_
  obtain ⟨v1, hv1, hf⟩ := ob_s hf
  refine mc_X3_X3_isFrom S hK hv1 hl.1 ⟨Nat.le_of_ble_eq_true rfl, Nat.le_of_ble_eq_true rfl⟩ (Nat.le_of_ble_eq_true rfl) ⟨Nat.zero_le _, Nat.zero_le _⟩ dX3_need_3 (fun hnv1 => ?_)
  refine lv_if_ne (tgt := 15) hx hb dX3_need_6 (by decide) (fun c2 => ?_) (fun c2 => ?_)
  · replace hf := it_f c2 hf
    refine lv_aload_n hx hb dX3_need_15 rfl (lv_at hl 0 rfl) ?_
    refine lv_iload_n hx hb dX3_need_16 rfl (lv_at hl 1 rfl) ?_
    obtain ⟨v3, hv3, hf⟩ := ob_s hf
    refine mc_X3_X3_isHouse S hC hK hP hv3 hl.1 ⟨Nat.le_of_ble_eq_true rfl, Nat.le_of_ble_eq_true rfl⟩ (Nat.le_of_ble_eq_true rfl) ⟨Nat.zero_le _, Nat.zero_le _⟩ dX3_need_17 (fun hnv3 => ?_)
    refine lv_if_ne (tgt := 29) hx hb dX3_need_20 (by decide) (fun c4 => ?_) (fun c4 => ?_)
    · replace hf := it_f c4 hf
      refine lv_aload_n hx hb dX3_need_29 rfl (lv_at hl 0 rfl) ?_
      refine lv_iload_n hx hb dX3_need_30 rfl (lv_at hl 1 rfl) ?_
      refine lv_iconst hx hb dX3_need_31 kc_i1 ?_
      obtain ⟨v5, hv5, hf⟩ := ob_s hf
      refine mc_X3_X3_of S hC hK hP hv5 hl.1 ⟨Nat.le_of_ble_eq_true rfl, Nat.le_of_ble_eq_true rfl⟩ (Nat.le_of_ble_eq_true rfl) ⟨Nat.zero_le _, Nat.zero_le _⟩ dX3_need_32 (fun _ => ?_)
      refine lv_istore_n (i := 3) (lv' := [(3, .int v5), (0, .ref o), (1, .int a0), (2, .int a1)]) hx hb dX3_need_35 rfl hl (by decide) rfl (fun ls hl => ?_)
      refine lv_iload_n hx hb dX3_need_36 rfl (lv_at hl 0 rfl) ?_
      refine lv_iload_n hx hb dX3_need_37 rfl (lv_at hl 3 rfl) ?_
      refine lv_icmp_ne (tgt := 47) hx hb dX3_need_38 (by decide) (fun c6 => ?_) (fun c6 => ?_)
      · replace hf := it_f c6 hf
        refine lv_aload_n hx hb dX3_need_47 rfl (lv_at hl 1 rfl) ?_
        obtain ⟨v7, hv7, hf⟩ := ob_s hf
        refine mc_X3_X3_keeps S hC hD hK hP hS hv7 hl.1 ⟨Nat.le_of_ble_eq_true rfl, Nat.le_of_ble_eq_true rfl⟩ (Nat.le_of_ble_eq_true rfl) ⟨Nat.zero_le _, Nat.zero_le _⟩ dX3_need_48 (fun H locs _ hP hS => ?_)
        refine lv_aload_n hx hb dX3_need_51 rfl (lv_at hl 1 rfl) ?_
        refine lv_iload_n hx hb dX3_need_52 rfl (lv_at hl 2 rfl) ?_
        refine lv_iconst hx hb dX3_need_53 kc_i1 ?_
        refine lv_iload_n hx hb dX3_need_54 rfl (lv_at hl 3 rfl) ?_
        obtain ⟨v8, hv8, hf⟩ := ob_s hf
        refine mc_X3_X3_puts S hC hD hK hP hS hv8 hl.1 ⟨Nat.le_of_ble_eq_true rfl, Nat.le_of_ble_eq_true rfl⟩ (Nat.le_of_ble_eq_true rfl) ⟨Nat.zero_le _, Nat.zero_le _⟩ dX3_need_55 (fun H locs _ hP hS => ?_)
        refine lv_iconst hx hb dX3_need_58 kc_i0 ?_
        refine lv_istore (lv' := [(4, .int 0), (3, .int v5), (0, .ref o), (1, .int a0), (2, .int a1)]) hx hb dX3_need_59 hl (by decide) rfl (fun ls hl => ?_)
        exact (w61 FU) a0 v5 0 th st v7.1 v8 v7.2 ls H locs hP hS (lv_sub (l' := [(0, .ref o), (1, .int a0), (3, .int v5), (4, .int 0)]) hl [2, 3, 1, 0] rfl) hf
      · replace hf := it_t c6 hf
        refine lv_aload_n hx hb dX3_need_41 rfl (lv_at hl 1 rfl) ?_
        refine lv_iconst hx hb dX3_need_42 kc_i4 ?_
        obtain ⟨v9, hv9, hf⟩ := ob_s hf
        refine mc_X3_X3_refuse S hC hD hK hP hS hv9 hl.1 ⟨Nat.le_of_ble_eq_true rfl, Nat.le_of_ble_eq_true rfl⟩ (Nat.le_of_ble_eq_true rfl) ⟨Nat.zero_le _, Nat.zero_le _⟩ dX3_need_43 (fun H locs _ hP hS => ?_)
        have hE := Option.some.inj hf
        subst hE
        exact gt_wi S hr hlocks trivial hP hS dX3_need_46
    · replace hf := it_t c4 hf
      refine lv_aload_n hx hb dX3_need_23 rfl (lv_at hl 0 rfl) ?_
      refine lv_iconst hx hb dX3_need_24 kc_i2 ?_
      obtain ⟨v10, hv10, hf⟩ := ob_s hf
      refine mc_X3_X3_refuse S hC hD hK hP hS hv10 hl.1 ⟨Nat.le_of_ble_eq_true rfl, Nat.le_of_ble_eq_true rfl⟩ (Nat.le_of_ble_eq_true rfl) ⟨Nat.zero_le _, Nat.zero_le _⟩ dX3_need_25 (fun H locs _ hP hS => ?_)
      have hE := Option.some.inj hf
      subst hE
      exact gt_wi S hr hlocks trivial hP hS dX3_need_28
  · replace hf := it_t c2 hf
    refine lv_aload_n hx hb dX3_need_9 rfl (lv_at hl 0 rfl) ?_
    refine lv_iconst hx hb dX3_need_10 kc_i1 ?_
    obtain ⟨v11, hv11, hf⟩ := ob_s hf
    refine mc_X3_X3_refuse S hC hD hK hP hS hv11 hl.1 ⟨Nat.le_of_ble_eq_true rfl, Nat.le_of_ble_eq_true rfl⟩ (Nat.le_of_ble_eq_true rfl) ⟨Nat.zero_le _, Nat.zero_le _⟩ dX3_need_11 (fun H locs _ hP hS => ?_)
    have hE := Option.some.inj hf
    subst hE
    exact gt_wi S hr hlocks trivial hP hS dX3_need_14
theorem hd_X3_rules : yX3_rules.cls = RX3 ∧ yX3_rules.cls ≠ "java/lang/invoke/MethodHandle" ∧ yX3_rules.cls ≠ "java/lang/invoke/VarHandle" ∧ (parseMethodDescriptor yX3_rules.desc).map (fun d => d.parameters.length) = some 2 := by decide +kernel
set_option maxHeartbeats 4000000 in
set_option maxRecDepth 100000 in
theorem mm_X3_rules {a0 : Int32} {a1 : Int32} {out : Int32 × Int32 × Int32 × Int32 × (Nat → Int32) × (Nat → Int32)} (hC : mC cl tys mi cI cJ cB) (hD : mD o ad) (hf : f_X3_rules th st ac nw kp a0 a1 = some out) : Met l yX3_rules (ws_ yX3_rules cX3_rules 4 (some .int)) (rM 1 22) (gPc D cl tys [.ref o, .int a0, .int a1] (mW mi cI cJ cB o ad th tp st fk fp ac si fr tt kd nu fa pl fo wd ci gr lm om nw rd aa kp ta nm rn gv gt rw rh lg lh ou)) (gQ D cl (some (.int out.1)) True (mW mi cI cJ cB o ad out.2.1 tp out.2.2.1 fk fp out.2.2.2.1 si fr tt kd nu fa pl fo wd ci gr lm om out.2.2.2.2.1 rd aa out.2.2.2.2.2 ta nm rn gv gt rw rh lg lh ou) (mA o ad)) 0 0 (mA o ad) := by
  refine gGo (by decide +kernel) (Nat.le_of_ble_eq_true rfl) (fun p e s m below meth c ls S hr hlocks hK hP hl => ?_)
  have S : CallFix p m c cX3_rules 4 s _ lw_all RX3 := S
  obtain ⟨hx, hb, hml, hown, hts⟩ := id S
  have hl : lv_has ls 4 [(0, .ref o), (1, .int a0), (2, .int a1)] := hl
  have w24 : ∀ (th : Int32) (st : Int32) (ac : Int32) (nw : (Nat → Int32)) (kp : (Nat → Int32)) (ls : Array Slot) (H : Heap) (locs : List Loc), va_P D cl (mW mi cI cJ cB o ad th tp st fk fp ac si fr tt kd nu fa pl fo wd ci gr lm om nw rd aa kp ta nm rn gv gt rw rh lg lh ou) H → va_S (mA o ad) s.heap H locs → lv_has ls 4 [(0, .ref o)] → f_X3_rules_24 th st ac nw kp = some out → W p l e (rM 1 22) s m ([.ref o, .int a0, .int a1] : List Value).toArray below meth c H locs 0 0 (MQ below (gQ D cl (some (.int out.1)) True (mW mi cI cJ cB o ad out.2.1 tp out.2.2.1 fk fp out.2.2.2.1 si fr tt kd nu fa pl fo wd ci gr lm om out.2.2.2.2.1 rd aa out.2.2.2.2.2 ta nm rn gv gt rw rh lg lh ou) (mA o ad)) ([.ref o, .int a0, .int a1] : List Value).toArray s 0 0 (mA o ad)) (F0 m 24 ls []) := by
    intro th st ac nw kp ls H locs hP hS hl hf
    rw [f_X3_rules_24] at hf
    refine lv_aload_n hx hb dX3_rules_24 rfl (lv_at hl 0 rfl) ?_
    refine lv_iconst hx hb dX3_rules_25 kc_i1 ?_
    obtain ⟨v1, hv1, hf⟩ := ob_s hf
    refine mc_X3_X3_refuse S hC hD hK hP hS hv1 hl.1 ⟨Nat.le_of_ble_eq_true rfl, Nat.le_of_ble_eq_true rfl⟩ (Nat.le_of_ble_eq_true rfl) ⟨Nat.zero_le _, Nat.zero_le _⟩ dX3_rules_26 (fun H locs _ hP hS => ?_)
    have hE := Option.some.inj hf
    subst hE
    exact gt_wi S hr hlocks trivial hP hS dX3_rules_29
  suffices hg : ∀ (H : Heap) (locs : List Loc), va_P D cl (mW mi cI cJ cB o ad th tp st fk fp ac si fr tt kd nu fa pl fo wd ci gr lm om nw rd aa kp ta nm rn gv gt rw rh lg lh ou) H → va_S (mA o ad) s.heap H locs → W p l e (rM 1 22) s m ([.ref o, .int a0, .int a1] : List Value).toArray below meth c H locs 0 0 (MQ below (gQ D cl (some (.int out.1)) True (mW mi cI cJ cB o ad out.2.1 tp out.2.2.1 fk fp out.2.2.2.1 si fr tt kd nu fa pl fo wd ci gr lm om out.2.2.2.2.1 rd aa out.2.2.2.2.2 ta nm rn gv gt rw rh lg lh ou) (mA o ad)) ([.ref o, .int a0, .int a1] : List Value).toArray s 0 0 (mA o ad)) (F0 m 0 ls []) from hg s.heap [] hP va_S.rf
  clear hP
  intro H locs hP hS
  rw [f_X3_rules] at hf
  refine lv_iload_n hx hb dX3_rules_0 rfl (lv_at hl 1 rfl) ?_
  refine lv_iconst hx hb dX3_rules_1 kc_i0 ?_
  refine lv_iconst hx hb dX3_rules_2 kc_i5 ?_
  obtain ⟨v1, hv1, hf⟩ := ob_s hf
  refine mc_X3_X3_isFrom S hK hv1 hl.1 ⟨Nat.le_of_ble_eq_true rfl, Nat.le_of_ble_eq_true rfl⟩ (Nat.le_of_ble_eq_true rfl) ⟨Nat.zero_le _, Nat.zero_le _⟩ dX3_rules_3 (fun hnv1 => ?_)
  refine lv_if_eq (tgt := 24) hx hb dX3_rules_6 (by decide) (fun c2 => ?_) (fun c2 => ?_)
  · replace hf := it_t c2 hf
    exact (w24) th st ac nw kp ls H locs hP hS (lv_sub (l' := [(0, .ref o)]) hl [0] rfl) hf
  · replace hf := it_f c2 hf
    refine lv_iload_n hx hb dX3_rules_9 rfl (lv_at hl 2 rfl) ?_
    refine lv_iload_n hx hb dX3_rules_10 rfl (lv_at hl 1 rfl) ?_
    obtain ⟨v3, hv3, hf⟩ := ob_s hf
    refine mc_X3_X3_leastOf S hK hv3 hl.1 ⟨Nat.le_of_ble_eq_true rfl, Nat.le_of_ble_eq_true rfl⟩ (Nat.le_of_ble_eq_true rfl) ⟨Nat.zero_le _, Nat.zero_le _⟩ dX3_rules_11 (fun _ => ?_)
    refine lv_iload_n hx hb dX3_rules_14 rfl (lv_at hl 1 rfl) ?_
    obtain ⟨v4, hv4, hf⟩ := ob_s hf
    refine mc_X3_X3_mostOf S hK hv4 hl.1 ⟨Nat.le_of_ble_eq_true rfl, Nat.le_of_ble_eq_true rfl⟩ (Nat.le_of_ble_eq_true rfl) ⟨Nat.zero_le _, Nat.zero_le _⟩ dX3_rules_15 (fun _ => ?_)
    obtain ⟨v5, hv5, hf⟩ := ob_s hf
    refine mc_X3_X3_isFrom S hK hv5 hl.1 ⟨Nat.le_of_ble_eq_true rfl, Nat.le_of_ble_eq_true rfl⟩ (Nat.le_of_ble_eq_true rfl) ⟨Nat.zero_le _, Nat.zero_le _⟩ dX3_rules_18 (fun hnv5 => ?_)
    refine lv_if_ne (tgt := 30) hx hb dX3_rules_21 (by decide) (fun c6 => ?_) (fun c6 => ?_)
    · replace hf := it_f c6 hf
      refine lv_aload_n hx hb dX3_rules_30 rfl (lv_at hl 0 rfl) ?_
      refine mg_1 S hC hK hP dX3_rules_31 ?_
      refine lv_sipush hx hb dX3_rules_34 kc_s224 ?_
      refine lv_iload_n hx hb dX3_rules_37 rfl (lv_at hl 1 rfl) ?_
      refine lv_iadd hx hb dX3_rules_38 ?_
      obtain ⟨g7, hf⟩ := gd_t hf
      refine ma_1 S hC hK hP (inR_vp g7) rfl dX3_rules_39 ?_
      refine lv_istore_n (i := 3) (lv' := [(3, .int (nw ((nI 224) + a0).toNatClampNeg)), (0, .ref o), (1, .int a0), (2, .int a1)]) hx hb dX3_rules_40 rfl hl (by decide) rfl (fun ls hl => ?_)
      refine lv_iload_n hx hb dX3_rules_41 rfl (lv_at hl 0 rfl) ?_
      refine lv_iload_n hx hb dX3_rules_42 rfl (lv_at hl 3 rfl) ?_
      refine lv_icmp_ne (tgt := 52) hx hb dX3_rules_43 (by decide) (fun c8 => ?_) (fun c8 => ?_)
      · replace hf := it_f c8 hf
        refine lv_aload_n hx hb dX3_rules_52 rfl (lv_at hl 1 rfl) ?_
        obtain ⟨v9, hv9, hf⟩ := ob_s hf
        refine mc_X3_X3_keeps S hC hD hK hP hS hv9 hl.1 ⟨Nat.le_of_ble_eq_true rfl, Nat.le_of_ble_eq_true rfl⟩ (Nat.le_of_ble_eq_true rfl) ⟨Nat.zero_le _, Nat.zero_le _⟩ dX3_rules_53 (fun H locs _ hP hS => ?_)
        refine lv_aload_n hx hb dX3_rules_56 rfl (lv_at hl 1 rfl) ?_
        refine mg_1 S hC hK hP dX3_rules_57 ?_
        refine lv_sipush hx hb dX3_rules_60 kc_s224 ?_
        refine lv_iload_n hx hb dX3_rules_63 rfl (lv_at hl 2 rfl) ?_
        refine lv_iadd hx hb dX3_rules_64 ?_
        refine lv_iload_n hx hb dX3_rules_65 rfl (lv_at hl 3 rfl) ?_
        obtain ⟨g10, hf⟩ := gd_t hf
        refine ms_1 S hC hD hK hP hS (inR_vp g10) rfl dX3_rules_66 (fun H locs hP hS => ?_)
        refine lv_aload_n hx hb dX3_rules_67 rfl (lv_at hl 1 rfl) ?_
        refine lv_iload_n hx hb dX3_rules_68 rfl (lv_at hl 0 rfl) ?_
        obtain ⟨v11, hv11, hf⟩ := ob_s hf
        refine mc_X3_X3_gives S hC hD hK hP hS hv11 hl.1 ⟨Nat.le_of_ble_eq_true rfl, Nat.le_of_ble_eq_true rfl⟩ (Nat.le_of_ble_eq_true rfl) ⟨Nat.zero_le _, Nat.zero_le _⟩ dX3_rules_69 (fun H locs _ hP hS => ?_)
        have hE := Option.some.inj hf
        subst hE
        exact gt_wi S hr hlocks trivial hP hS dX3_rules_72
      · replace hf := it_t c8 hf
        refine lv_aload_n hx hb dX3_rules_46 rfl (lv_at hl 1 rfl) ?_
        refine lv_iconst hx hb dX3_rules_47 kc_i4 ?_
        obtain ⟨v12, hv12, hf⟩ := ob_s hf
        refine mc_X3_X3_refuse S hC hD hK hP hS hv12 hl.1 ⟨Nat.le_of_ble_eq_true rfl, Nat.le_of_ble_eq_true rfl⟩ (Nat.le_of_ble_eq_true rfl) ⟨Nat.zero_le _, Nat.zero_le _⟩ dX3_rules_48 (fun H locs _ hP hS => ?_)
        have hE := Option.some.inj hf
        subst hE
        exact gt_wi S hr hlocks trivial hP hS dX3_rules_51
    · replace hf := it_t c6 hf
      exact (w24) th st ac nw kp ls H locs hP hS (lv_sub (l' := [(0, .ref o)]) hl [0] rfl) hf
theorem hd_X3_prints : yX3_prints.cls = RX3 ∧ yX3_prints.cls ≠ "java/lang/invoke/MethodHandle" ∧ yX3_prints.cls ≠ "java/lang/invoke/VarHandle" ∧ (parseMethodDescriptor yX3_prints.desc).map (fun d => d.parameters.length) = some 1 := by decide +kernel
set_option maxHeartbeats 4000000 in
set_option maxRecDepth 100000 in
theorem mm_X3_prints {a0 : Int32} {out : Int32 × (Nat → Int32)} (hC : mC cl tys mi cI cJ cB) (hD : mD o ad) (hf : f_X3_prints om ou a0 = some out) : Met l yX3_prints (ws_ yX3_prints cX3_prints 2 none) (rM 0 0) (gPc D cl tys [.ref o, .int a0] (mW mi cI cJ cB o ad th tp st fk fp ac si fr tt kd nu fa pl fo wd ci gr lm om nw rd aa kp ta nm rn gv gt rw rh lg lh ou)) (gQ D cl none True (mW mi cI cJ cB o ad th tp st fk fp ac si fr tt kd nu fa pl fo wd ci gr lm out.1 nw rd aa kp ta nm rn gv gt rw rh lg lh out.2) (mA o ad)) 0 0 (mA o ad) := by
  refine gGo (by decide +kernel) (Nat.le_of_ble_eq_true rfl) (fun p e s m below meth c ls S hr hlocks hK hP hl => ?_)
  have S : CallFix p m c cX3_prints 2 s _ lw_all RX3 := S
  obtain ⟨hx, hb, hml, hown, hts⟩ := id S
  have hl : lv_has ls 2 [(0, .ref o), (1, .int a0)] := hl
  suffices hg : ∀ (H : Heap) (locs : List Loc), va_P D cl (mW mi cI cJ cB o ad th tp st fk fp ac si fr tt kd nu fa pl fo wd ci gr lm om nw rd aa kp ta nm rn gv gt rw rh lg lh ou) H → va_S (mA o ad) s.heap H locs → W p l e (rM 0 0) s m ([.ref o, .int a0] : List Value).toArray below meth c H locs 0 0 (MQ below (gQ D cl none True (mW mi cI cJ cB o ad th tp st fk fp ac si fr tt kd nu fa pl fo wd ci gr lm out.1 nw rd aa kp ta nm rn gv gt rw rh lg lh out.2) (mA o ad)) ([.ref o, .int a0] : List Value).toArray s 0 0 (mA o ad)) (F0 m 0 ls []) from hg s.heap [] hP va_S.rf
  clear hP
  intro H locs hP hS
  rw [f_X3_prints] at hf
  refine lv_aload_n hx hb dX3_prints_0 rfl (lv_at hl 0 rfl) ?_
  refine mg_31 S hC hK hP dX3_prints_1 ?_
  refine lv_aload_n hx hb dX3_prints_4 rfl (lv_at hl 0 rfl) ?_
  refine mg_32 S hC hK hP dX3_prints_5 ?_
  refine lv_iload_n hx hb dX3_prints_8 rfl (lv_at hl 1 rfl) ?_
  refine lv_i2b hx hb dX3_prints_9 rfl ?_
  obtain ⟨g1, hf⟩ := gd_t hf
  refine ms_31 S hC hD hK hP hS (inR_vp g1) rfl dX3_prints_10 (fun H locs hP hS => ?_)
  refine lv_aload_n hx hb dX3_prints_11 rfl (lv_at hl 0 rfl) ?_
  refine lv_dup hx hb dX3_prints_12 rfl ?_
  refine mg_32 S hC hK hP dX3_prints_13 ?_
  refine lv_iconst hx hb dX3_prints_16 kc_i1 ?_
  refine lv_iadd hx hb dX3_prints_17 ?_
  refine mp_32 S hC hD hK hP hS dX3_prints_18 (fun H locs hP hS => ?_)
  have hE := Option.some.inj hf
  subst hE
  exact gt_wv S hr hlocks trivial hP hS dX3_prints_21
set_option maxRecDepth 100000 in
theorem mc_X3_X3_prints {a0 : Int32} {out : Int32 × (Nat → Int32)} (S : CallFix p m c cc nL s args lw_all RX3) (hC : mC cl tys mi cI cJ cB) (hD : mD o ad) (hK : va_K D cl tys s) (hP : va_P D cl (mW mi cI cJ cB o ad th tp st fk fp ac si fr tt kd nu fa pl fo wd ci gr lm om nw rd aa kp ta nm rn gv gt rw rh lg lh ou) H) (hS : va_S (mA o ad) H0 H locs) (hf : f_X3_prints om ou a0 = some out) (hsz : ls.size = nL) (hR : 0 + 1 ≤ R.frames ∧ 8 + (2 + 11) + 0 ≤ R.locals) (hW : (rest.map fun v => v.category).sum ≤ 8) (hcs : cells ≤ R.cells ∧ slots ≤ R.slots) (hdg : decode cc pc = .ok (.invokevirtual 400, 3)) (kk : ∀ (H1 : Heap) (locs1 : List Loc), True → va_P D cl (mW mi cI cJ cB o ad th tp st fk fp ac si fr tt kd nu fa pl fo wd ci gr lm out.1 nw rd aa kp ta nm rn gv gt rw rh lg lh out.2) H1 → va_S (mA o ad) H0 H1 locs1 → W p l e R s m args below meth c H1 locs1 cells slots Q (F0 m (pc + 3) ls (rest))) : W p l e R s m args below meth c H locs cells slots Q (F0 m pc ls (.int a0 :: .ref o :: rest)) :=
  gc_Vv (As := [.int a0]) S (mm_X3_prints hC hD hf) (cwV 1 S.2.2.2.2 (lw_V q2623 q2625 qs168 q189 q2626) rfl rfl rfl hd_X3_prints hR) (gPreV hK hP hC.1 (q0 := 0) rfl) rfl hsz rfl hW hdg hcs hS kk
theorem hd_X3_printsWord : yX3_printsWord.cls = RX3 ∧ yX3_printsWord.cls ≠ "java/lang/invoke/MethodHandle" ∧ yX3_printsWord.cls ≠ "java/lang/invoke/VarHandle" ∧ (parseMethodDescriptor yX3_printsWord.desc).map (fun d => d.parameters.length) = some 1 := by decide +kernel
set_option maxHeartbeats 4000000 in
set_option maxRecDepth 100000 in
theorem mm_X3_printsWord {a0 : Int64} {out : Int32 × (Nat → Int32)} (hC : mC cl tys mi cI cJ cB) (hD : mD o ad) (hf : f_X3_printsWord om ou a0 = some out) : Met l yX3_printsWord (ws_ yX3_printsWord cX3_printsWord 4 none) (rM 1 21) (gPc D cl tys [.ref o, .long a0] (mW mi cI cJ cB o ad th tp st fk fp ac si fr tt kd nu fa pl fo wd ci gr lm om nw rd aa kp ta nm rn gv gt rw rh lg lh ou)) (gQ D cl none True (mW mi cI cJ cB o ad th tp st fk fp ac si fr tt kd nu fa pl fo wd ci gr lm out.1 nw rd aa kp ta nm rn gv gt rw rh lg lh out.2) (mA o ad)) 0 0 (mA o ad) := by
  refine gGo (by decide +kernel) (Nat.le_of_ble_eq_true rfl) (fun p e s m below meth c ls S hr hlocks hK hP hl => ?_)
  have S : CallFix p m c cX3_printsWord 4 s _ lw_all RX3 := S
  obtain ⟨hx, hb, hml, hown, hts⟩ := id S
  have hl : lv_has ls 4 [(0, .ref o), (1, .long a0)] := hl
  have w3 : ∀ (n : Nat) , ∀ (x1 : Int64) (x3 : Int32) (om : Int32) (ou : (Nat → Int32)) (ls : Array Slot) (H : Heap) (locs : List Loc), va_P D cl (mW mi cI cJ cB o ad th tp st fk fp ac si fr tt kd nu fa pl fo wd ci gr lm om nw rd aa kp ta nm rn gv gt rw rh lg lh ou) H → va_S (mA o ad) s.heap H locs → lv_has ls 4 [(0, .ref o), (1, .long x1), (3, .int x3)] → f_X3_printsWord_3 n x1 x3 om ou = some out → W p l e (rM 1 21) s m ([.ref o, .long a0] : List Value).toArray below meth c H locs 0 0 (MQ below (gQ D cl none True (mW mi cI cJ cB o ad th tp st fk fp ac si fr tt kd nu fa pl fo wd ci gr lm out.1 nw rd aa kp ta nm rn gv gt rw rh lg lh out.2) (mA o ad)) ([.ref o, .long a0] : List Value).toArray s 0 0 (mA o ad)) (F0 m 3 ls []) := by
    intro n
    induction n with
    | zero =>
      intro x1 x3 om ou ls H locs hP hS hl hf
      exact absurd hf (by rw [f_X3_printsWord_3]; exact nofun)
    | succ n ih =>
      intro x1 x3 om ou ls H locs hP hS hl hf
      rw [f_X3_printsWord_3] at hf
      refine lv_iload_n hx hb dX3_printsWord_3 rfl (lv_at hl 2 rfl) ?_
      refine lv_if_lt (tgt := 40) hx hb dX3_printsWord_4 (by decide) (fun c1 => ?_) (fun c1 => ?_)
      · replace hf := it_t c1 hf
        have hE := Option.some.inj hf
        subst hE
        exact gt_wv S hr hlocks trivial hP hS dX3_printsWord_40
      · replace hf := it_f c1 hf
        refine lv_lload_n hx hb dX3_printsWord_7 rfl (lv_at hl 1 rfl) ?_
        refine lv_iload_n hx hb dX3_printsWord_8 rfl (lv_at hl 2 rfl) ?_
        refine lv_lshr hx hb dX3_printsWord_9 rfl ?_
        refine lv_ldc2 hx hb hown (hts _ q2622) dX3_printsWord_10 ?_
        refine lv_land hx hb dX3_printsWord_13 ?_
        refine lv_lconst (v := 0) hx hb dX3_printsWord_14 (by decide) ?_
        refine W.lcmp hx hb dX3_printsWord_15 ?_
        refine lv_if_eq (tgt := 34) hx hb dX3_printsWord_16 (by decide) (fun c2 => ?_) (fun c2 => ?_)
        · replace hf := it_t c2 hf
          refine lv_iinc (v := (x3 + (-5))) (lv' := [(3, .int (x3 + (-5))), (0, .ref o), (1, .long x1)]) hx hb dX3_printsWord_34 hl (k := 2) rfl rfl (by decide) rfl (fun ls hl => ?_)
          refine lv_goto (tgt := 3) hx hb dX3_printsWord_37 (by decide) ?_
          exact (ih) x1 (x3 + (-5)) om ou ls H locs hP hS (lv_sub (l' := [(0, .ref o), (1, .long x1), (3, .int (x3 + (-5)))]) hl [1, 2, 0] rfl) hf
        · replace hf := it_f c2 hf
          refine lv_aload_n hx hb dX3_printsWord_19 rfl (lv_at hl 0 rfl) ?_
          refine lv_lload_n hx hb dX3_printsWord_20 rfl (lv_at hl 1 rfl) ?_
          refine lv_iload_n hx hb dX3_printsWord_21 rfl (lv_at hl 2 rfl) ?_
          refine lv_lshr hx hb dX3_printsWord_22 rfl ?_
          refine lv_ldc2 hx hb hown (hts _ q2622) dX3_printsWord_23 ?_
          refine lv_land hx hb dX3_printsWord_26 ?_
          refine lv_l2i hx hb dX3_printsWord_27 rfl ?_
          refine lv_bipush hx hb dX3_printsWord_28 kc_b96 ?_
          refine lv_iadd hx hb dX3_printsWord_30 ?_
          obtain ⟨v3, hv3, hf⟩ := ob_s hf
          refine mc_X3_X3_prints S hC hD hK hP hS hv3 hl.1 ⟨Nat.le_of_ble_eq_true rfl, Nat.le_of_ble_eq_true rfl⟩ (Nat.le_of_ble_eq_true rfl) ⟨Nat.zero_le _, Nat.zero_le _⟩ dX3_printsWord_31 (fun H locs _ hP hS => ?_)
          refine lv_iinc (v := (x3 + (-5))) (lv' := [(3, .int (x3 + (-5))), (0, .ref o), (1, .long x1)]) hx hb dX3_printsWord_34 hl (k := 2) rfl rfl (by decide) rfl (fun ls hl => ?_)
          refine lv_goto (tgt := 3) hx hb dX3_printsWord_37 (by decide) ?_
          exact (ih) x1 (x3 + (-5)) v3.1 v3.2 ls H locs hP hS (lv_sub (l' := [(0, .ref o), (1, .long x1), (3, .int (x3 + (-5)))]) hl [1, 2, 0] rfl) hf
  suffices hg : ∀ (H : Heap) (locs : List Loc), va_P D cl (mW mi cI cJ cB o ad th tp st fk fp ac si fr tt kd nu fa pl fo wd ci gr lm om nw rd aa kp ta nm rn gv gt rw rh lg lh ou) H → va_S (mA o ad) s.heap H locs → W p l e (rM 1 21) s m ([.ref o, .long a0] : List Value).toArray below meth c H locs 0 0 (MQ below (gQ D cl none True (mW mi cI cJ cB o ad th tp st fk fp ac si fr tt kd nu fa pl fo wd ci gr lm out.1 nw rd aa kp ta nm rn gv gt rw rh lg lh out.2) (mA o ad)) ([.ref o, .long a0] : List Value).toArray s 0 0 (mA o ad)) (F0 m 0 ls []) from hg s.heap [] hP va_S.rf
  clear hP
  intro H locs hP hS
  rw [f_X3_printsWord] at hf
  refine lv_bipush hx hb dX3_printsWord_0 kc_b40 ?_
  refine lv_istore_n (i := 3) (lv' := [(3, .int (nI 40)), (0, .ref o), (1, .long a0)]) hx hb dX3_printsWord_2 rfl hl (by decide) rfl (fun ls hl => ?_)
  exact (w3 FU) a0 (nI 40) om ou ls H locs hP hS (lv_sub (l' := [(0, .ref o), (1, .long a0), (3, .int (nI 40))]) hl [1, 2, 0] rfl) hf
set_option maxRecDepth 100000 in
theorem mc_X3_X3_printsWord {a0 : Int64} {out : Int32 × (Nat → Int32)} (S : CallFix p m c cc nL s args lw_all RX3) (hC : mC cl tys mi cI cJ cB) (hD : mD o ad) (hK : va_K D cl tys s) (hP : va_P D cl (mW mi cI cJ cB o ad th tp st fk fp ac si fr tt kd nu fa pl fo wd ci gr lm om nw rd aa kp ta nm rn gv gt rw rh lg lh ou) H) (hS : va_S (mA o ad) H0 H locs) (hf : f_X3_printsWord om ou a0 = some out) (hsz : ls.size = nL) (hR : 1 + 1 ≤ R.frames ∧ 8 + (4 + 11) + 21 ≤ R.locals) (hW : (rest.map fun v => v.category).sum ≤ 8) (hcs : cells ≤ R.cells ∧ slots ≤ R.slots) (hdg : decode cc pc = .ok (.invokevirtual 403, 3)) (kk : ∀ (H1 : Heap) (locs1 : List Loc), True → va_P D cl (mW mi cI cJ cB o ad th tp st fk fp ac si fr tt kd nu fa pl fo wd ci gr lm out.1 nw rd aa kp ta nm rn gv gt rw rh lg lh out.2) H1 → va_S (mA o ad) H0 H1 locs1 → W p l e R s m args below meth c H1 locs1 cells slots Q (F0 m (pc + 3) ls (rest))) : W p l e R s m args below meth c H locs cells slots Q (F0 m pc ls (.long a0 :: .ref o :: rest)) :=
  gc_Vv (As := [.long a0]) S (mm_X3_printsWord hC hD hf) (cwV 1 S.2.2.2.2 (lw_V q2618 q2620 qs167 q189 q2621) rfl rfl rfl hd_X3_printsWord hR) (gPreV hK hP hC.1 (q0 := 0) rfl) rfl hsz rfl hW hdg hcs hS kk
theorem hd_X3_printsNumber : yX3_printsNumber.cls = RX3 ∧ yX3_printsNumber.cls ≠ "java/lang/invoke/MethodHandle" ∧ yX3_printsNumber.cls ≠ "java/lang/invoke/VarHandle" ∧ (parseMethodDescriptor yX3_printsNumber.desc).map (fun d => d.parameters.length) = some 1 := by decide +kernel
set_option maxHeartbeats 4000000 in
set_option maxRecDepth 100000 in
theorem mm_X3_printsNumber {a0 : Int32} {out : Int32 × (Nat → Int32)} (hC : mC cl tys mi cI cJ cB) (hD : mD o ad) (hf : f_X3_printsNumber om ou a0 = some out) : Met l yX3_printsNumber (ws_ yX3_printsNumber cX3_printsNumber 2 none) (rM 1 21) (gPc D cl tys [.ref o, .int a0] (mW mi cI cJ cB o ad th tp st fk fp ac si fr tt kd nu fa pl fo wd ci gr lm om nw rd aa kp ta nm rn gv gt rw rh lg lh ou)) (gQ D cl none True (mW mi cI cJ cB o ad th tp st fk fp ac si fr tt kd nu fa pl fo wd ci gr lm out.1 nw rd aa kp ta nm rn gv gt rw rh lg lh out.2) (mA o ad)) 0 0 (mA o ad) := by
  refine gGo (by decide +kernel) (Nat.le_of_ble_eq_true rfl) (fun p e s m below meth c ls S hr hlocks hK hP hl => ?_)
  have S : CallFix p m c cX3_printsNumber 2 s _ lw_all RX3 := S
  obtain ⟨hx, hb, hml, hown, hts⟩ := id S
  have hl : lv_has ls 2 [(0, .ref o), (1, .int a0)] := hl
  have w43 : ∀ (x1 : Int32) (om : Int32) (ou : (Nat → Int32)) (ls : Array Slot) (H : Heap) (locs : List Loc), va_P D cl (mW mi cI cJ cB o ad th tp st fk fp ac si fr tt kd nu fa pl fo wd ci gr lm om nw rd aa kp ta nm rn gv gt rw rh lg lh ou) H → va_S (mA o ad) s.heap H locs → lv_has ls 2 [(0, .ref o), (1, .int x1)] → f_X3_printsNumber_43 x1 om ou = some out → W p l e (rM 1 21) s m ([.ref o, .int a0] : List Value).toArray below meth c H locs 0 0 (MQ below (gQ D cl none True (mW mi cI cJ cB o ad th tp st fk fp ac si fr tt kd nu fa pl fo wd ci gr lm out.1 nw rd aa kp ta nm rn gv gt rw rh lg lh out.2) (mA o ad)) ([.ref o, .int a0] : List Value).toArray s 0 0 (mA o ad)) (F0 m 43 ls []) := by
    intro x1 om ou ls H locs hP hS hl hf
    rw [f_X3_printsNumber_43] at hf
    refine lv_aload_n hx hb dX3_printsNumber_43 rfl (lv_at hl 0 rfl) ?_
    refine lv_bipush hx hb dX3_printsNumber_44 kc_b48 ?_
    refine lv_iload_n hx hb dX3_printsNumber_46 rfl (lv_at hl 1 rfl) ?_
    refine lv_bipush hx hb dX3_printsNumber_47 kc_b10 ?_
    obtain ⟨g1, hf⟩ := gd_t hf
    refine lv_irem hx hb dX3_printsNumber_49 (nz32_t g1) ?_
    refine lv_iadd hx hb dX3_printsNumber_50 ?_
    obtain ⟨v2, hv2, hf⟩ := ob_s hf
    refine mc_X3_X3_prints S hC hD hK hP hS hv2 hl.1 ⟨Nat.le_of_ble_eq_true rfl, Nat.le_of_ble_eq_true rfl⟩ (Nat.le_of_ble_eq_true rfl) ⟨Nat.zero_le _, Nat.zero_le _⟩ dX3_printsNumber_51 (fun H locs _ hP hS => ?_)
    have hE := Option.some.inj hf
    subst hE
    exact gt_wv S hr hlocks trivial hP hS dX3_printsNumber_54
  have w23 : ∀ (x1 : Int32) (om : Int32) (ou : (Nat → Int32)) (ls : Array Slot) (H : Heap) (locs : List Loc), va_P D cl (mW mi cI cJ cB o ad th tp st fk fp ac si fr tt kd nu fa pl fo wd ci gr lm om nw rd aa kp ta nm rn gv gt rw rh lg lh ou) H → va_S (mA o ad) s.heap H locs → lv_has ls 2 [(0, .ref o), (1, .int x1)] → f_X3_printsNumber_23 x1 om ou = some out → W p l e (rM 1 21) s m ([.ref o, .int a0] : List Value).toArray below meth c H locs 0 0 (MQ below (gQ D cl none True (mW mi cI cJ cB o ad th tp st fk fp ac si fr tt kd nu fa pl fo wd ci gr lm out.1 nw rd aa kp ta nm rn gv gt rw rh lg lh out.2) (mA o ad)) ([.ref o, .int a0] : List Value).toArray s 0 0 (mA o ad)) (F0 m 23 ls []) := by
    intro x1 om ou ls H locs hP hS hl hf
    rw [f_X3_printsNumber_23] at hf
    refine lv_iload_n hx hb dX3_printsNumber_23 rfl (lv_at hl 1 rfl) ?_
    refine lv_bipush hx hb dX3_printsNumber_24 kc_b9 ?_
    refine lv_icmp_le (tgt := 43) hx hb dX3_printsNumber_26 (by decide) (fun c1 => ?_) (fun c1 => ?_)
    · replace hf := it_t c1 hf
      exact (w43) x1 om ou ls H locs hP hS hl hf
    · replace hf := it_f c1 hf
      refine lv_aload_n hx hb dX3_printsNumber_29 rfl (lv_at hl 0 rfl) ?_
      refine lv_bipush hx hb dX3_printsNumber_30 kc_b48 ?_
      refine lv_iload_n hx hb dX3_printsNumber_32 rfl (lv_at hl 1 rfl) ?_
      refine lv_bipush hx hb dX3_printsNumber_33 kc_b10 ?_
      obtain ⟨g2, hf⟩ := gd_t hf
      refine lv_idiv hx hb dX3_printsNumber_35 (nz32_t g2) ?_
      refine lv_bipush hx hb dX3_printsNumber_36 kc_b10 ?_
      obtain ⟨g3, hf⟩ := gd_t hf
      refine lv_irem hx hb dX3_printsNumber_38 (nz32_t g3) ?_
      refine lv_iadd hx hb dX3_printsNumber_39 ?_
      obtain ⟨v4, hv4, hf⟩ := ob_s hf
      refine mc_X3_X3_prints S hC hD hK hP hS hv4 hl.1 ⟨Nat.le_of_ble_eq_true rfl, Nat.le_of_ble_eq_true rfl⟩ (Nat.le_of_ble_eq_true rfl) ⟨Nat.zero_le _, Nat.zero_le _⟩ dX3_printsNumber_40 (fun H locs _ hP hS => ?_)
      exact (w43) x1 v4.1 v4.2 ls H locs hP hS hl hf
  suffices hg : ∀ (H : Heap) (locs : List Loc), va_P D cl (mW mi cI cJ cB o ad th tp st fk fp ac si fr tt kd nu fa pl fo wd ci gr lm om nw rd aa kp ta nm rn gv gt rw rh lg lh ou) H → va_S (mA o ad) s.heap H locs → W p l e (rM 1 21) s m ([.ref o, .int a0] : List Value).toArray below meth c H locs 0 0 (MQ below (gQ D cl none True (mW mi cI cJ cB o ad th tp st fk fp ac si fr tt kd nu fa pl fo wd ci gr lm out.1 nw rd aa kp ta nm rn gv gt rw rh lg lh out.2) (mA o ad)) ([.ref o, .int a0] : List Value).toArray s 0 0 (mA o ad)) (F0 m 0 ls []) from hg s.heap [] hP va_S.rf
  clear hP
  intro H locs hP hS
  rw [f_X3_printsNumber] at hf
  refine lv_aload_n hx hb dX3_printsNumber_0 rfl (lv_at hl 0 rfl) ?_
  refine lv_bipush hx hb dX3_printsNumber_1 kc_b32 ?_
  obtain ⟨v1, hv1, hf⟩ := ob_s hf
  refine mc_X3_X3_prints S hC hD hK hP hS hv1 hl.1 ⟨Nat.le_of_ble_eq_true rfl, Nat.le_of_ble_eq_true rfl⟩ (Nat.le_of_ble_eq_true rfl) ⟨Nat.zero_le _, Nat.zero_le _⟩ dX3_printsNumber_3 (fun H locs _ hP hS => ?_)
  refine lv_iload_n hx hb dX3_printsNumber_6 rfl (lv_at hl 1 rfl) ?_
  refine lv_bipush hx hb dX3_printsNumber_7 kc_b99 ?_
  refine lv_icmp_le (tgt := 23) hx hb dX3_printsNumber_9 (by decide) (fun c2 => ?_) (fun c2 => ?_)
  · replace hf := it_t c2 hf
    exact (w23) a0 v1.1 v1.2 ls H locs hP hS hl hf
  · replace hf := it_f c2 hf
    refine lv_aload_n hx hb dX3_printsNumber_12 rfl (lv_at hl 0 rfl) ?_
    refine lv_bipush hx hb dX3_printsNumber_13 kc_b48 ?_
    refine lv_iload_n hx hb dX3_printsNumber_15 rfl (lv_at hl 1 rfl) ?_
    refine lv_bipush hx hb dX3_printsNumber_16 kc_b100 ?_
    obtain ⟨g3, hf⟩ := gd_t hf
    refine lv_idiv hx hb dX3_printsNumber_18 (nz32_t g3) ?_
    refine lv_iadd hx hb dX3_printsNumber_19 ?_
    obtain ⟨v4, hv4, hf⟩ := ob_s hf
    refine mc_X3_X3_prints S hC hD hK hP hS hv4 hl.1 ⟨Nat.le_of_ble_eq_true rfl, Nat.le_of_ble_eq_true rfl⟩ (Nat.le_of_ble_eq_true rfl) ⟨Nat.zero_le _, Nat.zero_le _⟩ dX3_printsNumber_20 (fun H locs _ hP hS => ?_)
    exact (w23) a0 v4.1 v4.2 ls H locs hP hS hl hf
set_option maxRecDepth 100000 in
theorem mc_X3_X3_printsNumber {a0 : Int32} {out : Int32 × (Nat → Int32)} (S : CallFix p m c cc nL s args lw_all RX3) (hC : mC cl tys mi cI cJ cB) (hD : mD o ad) (hK : va_K D cl tys s) (hP : va_P D cl (mW mi cI cJ cB o ad th tp st fk fp ac si fr tt kd nu fa pl fo wd ci gr lm om nw rd aa kp ta nm rn gv gt rw rh lg lh ou) H) (hS : va_S (mA o ad) H0 H locs) (hf : f_X3_printsNumber om ou a0 = some out) (hsz : ls.size = nL) (hR : 1 + 1 ≤ R.frames ∧ 8 + (2 + 11) + 21 ≤ R.locals) (hW : (rest.map fun v => v.category).sum ≤ 8) (hcs : cells ≤ R.cells ∧ slots ≤ R.slots) (hdg : decode cc pc = .ok (.invokevirtual 410, 3)) (kk : ∀ (H1 : Heap) (locs1 : List Loc), True → va_P D cl (mW mi cI cJ cB o ad th tp st fk fp ac si fr tt kd nu fa pl fo wd ci gr lm out.1 nw rd aa kp ta nm rn gv gt rw rh lg lh out.2) H1 → va_S (mA o ad) H0 H1 locs1 → W p l e R s m args below meth c H1 locs1 cells slots Q (F0 m (pc + 3) ls (rest))) : W p l e R s m args below meth c H locs cells slots Q (F0 m pc ls (.int a0 :: .ref o :: rest)) :=
  gc_Vv (As := [.int a0]) S (mm_X3_printsNumber hC hD hf) (cwV 1 S.2.2.2.2 (lw_V q2627 q2629 qs169 q189 q2630) rfl rfl rfl hd_X3_printsNumber hR) (gPreV hK hP hC.1 (q0 := 0) rfl) rfl hsz rfl hW hdg hcs hS kk
theorem hd_X3_isTold : yX3_isTold.cls = RX3 ∧ yX3_isTold.cls ≠ "java/lang/invoke/MethodHandle" ∧ yX3_isTold.cls ≠ "java/lang/invoke/VarHandle" ∧ (parseMethodDescriptor yX3_isTold.desc).map (fun d => d.parameters.length) = some 1 := by decide +kernel
set_option maxHeartbeats 4000000 in
set_option maxRecDepth 100000 in
theorem mm_X3_isTold {a0 : Int32} {out : Int32} (hC : mC cl tys mi cI cJ cB) (hf : f_X3_isTold nw a0 = some out) : Met l yX3_isTold (ws_ yX3_isTold cX3_isTold 2 (some .boolean)) (rM 3 64) (gPc D cl tys [.ref o, .int a0] (mW mi cI cJ cB o ad th tp st fk fp ac si fr tt kd nu fa pl fo wd ci gr lm om nw rd aa kp ta nm rn gv gt rw rh lg lh ou)) (gR (some (.int out)) (narrow .boolean (.int out) = .int out)) 0 0 (fun _ => False) := by
  refine gGo (by decide +kernel) (Nat.le_of_ble_eq_true rfl) (fun p e s m below meth c ls S hr hlocks hK hP hl => ?_)
  have S : CallFix p m c cX3_isTold 2 s _ lw_all RX3 := S
  obtain ⟨hx, hb, hml, hown, hts⟩ := id S
  have hl : lv_has ls 2 [(0, .ref o), (1, .int a0)] := hl
  rw [f_X3_isTold] at hf
  refine lv_aload_n hx hb dX3_isTold_0 rfl (lv_at hl 0 rfl) ?_
  refine lv_iload_n hx hb dX3_isTold_1 rfl (lv_at hl 1 rfl) ?_
  refine lv_bipush hx hb dX3_isTold_2 kc_b6 ?_
  obtain ⟨v1, hv1, hf⟩ := ob_s hf
  refine mc_X3_X3_home0 S hC hK hP hv1 hl.1 ⟨Nat.le_of_ble_eq_true rfl, Nat.le_of_ble_eq_true rfl⟩ (Nat.le_of_ble_eq_true rfl) ⟨Nat.zero_le _, Nat.zero_le _⟩ dX3_isTold_4 (fun _ => ?_)
  refine lv_if_ne (tgt := 37) hx hb dX3_isTold_7 (by decide) (fun c2 => ?_) (fun c2 => ?_)
  · replace hf := it_f c2 hf
    refine lv_iconst hx hb dX3_isTold_37 kc_i0 ?_
    have hE := Option.some.inj hf
    subst hE
    exact gt_rz S hr hlocks nb0 dX3_isTold_38
  · replace hf := it_t c2 hf
    refine lv_aload_n hx hb dX3_isTold_10 rfl (lv_at hl 0 rfl) ?_
    refine lv_iload_n hx hb dX3_isTold_11 rfl (lv_at hl 1 rfl) ?_
    refine lv_iconst hx hb dX3_isTold_12 kc_i2 ?_
    obtain ⟨v3, hv3, hf⟩ := ob_s hf
    refine mc_X3_X3_home0 S hC hK hP hv3 hl.1 ⟨Nat.le_of_ble_eq_true rfl, Nat.le_of_ble_eq_true rfl⟩ (Nat.le_of_ble_eq_true rfl) ⟨Nat.zero_le _, Nat.zero_le _⟩ dX3_isTold_13 (fun _ => ?_)
    refine lv_iconst hx hb dX3_isTold_16 kc_im1 ?_
    refine lv_icmp_eq (tgt := 33) hx hb dX3_isTold_17 (by decide) (fun c4 => ?_) (fun c4 => ?_)
    · replace hf := it_t c4 hf
      refine lv_iconst hx hb dX3_isTold_33 kc_i1 ?_
      refine lv_goto (tgt := 38) hx hb dX3_isTold_34 (by decide) ?_
      have hE := Option.some.inj hf
      subst hE
      exact gt_rz S hr hlocks nb1 dX3_isTold_38
    · replace hf := it_f c4 hf
      refine lv_aload_n hx hb dX3_isTold_20 rfl (lv_at hl 0 rfl) ?_
      refine lv_aload_n hx hb dX3_isTold_21 rfl (lv_at hl 0 rfl) ?_
      refine lv_iload_n hx hb dX3_isTold_22 rfl (lv_at hl 1 rfl) ?_
      refine lv_iconst hx hb dX3_isTold_23 kc_i2 ?_
      obtain ⟨v5, hv5, hf⟩ := ob_s hf
      refine mc_X3_X3_home0 S hC hK hP hv5 hl.1 ⟨Nat.le_of_ble_eq_true rfl, Nat.le_of_ble_eq_true rfl⟩ (Nat.le_of_ble_eq_true rfl) ⟨Nat.zero_le _, Nat.zero_le _⟩ dX3_isTold_24 (fun _ => ?_)
      obtain ⟨v6, hv6, hf⟩ := ob_s hf
      refine mc_X3_X3_isIn S hC hK hP hv6 hl.1 ⟨Nat.le_of_ble_eq_true rfl, Nat.le_of_ble_eq_true rfl⟩ (Nat.le_of_ble_eq_true rfl) ⟨Nat.zero_le _, Nat.zero_le _⟩ dX3_isTold_27 (fun hnv6 => ?_)
      refine lv_if_eq (tgt := 37) hx hb dX3_isTold_30 (by decide) (fun c7 => ?_) (fun c7 => ?_)
      · replace hf := it_t c7 hf
        refine lv_iconst hx hb dX3_isTold_37 kc_i0 ?_
        have hE := Option.some.inj hf
        subst hE
        exact gt_rz S hr hlocks nb0 dX3_isTold_38
      · replace hf := it_f c7 hf
        refine lv_iconst hx hb dX3_isTold_33 kc_i1 ?_
        refine lv_goto (tgt := 38) hx hb dX3_isTold_34 (by decide) ?_
        have hE := Option.some.inj hf
        subst hE
        exact gt_rz S hr hlocks nb1 dX3_isTold_38
set_option maxRecDepth 100000 in
theorem mc_X3_X3_isTold {a0 : Int32} {out : Int32} (S : CallFix p m c cc nL s args lw_all RX3) (hC : mC cl tys mi cI cJ cB) (hK : va_K D cl tys s) (hP : va_P D cl (mW mi cI cJ cB o ad th tp st fk fp ac si fr tt kd nu fa pl fo wd ci gr lm om nw rd aa kp ta nm rn gv gt rw rh lg lh ou) H) (hf : f_X3_isTold nw a0 = some out) (hsz : ls.size = nL) (hR : 3 + 1 ≤ R.frames ∧ 8 + (2 + 11) + 64 ≤ R.locals) (hW : (rest.map fun v => v.category).sum ≤ 8) (hcs : cells ≤ R.cells ∧ slots ≤ R.slots) (hdg : decode cc pc = .ok (.invokevirtual 413, 3)) (kk : (narrow .boolean (.int out) = .int out) → W p l e R s m args below meth c H locs cells slots Q (F0 m (pc + 3) ls (.int out :: rest))) : W p l e R s m args below meth c H locs cells slots Q (F0 m pc ls (.int a0 :: .ref o :: rest)) :=
  gc_Vr (As := [.int a0]) S (mm_X3_isTold hC hf) (cwV 1 S.2.2.2.2 (lw_V q2631 q2633 qs170 q189 q2634) rfl rfl rfl hd_X3_isTold hR) (gPreV hK hP hC.1 (q0 := 0) rfl) rfl hsz rfl hW hdg hcs kk
theorem hd_X3_printsNamed : yX3_printsNamed.cls = RX3 ∧ yX3_printsNamed.cls ≠ "java/lang/invoke/MethodHandle" ∧ yX3_printsNamed.cls ≠ "java/lang/invoke/VarHandle" ∧ (parseMethodDescriptor yX3_printsNamed.desc).map (fun d => d.parameters.length) = some 1 := by decide +kernel
set_option maxHeartbeats 4000000 in
set_option maxRecDepth 100000 in
theorem mm_X3_printsNamed {a0 : Int32} {out : Int32 × (Nat → Int32)} (hC : mC cl tys mi cI cJ cB) (hD : mD o ad) (hf : f_X3_printsNamed nm om ou a0 = some out) : Met l yX3_printsNamed (ws_ yX3_printsNamed cX3_printsNamed 2 none) (rM 2 44) (gPc D cl tys [.ref o, .int a0] (mW mi cI cJ cB o ad th tp st fk fp ac si fr tt kd nu fa pl fo wd ci gr lm om nw rd aa kp ta nm rn gv gt rw rh lg lh ou)) (gQ D cl none True (mW mi cI cJ cB o ad th tp st fk fp ac si fr tt kd nu fa pl fo wd ci gr lm out.1 nw rd aa kp ta nm rn gv gt rw rh lg lh out.2) (mA o ad)) 0 0 (mA o ad) := by
  refine gGo (by decide +kernel) (Nat.le_of_ble_eq_true rfl) (fun p e s m below meth c ls S hr hlocks hK hP hl => ?_)
  have S : CallFix p m c cX3_printsNamed 2 s _ lw_all RX3 := S
  obtain ⟨hx, hb, hml, hown, hts⟩ := id S
  have hl : lv_has ls 2 [(0, .ref o), (1, .int a0)] := hl
  suffices hg : ∀ (H : Heap) (locs : List Loc), va_P D cl (mW mi cI cJ cB o ad th tp st fk fp ac si fr tt kd nu fa pl fo wd ci gr lm om nw rd aa kp ta nm rn gv gt rw rh lg lh ou) H → va_S (mA o ad) s.heap H locs → W p l e (rM 2 44) s m ([.ref o, .int a0] : List Value).toArray below meth c H locs 0 0 (MQ below (gQ D cl none True (mW mi cI cJ cB o ad th tp st fk fp ac si fr tt kd nu fa pl fo wd ci gr lm out.1 nw rd aa kp ta nm rn gv gt rw rh lg lh out.2) (mA o ad)) ([.ref o, .int a0] : List Value).toArray s 0 0 (mA o ad)) (F0 m 0 ls []) from hg s.heap [] hP va_S.rf
  clear hP
  intro H locs hP hS
  rw [f_X3_printsNamed] at hf
  refine lv_aload_n hx hb dX3_printsNamed_0 rfl (lv_at hl 0 rfl) ?_
  refine lv_bipush hx hb dX3_printsNamed_1 kc_b32 ?_
  obtain ⟨v1, hv1, hf⟩ := ob_s hf
  refine mc_X3_X3_prints S hC hD hK hP hS hv1 hl.1 ⟨Nat.le_of_ble_eq_true rfl, Nat.le_of_ble_eq_true rfl⟩ (Nat.le_of_ble_eq_true rfl) ⟨Nat.zero_le _, Nat.zero_le _⟩ dX3_printsNamed_3 (fun H locs _ hP hS => ?_)
  refine lv_aload_n hx hb dX3_printsNamed_6 rfl (lv_at hl 0 rfl) ?_
  refine lv_aload_n hx hb dX3_printsNamed_7 rfl (lv_at hl 0 rfl) ?_
  refine mg_6 S hC hK hP dX3_printsNamed_8 ?_
  refine lv_iload_n hx hb dX3_printsNamed_11 rfl (lv_at hl 1 rfl) ?_
  obtain ⟨g2, hf⟩ := gd_t hf
  refine ma_6 S hC hK hP (inR_vp g2) rfl dX3_printsNamed_12 ?_
  obtain ⟨v3, hv3, hf⟩ := ob_s hf
  refine mc_X3_X3_printsWord S hC hD hK hP hS hv3 hl.1 ⟨Nat.le_of_ble_eq_true rfl, Nat.le_of_ble_eq_true rfl⟩ (Nat.le_of_ble_eq_true rfl) ⟨Nat.zero_le _, Nat.zero_le _⟩ dX3_printsNamed_13 (fun H locs _ hP hS => ?_)
  have hE := Option.some.inj hf
  subst hE
  exact gt_wv S hr hlocks trivial hP hS dX3_printsNamed_16
set_option maxRecDepth 100000 in
theorem mc_X3_X3_printsNamed {a0 : Int32} {out : Int32 × (Nat → Int32)} (S : CallFix p m c cc nL s args lw_all RX3) (hC : mC cl tys mi cI cJ cB) (hD : mD o ad) (hK : va_K D cl tys s) (hP : va_P D cl (mW mi cI cJ cB o ad th tp st fk fp ac si fr tt kd nu fa pl fo wd ci gr lm om nw rd aa kp ta nm rn gv gt rw rh lg lh ou) H) (hS : va_S (mA o ad) H0 H locs) (hf : f_X3_printsNamed nm om ou a0 = some out) (hsz : ls.size = nL) (hR : 2 + 1 ≤ R.frames ∧ 8 + (2 + 11) + 44 ≤ R.locals) (hW : (rest.map fun v => v.category).sum ≤ 8) (hcs : cells ≤ R.cells ∧ slots ≤ R.slots) (hdg : decode cc pc = .ok (.invokevirtual 407, 3)) (kk : ∀ (H1 : Heap) (locs1 : List Loc), True → va_P D cl (mW mi cI cJ cB o ad th tp st fk fp ac si fr tt kd nu fa pl fo wd ci gr lm out.1 nw rd aa kp ta nm rn gv gt rw rh lg lh out.2) H1 → va_S (mA o ad) H0 H1 locs1 → W p l e R s m args below meth c H1 locs1 cells slots Q (F0 m (pc + 3) ls (rest))) : W p l e R s m args below meth c H locs cells slots Q (F0 m pc ls (.int a0 :: .ref o :: rest)) :=
  gc_Vv (As := [.int a0]) S (mm_X3_printsNamed hC hD hf) (cwV 1 S.2.2.2.2 (lw_V q2635 q2637 qs171 q189 q2638) rfl rfl rfl hd_X3_printsNamed hR) (gPreV hK hP hC.1 (q0 := 0) rfl) rfl hsz rfl hW hdg hcs hS kk
theorem hd_X3_printsHouse : yX3_printsHouse.cls = RX3 ∧ yX3_printsHouse.cls ≠ "java/lang/invoke/MethodHandle" ∧ yX3_printsHouse.cls ≠ "java/lang/invoke/VarHandle" ∧ (parseMethodDescriptor yX3_printsHouse.desc).map (fun d => d.parameters.length) = some 1 := by decide +kernel
set_option maxHeartbeats 4000000 in
set_option maxRecDepth 100000 in
theorem mm_X3_printsHouse {a0 : Int32} {out : Int32 × (Nat → Int32)} (hC : mC cl tys mi cI cJ cB) (hD : mD o ad) (hf : f_X3_printsHouse nw nm om ou a0 = some out) : Met l yX3_printsHouse (ws_ yX3_printsHouse cX3_printsHouse 3 none) (rM 4 85) (gPc D cl tys [.ref o, .int a0] (mW mi cI cJ cB o ad th tp st fk fp ac si fr tt kd nu fa pl fo wd ci gr lm om nw rd aa kp ta nm rn gv gt rw rh lg lh ou)) (gQ D cl none True (mW mi cI cJ cB o ad th tp st fk fp ac si fr tt kd nu fa pl fo wd ci gr lm out.1 nw rd aa kp ta nm rn gv gt rw rh lg lh out.2) (mA o ad)) 0 0 (mA o ad) := by
  refine gGo (by decide +kernel) (Nat.le_of_ble_eq_true rfl) (fun p e s m below meth c ls S hr hlocks hK hP hl => ?_)
  have S : CallFix p m c cX3_printsHouse 3 s _ lw_all RX3 := S
  obtain ⟨hx, hb, hml, hown, hts⟩ := id S
  have hl : lv_has ls 3 [(0, .ref o), (1, .int a0)] := hl
  have w90 : ∀ (n : Nat) , ∀ (x1 : Int32) (x2 : Int32) (om : Int32) (ou : (Nat → Int32)) (ls : Array Slot) (H : Heap) (locs : List Loc), va_P D cl (mW mi cI cJ cB o ad th tp st fk fp ac si fr tt kd nu fa pl fo wd ci gr lm om nw rd aa kp ta nm rn gv gt rw rh lg lh ou) H → va_S (mA o ad) s.heap H locs → lv_has ls 3 [(0, .ref o), (1, .int x1), (2, .int x2)] → f_X3_printsHouse_90 n nw nm x1 x2 om ou = some out → W p l e (rM 4 85) s m ([.ref o, .int a0] : List Value).toArray below meth c H locs 0 0 (MQ below (gQ D cl none True (mW mi cI cJ cB o ad th tp st fk fp ac si fr tt kd nu fa pl fo wd ci gr lm out.1 nw rd aa kp ta nm rn gv gt rw rh lg lh out.2) (mA o ad)) ([.ref o, .int a0] : List Value).toArray s 0 0 (mA o ad)) (F0 m 90 ls []) := by
    intro n
    induction n with
    | zero =>
      intro x1 x2 om ou ls H locs hP hS hl hf
      exact absurd hf (by rw [f_X3_printsHouse_90]; exact nofun)
    | succ n ih =>
      intro x1 x2 om ou ls H locs hP hS hl hf
      rw [f_X3_printsHouse_90] at hf
      refine lv_iload_n hx hb dX3_printsHouse_90 rfl (lv_at hl 2 rfl) ?_
      refine lv_aload_n hx hb dX3_printsHouse_91 rfl (lv_at hl 0 rfl) ?_
      refine lv_iload_n hx hb dX3_printsHouse_92 rfl (lv_at hl 1 rfl) ?_
      refine lv_bipush hx hb dX3_printsHouse_93 kc_b11 ?_
      obtain ⟨v1, hv1, hf⟩ := ob_s hf
      refine mc_X3_X3_of S hC hK hP hv1 hl.1 ⟨Nat.le_of_ble_eq_true rfl, Nat.le_of_ble_eq_true rfl⟩ (Nat.le_of_ble_eq_true rfl) ⟨Nat.zero_le _, Nat.zero_le _⟩ dX3_printsHouse_95 (fun _ => ?_)
      refine lv_icmp_ge (tgt := 136) hx hb dX3_printsHouse_98 (by decide) (fun c2 => ?_) (fun c2 => ?_)
      · replace hf := it_t c2 hf
        refine lv_aload_n hx hb dX3_printsHouse_136 rfl (lv_at hl 0 rfl) ?_
        refine lv_bipush hx hb dX3_printsHouse_137 kc_b59 ?_
        obtain ⟨v3, hv3, hf⟩ := ob_s hf
        refine mc_X3_X3_prints S hC hD hK hP hS hv3 hl.1 ⟨Nat.le_of_ble_eq_true rfl, Nat.le_of_ble_eq_true rfl⟩ (Nat.le_of_ble_eq_true rfl) ⟨Nat.zero_le _, Nat.zero_le _⟩ dX3_printsHouse_139 (fun H locs _ hP hS => ?_)
        have hE := Option.some.inj hf
        subst hE
        exact gt_wv S hr hlocks trivial hP hS dX3_printsHouse_142
      · replace hf := it_f c2 hf
        refine lv_aload_n hx hb dX3_printsHouse_101 rfl (lv_at hl 0 rfl) ?_
        refine lv_aload_n hx hb dX3_printsHouse_102 rfl (lv_at hl 0 rfl) ?_
        refine lv_iload_n hx hb dX3_printsHouse_103 rfl (lv_at hl 1 rfl) ?_
        refine lv_bipush hx hb dX3_printsHouse_104 kc_b12 ?_
        refine lv_iload_n hx hb dX3_printsHouse_106 rfl (lv_at hl 2 rfl) ?_
        refine lv_iadd hx hb dX3_printsHouse_107 ?_
        obtain ⟨v4, hv4, hf⟩ := ob_s hf
        refine mc_X3_X3_of S hC hK hP hv4 hl.1 ⟨Nat.le_of_ble_eq_true rfl, Nat.le_of_ble_eq_true rfl⟩ (Nat.le_of_ble_eq_true rfl) ⟨Nat.zero_le _, Nat.zero_le _⟩ dX3_printsHouse_108 (fun _ => ?_)
        obtain ⟨v5, hv5, hf⟩ := ob_s hf
        refine mc_X3_X3_isTold S hC hK hP hv5 hl.1 ⟨Nat.le_of_ble_eq_true rfl, Nat.le_of_ble_eq_true rfl⟩ (Nat.le_of_ble_eq_true rfl) ⟨Nat.zero_le _, Nat.zero_le _⟩ dX3_printsHouse_111 (fun hnv5 => ?_)
        refine lv_if_eq (tgt := 130) hx hb dX3_printsHouse_114 (by decide) (fun c6 => ?_) (fun c6 => ?_)
        · replace hf := it_t c6 hf
          refine lv_iinc (v := (x2 + 1)) (lv' := [(2, .int (x2 + 1)), (0, .ref o), (1, .int x1)]) hx hb dX3_printsHouse_130 hl (k := 2) rfl rfl (by decide) rfl (fun ls hl => ?_)
          refine lv_goto (tgt := 90) hx hb dX3_printsHouse_133 (by decide) ?_
          exact (ih) x1 (x2 + 1) om ou ls H locs hP hS (lv_sub (l' := [(0, .ref o), (1, .int x1), (2, .int (x2 + 1))]) hl [1, 2, 0] rfl) hf
        · replace hf := it_f c6 hf
          refine lv_aload_n hx hb dX3_printsHouse_117 rfl (lv_at hl 0 rfl) ?_
          refine lv_aload_n hx hb dX3_printsHouse_118 rfl (lv_at hl 0 rfl) ?_
          refine lv_iload_n hx hb dX3_printsHouse_119 rfl (lv_at hl 1 rfl) ?_
          refine lv_bipush hx hb dX3_printsHouse_120 kc_b12 ?_
          refine lv_iload_n hx hb dX3_printsHouse_122 rfl (lv_at hl 2 rfl) ?_
          refine lv_iadd hx hb dX3_printsHouse_123 ?_
          obtain ⟨v7, hv7, hf⟩ := ob_s hf
          refine mc_X3_X3_of S hC hK hP hv7 hl.1 ⟨Nat.le_of_ble_eq_true rfl, Nat.le_of_ble_eq_true rfl⟩ (Nat.le_of_ble_eq_true rfl) ⟨Nat.zero_le _, Nat.zero_le _⟩ dX3_printsHouse_124 (fun _ => ?_)
          obtain ⟨v8, hv8, hf⟩ := ob_s hf
          refine mc_X3_X3_printsNamed S hC hD hK hP hS hv8 hl.1 ⟨Nat.le_of_ble_eq_true rfl, Nat.le_of_ble_eq_true rfl⟩ (Nat.le_of_ble_eq_true rfl) ⟨Nat.zero_le _, Nat.zero_le _⟩ dX3_printsHouse_127 (fun H locs _ hP hS => ?_)
          refine lv_iinc (v := (x2 + 1)) (lv' := [(2, .int (x2 + 1)), (0, .ref o), (1, .int x1)]) hx hb dX3_printsHouse_130 hl (k := 2) rfl rfl (by decide) rfl (fun ls hl => ?_)
          refine lv_goto (tgt := 90) hx hb dX3_printsHouse_133 (by decide) ?_
          exact (ih) x1 (x2 + 1) v8.1 v8.2 ls H locs hP hS (lv_sub (l' := [(0, .ref o), (1, .int x1), (2, .int (x2 + 1))]) hl [1, 2, 0] rfl) hf
  have w19 : ∀ (n : Nat) , ∀ (x1 : Int32) (x2 : Int32) (om : Int32) (ou : (Nat → Int32)) (ls : Array Slot) (H : Heap) (locs : List Loc), va_P D cl (mW mi cI cJ cB o ad th tp st fk fp ac si fr tt kd nu fa pl fo wd ci gr lm om nw rd aa kp ta nm rn gv gt rw rh lg lh ou) H → va_S (mA o ad) s.heap H locs → lv_has ls 3 [(0, .ref o), (1, .int x1), (2, .int x2)] → f_X3_printsHouse_19 n nw nm x1 x2 om ou = some out → W p l e (rM 4 85) s m ([.ref o, .int a0] : List Value).toArray below meth c H locs 0 0 (MQ below (gQ D cl none True (mW mi cI cJ cB o ad th tp st fk fp ac si fr tt kd nu fa pl fo wd ci gr lm out.1 nw rd aa kp ta nm rn gv gt rw rh lg lh out.2) (mA o ad)) ([.ref o, .int a0] : List Value).toArray s 0 0 (mA o ad)) (F0 m 19 ls []) := by
    intro n
    induction n with
    | zero =>
      intro x1 x2 om ou ls H locs hP hS hl hf
      exact absurd hf (by rw [f_X3_printsHouse_19]; exact nofun)
    | succ n ih =>
      intro x1 x2 om ou ls H locs hP hS hl hf
      rw [f_X3_printsHouse_19] at hf
      refine lv_iload_n hx hb dX3_printsHouse_19 rfl (lv_at hl 2 rfl) ?_
      refine lv_iconst hx hb dX3_printsHouse_20 kc_i3 ?_
      refine lv_icmp_gt (tgt := 40) hx hb dX3_printsHouse_21 (by decide) (fun c1 => ?_) (fun c1 => ?_)
      · replace hf := it_t c1 hf
        refine lv_aload_n hx hb dX3_printsHouse_40 rfl (lv_at hl 0 rfl) ?_
        refine lv_iload_n hx hb dX3_printsHouse_41 rfl (lv_at hl 1 rfl) ?_
        refine lv_iconst hx hb dX3_printsHouse_42 kc_i4 ?_
        obtain ⟨v2, hv2, hf⟩ := ob_s hf
        refine mc_X3_X3_of S hC hK hP hv2 hl.1 ⟨Nat.le_of_ble_eq_true rfl, Nat.le_of_ble_eq_true rfl⟩ (Nat.le_of_ble_eq_true rfl) ⟨Nat.zero_le _, Nat.zero_le _⟩ dX3_printsHouse_43 (fun _ => ?_)
        refine lv_iconst hx hb dX3_printsHouse_46 kc_im1 ?_
        refine lv_icmp_eq (tgt := 88) hx hb dX3_printsHouse_47 (by decide) (fun c3 => ?_) (fun c3 => ?_)
        · replace hf := it_t c3 hf
          refine lv_iconst hx hb dX3_printsHouse_88 kc_i0 ?_
          refine lv_istore_n (i := 2) (lv' := [(2, .int 0), (0, .ref o), (1, .int x1)]) hx hb dX3_printsHouse_89 rfl hl (by decide) rfl (fun ls hl => ?_)
          exact (w90 FU) x1 0 om ou ls H locs hP hS (lv_sub (l' := [(0, .ref o), (1, .int x1), (2, .int 0)]) hl [1, 2, 0] rfl) hf
        · replace hf := it_f c3 hf
          refine lv_aload_n hx hb dX3_printsHouse_50 rfl (lv_at hl 0 rfl) ?_
          refine lv_aload_n hx hb dX3_printsHouse_51 rfl (lv_at hl 0 rfl) ?_
          refine lv_iload_n hx hb dX3_printsHouse_52 rfl (lv_at hl 1 rfl) ?_
          refine lv_iconst hx hb dX3_printsHouse_53 kc_i4 ?_
          obtain ⟨v4, hv4, hf⟩ := ob_s hf
          refine mc_X3_X3_of S hC hK hP hv4 hl.1 ⟨Nat.le_of_ble_eq_true rfl, Nat.le_of_ble_eq_true rfl⟩ (Nat.le_of_ble_eq_true rfl) ⟨Nat.zero_le _, Nat.zero_le _⟩ dX3_printsHouse_54 (fun _ => ?_)
          obtain ⟨v5, hv5, hf⟩ := ob_s hf
          refine mc_X3_X3_isTold S hC hK hP hv5 hl.1 ⟨Nat.le_of_ble_eq_true rfl, Nat.le_of_ble_eq_true rfl⟩ (Nat.le_of_ble_eq_true rfl) ⟨Nat.zero_le _, Nat.zero_le _⟩ dX3_printsHouse_57 (fun hnv5 => ?_)
          refine lv_if_eq (tgt := 88) hx hb dX3_printsHouse_60 (by decide) (fun c6 => ?_) (fun c6 => ?_)
          · replace hf := it_t c6 hf
            refine lv_iconst hx hb dX3_printsHouse_88 kc_i0 ?_
            refine lv_istore_n (i := 2) (lv' := [(2, .int 0), (0, .ref o), (1, .int x1)]) hx hb dX3_printsHouse_89 rfl hl (by decide) rfl (fun ls hl => ?_)
            exact (w90 FU) x1 0 om ou ls H locs hP hS (lv_sub (l' := [(0, .ref o), (1, .int x1), (2, .int 0)]) hl [1, 2, 0] rfl) hf
          · replace hf := it_f c6 hf
            refine lv_aload_n hx hb dX3_printsHouse_63 rfl (lv_at hl 0 rfl) ?_
            refine lv_bipush hx hb dX3_printsHouse_64 kc_b32 ?_
            obtain ⟨v7, hv7, hf⟩ := ob_s hf
            refine mc_X3_X3_prints S hC hD hK hP hS hv7 hl.1 ⟨Nat.le_of_ble_eq_true rfl, Nat.le_of_ble_eq_true rfl⟩ (Nat.le_of_ble_eq_true rfl) ⟨Nat.zero_le _, Nat.zero_le _⟩ dX3_printsHouse_66 (fun H locs _ hP hS => ?_)
            refine lv_aload_n hx hb dX3_printsHouse_69 rfl (lv_at hl 0 rfl) ?_
            refine lv_bipush hx hb dX3_printsHouse_70 kc_b9 ?_
            obtain ⟨v8, hv8, hf⟩ := ob_s hf
            refine mc_X3_X3_wordOf S hK hv8 hl.1 ⟨Nat.le_of_ble_eq_true rfl, Nat.le_of_ble_eq_true rfl⟩ (Nat.le_of_ble_eq_true rfl) ⟨Nat.zero_le _, Nat.zero_le _⟩ dX3_printsHouse_72 (fun _ => ?_)
            obtain ⟨v9, hv9, hf⟩ := ob_s hf
            refine mc_X3_X3_printsWord S hC hD hK hP hS hv9 hl.1 ⟨Nat.le_of_ble_eq_true rfl, Nat.le_of_ble_eq_true rfl⟩ (Nat.le_of_ble_eq_true rfl) ⟨Nat.zero_le _, Nat.zero_le _⟩ dX3_printsHouse_75 (fun H locs _ hP hS => ?_)
            refine lv_aload_n hx hb dX3_printsHouse_78 rfl (lv_at hl 0 rfl) ?_
            refine lv_aload_n hx hb dX3_printsHouse_79 rfl (lv_at hl 0 rfl) ?_
            refine lv_iload_n hx hb dX3_printsHouse_80 rfl (lv_at hl 1 rfl) ?_
            refine lv_iconst hx hb dX3_printsHouse_81 kc_i4 ?_
            obtain ⟨v10, hv10, hf⟩ := ob_s hf
            refine mc_X3_X3_of S hC hK hP hv10 hl.1 ⟨Nat.le_of_ble_eq_true rfl, Nat.le_of_ble_eq_true rfl⟩ (Nat.le_of_ble_eq_true rfl) ⟨Nat.zero_le _, Nat.zero_le _⟩ dX3_printsHouse_82 (fun _ => ?_)
            obtain ⟨v11, hv11, hf⟩ := ob_s hf
            refine mc_X3_X3_printsNamed S hC hD hK hP hS hv11 hl.1 ⟨Nat.le_of_ble_eq_true rfl, Nat.le_of_ble_eq_true rfl⟩ (Nat.le_of_ble_eq_true rfl) ⟨Nat.zero_le _, Nat.zero_le _⟩ dX3_printsHouse_85 (fun H locs _ hP hS => ?_)
            refine lv_iconst hx hb dX3_printsHouse_88 kc_i0 ?_
            refine lv_istore_n (i := 2) (lv' := [(2, .int 0), (0, .ref o), (1, .int x1)]) hx hb dX3_printsHouse_89 rfl hl (by decide) rfl (fun ls hl => ?_)
            exact (w90 FU) x1 0 v11.1 v11.2 ls H locs hP hS (lv_sub (l' := [(0, .ref o), (1, .int x1), (2, .int 0)]) hl [1, 2, 0] rfl) hf
      · replace hf := it_f c1 hf
        refine lv_aload_n hx hb dX3_printsHouse_24 rfl (lv_at hl 0 rfl) ?_
        refine lv_aload_n hx hb dX3_printsHouse_25 rfl (lv_at hl 0 rfl) ?_
        refine lv_iload_n hx hb dX3_printsHouse_26 rfl (lv_at hl 1 rfl) ?_
        refine lv_iload_n hx hb dX3_printsHouse_27 rfl (lv_at hl 2 rfl) ?_
        obtain ⟨v12, hv12, hf⟩ := ob_s hf
        refine mc_X3_X3_of S hC hK hP hv12 hl.1 ⟨Nat.le_of_ble_eq_true rfl, Nat.le_of_ble_eq_true rfl⟩ (Nat.le_of_ble_eq_true rfl) ⟨Nat.zero_le _, Nat.zero_le _⟩ dX3_printsHouse_28 (fun _ => ?_)
        obtain ⟨v13, hv13, hf⟩ := ob_s hf
        refine mc_X3_X3_printsNumber S hC hD hK hP hS hv13 hl.1 ⟨Nat.le_of_ble_eq_true rfl, Nat.le_of_ble_eq_true rfl⟩ (Nat.le_of_ble_eq_true rfl) ⟨Nat.zero_le _, Nat.zero_le _⟩ dX3_printsHouse_31 (fun H locs _ hP hS => ?_)
        refine lv_iinc (v := (x2 + 1)) (lv' := [(2, .int (x2 + 1)), (0, .ref o), (1, .int x1)]) hx hb dX3_printsHouse_34 hl (k := 2) rfl rfl (by decide) rfl (fun ls hl => ?_)
        refine lv_goto (tgt := 19) hx hb dX3_printsHouse_37 (by decide) ?_
        exact (ih) x1 (x2 + 1) v13.1 v13.2 ls H locs hP hS (lv_sub (l' := [(0, .ref o), (1, .int x1), (2, .int (x2 + 1))]) hl [1, 2, 0] rfl) hf
  suffices hg : ∀ (H : Heap) (locs : List Loc), va_P D cl (mW mi cI cJ cB o ad th tp st fk fp ac si fr tt kd nu fa pl fo wd ci gr lm om nw rd aa kp ta nm rn gv gt rw rh lg lh ou) H → va_S (mA o ad) s.heap H locs → W p l e (rM 4 85) s m ([.ref o, .int a0] : List Value).toArray below meth c H locs 0 0 (MQ below (gQ D cl none True (mW mi cI cJ cB o ad th tp st fk fp ac si fr tt kd nu fa pl fo wd ci gr lm out.1 nw rd aa kp ta nm rn gv gt rw rh lg lh out.2) (mA o ad)) ([.ref o, .int a0] : List Value).toArray s 0 0 (mA o ad)) (F0 m 0 ls []) from hg s.heap [] hP va_S.rf
  clear hP
  intro H locs hP hS
  rw [f_X3_printsHouse] at hf
  refine lv_aload_n hx hb dX3_printsHouse_0 rfl (lv_at hl 0 rfl) ?_
  refine lv_bipush hx hb dX3_printsHouse_1 kc_b7 ?_
  obtain ⟨v1, hv1, hf⟩ := ob_s hf
  refine mc_X3_X3_wordOf S hK hv1 hl.1 ⟨Nat.le_of_ble_eq_true rfl, Nat.le_of_ble_eq_true rfl⟩ (Nat.le_of_ble_eq_true rfl) ⟨Nat.zero_le _, Nat.zero_le _⟩ dX3_printsHouse_3 (fun _ => ?_)
  obtain ⟨v2, hv2, hf⟩ := ob_s hf
  refine mc_X3_X3_printsWord S hC hD hK hP hS hv2 hl.1 ⟨Nat.le_of_ble_eq_true rfl, Nat.le_of_ble_eq_true rfl⟩ (Nat.le_of_ble_eq_true rfl) ⟨Nat.zero_le _, Nat.zero_le _⟩ dX3_printsHouse_6 (fun H locs _ hP hS => ?_)
  refine lv_aload_n hx hb dX3_printsHouse_9 rfl (lv_at hl 0 rfl) ?_
  refine lv_bipush hx hb dX3_printsHouse_10 kc_b10 ?_
  refine lv_iload_n hx hb dX3_printsHouse_12 rfl (lv_at hl 1 rfl) ?_
  refine lv_iadd hx hb dX3_printsHouse_13 ?_
  obtain ⟨v3, hv3, hf⟩ := ob_s hf
  refine mc_X3_X3_printsNamed S hC hD hK hP hS hv3 hl.1 ⟨Nat.le_of_ble_eq_true rfl, Nat.le_of_ble_eq_true rfl⟩ (Nat.le_of_ble_eq_true rfl) ⟨Nat.zero_le _, Nat.zero_le _⟩ dX3_printsHouse_14 (fun H locs _ hP hS => ?_)
  refine lv_iconst hx hb dX3_printsHouse_17 kc_i0 ?_
  refine lv_istore_n (i := 2) (lv' := [(2, .int 0), (0, .ref o), (1, .int a0)]) hx hb dX3_printsHouse_18 rfl hl (by decide) rfl (fun ls hl => ?_)
  exact (w19 FU) a0 0 v3.1 v3.2 ls H locs hP hS (lv_sub (l' := [(0, .ref o), (1, .int a0), (2, .int 0)]) hl [1, 2, 0] rfl) hf
set_option maxRecDepth 100000 in
theorem mc_X3_X3_printsHouse {a0 : Int32} {out : Int32 × (Nat → Int32)} (S : CallFix p m c cc nL s args lw_all RX3) (hC : mC cl tys mi cI cJ cB) (hD : mD o ad) (hK : va_K D cl tys s) (hP : va_P D cl (mW mi cI cJ cB o ad th tp st fk fp ac si fr tt kd nu fa pl fo wd ci gr lm om nw rd aa kp ta nm rn gv gt rw rh lg lh ou) H) (hS : va_S (mA o ad) H0 H locs) (hf : f_X3_printsHouse nw nm om ou a0 = some out) (hsz : ls.size = nL) (hR : 4 + 1 ≤ R.frames ∧ 8 + (3 + 11) + 85 ≤ R.locals) (hW : (rest.map fun v => v.category).sum ≤ 8) (hcs : cells ≤ R.cells ∧ slots ≤ R.slots) (hdg : decode cc pc = .ok (.invokevirtual 416, 3)) (kk : ∀ (H1 : Heap) (locs1 : List Loc), True → va_P D cl (mW mi cI cJ cB o ad th tp st fk fp ac si fr tt kd nu fa pl fo wd ci gr lm out.1 nw rd aa kp ta nm rn gv gt rw rh lg lh out.2) H1 → va_S (mA o ad) H0 H1 locs1 → W p l e R s m args below meth c H1 locs1 cells slots Q (F0 m (pc + 3) ls (rest))) : W p l e R s m args below meth c H locs cells slots Q (F0 m pc ls (.int a0 :: .ref o :: rest)) :=
  gc_Vv (As := [.int a0]) S (mm_X3_printsHouse hC hD hf) (cwV 1 S.2.2.2.2 (lw_V q2639 q2641 qs172 q189 q2642) rfl rfl rfl hd_X3_printsHouse hR) (gPreV hK hP hC.1 (q0 := 0) rfl) rfl hsz rfl hW hdg hcs hS kk
end
