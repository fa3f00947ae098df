section
variable {l : Launch} {D : va_G} {cl : List vw_C} {tys : List (ClassId × FieldType)} {mi : Nat} {cI cJ cB : ClassId} {o : Nat} {ad : Nat → Nat} {th : Int32} {tp : Int32} {st : Int32} {fk : Int32} {fp : Int32} {ac : Int32} {si : Int32} {fr : Int32} {tt : Int32} {kd : Int32} {nu : Int32} {fa : Int32} {pl : Int32} {fo : Int32} {wd : Int64} {ci : Int32} {gr : Int32} {lm : Int32} {om : Int32} {nw : (Nat → Int32)} {rd : (Nat → Int32)} {aa : (Nat → Int32)} {kp : (Nat → Int32)} {ta : (Nat → Int32)} {nm : (Nat → Int64)} {rn : (Nat → Int64)} {gv : (Nat → Int32)} {gt : (Nat → Int32)} {rw : (Nat → Int32)} {rh : (Nat → Int32)} {lg : (Nat → Int32)} {lh : (Nat → Int32)} {ou : (Nat → Int32)}
variable {p : Program} {e : Env} {R : Room} {s : State} {m : MethodId} {args : Array Value} {below : List Frame} {meth : Method} {c : Code} {H H0 : Heap} {locs : List Loc} {cells slots : Nat} {Q : State → Prop} {cc : ByteArray} {nL pc : Nat} {ls : Array Slot} {rest : List Value}
theorem hd_X3_print : yX3_print.cls = RX3 ∧ yX3_print.cls ≠ "java/lang/invoke/MethodHandle" ∧ yX3_print.cls ≠ "java/lang/invoke/VarHandle" ∧ (parseMethodDescriptor yX3_print.desc).map (fun d => d.parameters.length) = some 0 := by decide +kernel
set_option maxHeartbeats 4000000 in
set_option maxRecDepth 100000 in
theorem mm_X3_print  {out : Int32 × Int32 × Int32 × Int32 × (Nat → Int32)} (hC : mC cl tys mi cI cJ cB) (hD : mD o ad) (hf : f_X3_print nw nm th st om ou = some out) : Met l yX3_print (ws_ yX3_print cX3_print 2 (some .int)) (rM 5 107) (gPc D cl tys [.ref o] (mW mi cI cJ cB o ad th tp st fk fp ac si fr tt kd nu fa pl fo wd ci gr lm om nw rd aa kp ta nm rn gv gt rw rh lg lh ou)) (gQ D cl (some (.int out.1)) True (mW mi cI cJ cB o ad out.2.1 tp out.2.2.1 fk fp ac si fr tt kd nu fa pl fo wd ci gr lm out.2.2.2.1 nw rd aa kp ta nm rn gv gt rw rh lg lh out.2.2.2.2) (mA o ad)) 0 0 (mA o ad) := by
  refine gGo (by decide +kernel) (Nat.le_of_ble_eq_true rfl) (fun p e s m below meth c ls S hr hlocks hK hP hl => ?_)
  have S : CallFix p m c cX3_print 2 s _ lw_all RX3 := S
  obtain ⟨hx, hb, hml, hown, hts⟩ := id S
  have hl : lv_has ls 2 [(0, .ref o)] := hl
  have w135 : ∀ (n : Nat) , ∀ (x1 : Int32) (th : Int32) (st : Int32) (om : Int32) (ou : (Nat → Int32)) (ls : Array Slot) (H : Heap) (locs : List Loc), va_P D cl (mW mi cI cJ cB o ad th tp st fk fp ac si fr tt kd nu fa pl fo wd ci gr lm om nw rd aa kp ta nm rn gv gt rw rh lg lh ou) H → va_S (mA o ad) s.heap H locs → lv_has ls 2 [(0, .ref o), (1, .int x1)] → f_X3_print_135 n nw nm x1 th st om ou = some out → W p l e (rM 5 107) s m ([.ref o] : List Value).toArray below meth c H locs 0 0 (MQ below (gQ D cl (some (.int out.1)) True (mW mi cI cJ cB o ad out.2.1 tp out.2.2.1 fk fp ac si fr tt kd nu fa pl fo wd ci gr lm out.2.2.2.1 nw rd aa kp ta nm rn gv gt rw rh lg lh out.2.2.2.2) (mA o ad)) ([.ref o] : List Value).toArray s 0 0 (mA o ad)) (F0 m 135 ls []) := by
    intro n
    induction n with
    | zero =>
      intro x1 th st om ou ls H locs hP hS hl hf
      exact absurd hf (by rw [f_X3_print_135]; exact nofun)
    | succ n ih =>
      intro x1 th st om ou ls H locs hP hS hl hf
      rw [f_X3_print_135] at hf
      refine lv_iload_n hx hb dX3_print_135 rfl (lv_at hl 1 rfl) ?_
      refine lv_aload_n hx hb dX3_print_136 rfl (lv_at hl 0 rfl) ?_
      refine mg_1 S hC hK hP dX3_print_137 ?_
      refine lv_sipush hx hb dX3_print_140 kc_s231 ?_
      refine ma_1 S hC hK hP kv_231_390 kn_231 dX3_print_143 ?_
      refine lv_icmp_ge (tgt := 166) hx hb dX3_print_144 (by decide) (fun c1 => ?_) (fun c1 => ?_)
      · replace hf := it_t c1 hf
        refine lv_aload_n hx hb dX3_print_166 rfl (lv_at hl 0 rfl) ?_
        refine lv_aload_n hx hb dX3_print_167 rfl (lv_at hl 0 rfl) ?_
        refine mg_32 S hC hK hP dX3_print_168 ?_
        obtain ⟨v2, hv2, hf⟩ := ob_s hf
        refine mc_X3_X3_gives S hC hD hK hP hS hv2 hl.1 ⟨Nat.le_of_ble_eq_true rfl, Nat.le_of_ble_eq_true rfl⟩ (Nat.le_of_ble_eq_true rfl) ⟨Nat.zero_le _, Nat.zero_le _⟩ dX3_print_171 (fun H locs _ hP hS => ?_)
        have hE := Option.some.inj hf
        subst hE
        exact gt_wi S hr hlocks trivial hP hS dX3_print_174
      · replace hf := it_f c1 hf
        refine lv_aload_n hx hb dX3_print_147 rfl (lv_at hl 0 rfl) ?_
        refine lv_iload_n hx hb dX3_print_148 rfl (lv_at hl 1 rfl) ?_
        obtain ⟨v3, hv3, hf⟩ := ob_s hf
        refine mc_X3_X3_isIn S hC hK hP hv3 hl.1 ⟨Nat.le_of_ble_eq_true rfl, Nat.le_of_ble_eq_true rfl⟩ (Nat.le_of_ble_eq_true rfl) ⟨Nat.zero_le _, Nat.zero_le _⟩ dX3_print_149 (fun hnv3 => ?_)
        refine lv_if_eq (tgt := 160) hx hb dX3_print_152 (by decide) (fun c4 => ?_) (fun c4 => ?_)
        · replace hf := it_t c4 hf
          refine lv_iinc (v := (x1 + 1)) (lv' := [(1, .int (x1 + 1)), (0, .ref o)]) hx hb dX3_print_160 hl (k := 1) rfl rfl (by decide) rfl (fun ls hl => ?_)
          refine lv_goto (tgt := 135) hx hb dX3_print_163 (by decide) ?_
          exact (ih) (x1 + 1) th st om ou ls H locs hP hS (lv_sub (l' := [(0, .ref o), (1, .int (x1 + 1))]) hl [1, 0] rfl) hf
        · replace hf := it_f c4 hf
          refine lv_aload_n hx hb dX3_print_155 rfl (lv_at hl 0 rfl) ?_
          refine lv_iload_n hx hb dX3_print_156 rfl (lv_at hl 1 rfl) ?_
          obtain ⟨v5, hv5, hf⟩ := ob_s hf
          refine mc_X3_X3_printsHouse S hC hD hK hP hS hv5 hl.1 ⟨Nat.le_of_ble_eq_true rfl, Nat.le_of_ble_eq_true rfl⟩ (Nat.le_of_ble_eq_true rfl) ⟨Nat.zero_le _, Nat.zero_le _⟩ dX3_print_157 (fun H locs _ hP hS => ?_)
          refine lv_iinc (v := (x1 + 1)) (lv' := [(1, .int (x1 + 1)), (0, .ref o)]) hx hb dX3_print_160 hl (k := 1) rfl rfl (by decide) rfl (fun ls hl => ?_)
          refine lv_goto (tgt := 135) hx hb dX3_print_163 (by decide) ?_
          exact (ih) (x1 + 1) th st v5.1 v5.2 ls H locs hP hS (lv_sub (l' := [(0, .ref o), (1, .int (x1 + 1))]) hl [1, 0] rfl) hf
  have w64 : ∀ (n : Nat) , ∀ (x1 : Int32) (th : Int32) (st : Int32) (om : Int32) (ou : (Nat → Int32)) (ls : Array Slot) (H : Heap) (locs : List Loc), va_P D cl (mW mi cI cJ cB o ad th tp st fk fp ac si fr tt kd nu fa pl fo wd ci gr lm om nw rd aa kp ta nm rn gv gt rw rh lg lh ou) H → va_S (mA o ad) s.heap H locs → lv_has ls 2 [(0, .ref o), (1, .int x1)] → f_X3_print_64 n nw nm x1 th st om ou = some out → W p l e (rM 5 107) s m ([.ref o] : List Value).toArray below meth c H locs 0 0 (MQ below (gQ D cl (some (.int out.1)) True (mW mi cI cJ cB o ad out.2.1 tp out.2.2.1 fk fp ac si fr tt kd nu fa pl fo wd ci gr lm out.2.2.2.1 nw rd aa kp ta nm rn gv gt rw rh lg lh out.2.2.2.2) (mA o ad)) ([.ref o] : List Value).toArray s 0 0 (mA o ad)) (F0 m 64 ls []) := by
    intro n
    induction n with
    | zero =>
      intro x1 th st om ou ls H locs hP hS hl hf
      exact absurd hf (by rw [f_X3_print_64]; exact nofun)
    | succ n ih =>
      intro x1 th st om ou ls H locs hP hS hl hf
      rw [f_X3_print_64] at hf
      refine lv_iload_n hx hb dX3_print_64 rfl (lv_at hl 1 rfl) ?_
      refine lv_aload_n hx hb dX3_print_65 rfl (lv_at hl 0 rfl) ?_
      refine mg_1 S hC hK hP dX3_print_66 ?_
      refine lv_sipush hx hb dX3_print_69 kc_s230 ?_
      refine ma_1 S hC hK hP kv_230_390 kn_230 dX3_print_72 ?_
      refine lv_icmp_ge (tgt := 133) hx hb dX3_print_73 (by decide) (fun c1 => ?_) (fun c1 => ?_)
      · replace hf := it_t c1 hf
        refine lv_iconst hx hb dX3_print_133 kc_i0 ?_
        refine lv_istore_n (i := 1) (lv' := [(1, .int 0), (0, .ref o)]) hx hb dX3_print_134 rfl hl (by decide) rfl (fun ls hl => ?_)
        exact (w135 FU) 0 th st om ou ls H locs hP hS (lv_sub (l' := [(0, .ref o), (1, .int 0)]) hl [1, 0] rfl) hf
      · replace hf := it_f c1 hf
        refine lv_aload_n hx hb dX3_print_76 rfl (lv_at hl 0 rfl) ?_
        refine lv_iload_n hx hb dX3_print_77 rfl (lv_at hl 1 rfl) ?_
        obtain ⟨v2, hv2, hf⟩ := ob_s hf
        refine mc_X3_X3_isTold S hC hK hP hv2 hl.1 ⟨Nat.le_of_ble_eq_true rfl, Nat.le_of_ble_eq_true rfl⟩ (Nat.le_of_ble_eq_true rfl) ⟨Nat.zero_le _, Nat.zero_le _⟩ dX3_print_78 (fun hnv2 => ?_)
        refine lv_if_ne (tgt := 87) hx hb dX3_print_81 (by decide) (fun c3 => ?_) (fun c3 => ?_)
        · replace hf := it_f c3 hf
          refine lv_aload_n hx hb dX3_print_87 rfl (lv_at hl 0 rfl) ?_
          refine lv_bipush hx hb dX3_print_88 kc_b6 ?_
          obtain ⟨v4, hv4, hf⟩ := ob_s hf
          refine mc_X3_X3_wordOf S hK hv4 hl.1 ⟨Nat.le_of_ble_eq_true rfl, Nat.le_of_ble_eq_true rfl⟩ (Nat.le_of_ble_eq_true rfl) ⟨Nat.zero_le _, Nat.zero_le _⟩ dX3_print_90 (fun _ => ?_)
          obtain ⟨v5, hv5, hf⟩ := ob_s hf
          refine mc_X3_X3_printsWord S hC hD hK hP hS hv5 hl.1 ⟨Nat.le_of_ble_eq_true rfl, Nat.le_of_ble_eq_true rfl⟩ (Nat.le_of_ble_eq_true rfl) ⟨Nat.zero_le _, Nat.zero_le _⟩ dX3_print_93 (fun H locs _ hP hS => ?_)
          refine lv_aload_n hx hb dX3_print_96 rfl (lv_at hl 0 rfl) ?_
          refine lv_iload_n hx hb dX3_print_97 rfl (lv_at hl 1 rfl) ?_
          obtain ⟨v6, hv6, hf⟩ := ob_s hf
          refine mc_X3_X3_printsNamed S hC hD hK hP hS hv6 hl.1 ⟨Nat.le_of_ble_eq_true rfl, Nat.le_of_ble_eq_true rfl⟩ (Nat.le_of_ble_eq_true rfl) ⟨Nat.zero_le _, Nat.zero_le _⟩ dX3_print_98 (fun H locs _ hP hS => ?_)
          refine lv_aload_n hx hb dX3_print_101 rfl (lv_at hl 0 rfl) ?_
          refine lv_aload_n hx hb dX3_print_102 rfl (lv_at hl 0 rfl) ?_
          refine lv_iload_n hx hb dX3_print_103 rfl (lv_at hl 1 rfl) ?_
          refine lv_iconst hx hb dX3_print_104 kc_i0 ?_
          obtain ⟨v7, hv7, hf⟩ := ob_s hf
          refine mc_X3_X3_home0 S hC hK hP hv7 hl.1 ⟨Nat.le_of_ble_eq_true rfl, Nat.le_of_ble_eq_true rfl⟩ (Nat.le_of_ble_eq_true rfl) ⟨Nat.zero_le _, Nat.zero_le _⟩ dX3_print_105 (fun _ => ?_)
          obtain ⟨v8, hv8, hf⟩ := ob_s hf
          refine mc_X3_X3_printsNumber S hC hD hK hP hS hv8 hl.1 ⟨Nat.le_of_ble_eq_true rfl, Nat.le_of_ble_eq_true rfl⟩ (Nat.le_of_ble_eq_true rfl) ⟨Nat.zero_le _, Nat.zero_le _⟩ dX3_print_108 (fun H locs _ hP hS => ?_)
          refine lv_aload_n hx hb dX3_print_111 rfl (lv_at hl 0 rfl) ?_
          refine lv_aload_n hx hb dX3_print_112 rfl (lv_at hl 0 rfl) ?_
          refine lv_iload_n hx hb dX3_print_113 rfl (lv_at hl 1 rfl) ?_
          refine lv_iconst hx hb dX3_print_114 kc_i1 ?_
          obtain ⟨v9, hv9, hf⟩ := ob_s hf
          refine mc_X3_X3_home0 S hC hK hP hv9 hl.1 ⟨Nat.le_of_ble_eq_true rfl, Nat.le_of_ble_eq_true rfl⟩ (Nat.le_of_ble_eq_true rfl) ⟨Nat.zero_le _, Nat.zero_le _⟩ dX3_print_115 (fun _ => ?_)
          obtain ⟨v10, hv10, hf⟩ := ob_s hf
          refine mc_X3_X3_printsNumber S hC hD hK hP hS hv10 hl.1 ⟨Nat.le_of_ble_eq_true rfl, Nat.le_of_ble_eq_true rfl⟩ (Nat.le_of_ble_eq_true rfl) ⟨Nat.zero_le _, Nat.zero_le _⟩ dX3_print_118 (fun H locs _ hP hS => ?_)
          refine lv_aload_n hx hb dX3_print_121 rfl (lv_at hl 0 rfl) ?_
          refine lv_bipush hx hb dX3_print_122 kc_b59 ?_
          obtain ⟨v11, hv11, hf⟩ := ob_s hf
          refine mc_X3_X3_prints S hC hD hK hP hS hv11 hl.1 ⟨Nat.le_of_ble_eq_true rfl, Nat.le_of_ble_eq_true rfl⟩ (Nat.le_of_ble_eq_true rfl) ⟨Nat.zero_le _, Nat.zero_le _⟩ dX3_print_124 (fun H locs _ hP hS => ?_)
          refine lv_iinc (v := (x1 + 1)) (lv' := [(1, .int (x1 + 1)), (0, .ref o)]) hx hb dX3_print_127 hl (k := 1) rfl rfl (by decide) rfl (fun ls hl => ?_)
          refine lv_goto (tgt := 64) hx hb dX3_print_130 (by decide) ?_
          exact (ih) (x1 + 1) th st v11.1 v11.2 ls H locs hP hS (lv_sub (l' := [(0, .ref o), (1, .int (x1 + 1))]) hl [1, 0] rfl) hf
        · replace hf := it_t c3 hf
          refine lv_goto (tgt := 127) hx hb dX3_print_84 (by decide) ?_
          refine lv_iinc (v := (x1 + 1)) (lv' := [(1, .int (x1 + 1)), (0, .ref o)]) hx hb dX3_print_127 hl (k := 1) rfl rfl (by decide) rfl (fun ls hl => ?_)
          refine lv_goto (tgt := 64) hx hb dX3_print_130 (by decide) ?_
          exact (ih) (x1 + 1) th st om ou ls H locs hP hS (lv_sub (l' := [(0, .ref o), (1, .int (x1 + 1))]) hl [1, 0] rfl) hf
  have w7 : ∀ (n : Nat) , ∀ (x1 : Int32) (th : Int32) (st : Int32) (om : Int32) (ou : (Nat → Int32)) (ls : Array Slot) (H : Heap) (locs : List Loc), va_P D cl (mW mi cI cJ cB o ad th tp st fk fp ac si fr tt kd nu fa pl fo wd ci gr lm om nw rd aa kp ta nm rn gv gt rw rh lg lh ou) H → va_S (mA o ad) s.heap H locs → lv_has ls 2 [(0, .ref o), (1, .int x1)] → f_X3_print_7 n nw nm x1 th st om ou = some out → W p l e (rM 5 107) s m ([.ref o] : List Value).toArray below meth c H locs 0 0 (MQ below (gQ D cl (some (.int out.1)) True (mW mi cI cJ cB o ad out.2.1 tp out.2.2.1 fk fp ac si fr tt kd nu fa pl fo wd ci gr lm out.2.2.2.1 nw rd aa kp ta nm rn gv gt rw rh lg lh out.2.2.2.2) (mA o ad)) ([.ref o] : List Value).toArray s 0 0 (mA o ad)) (F0 m 7 ls []) := by
    intro n
    induction n with
    | zero =>
      intro x1 th st om ou ls H locs hP hS hl hf
      exact absurd hf (by rw [f_X3_print_7]; exact nofun)
    | succ n ih =>
      intro x1 th st om ou ls H locs hP hS hl hf
      rw [f_X3_print_7] at hf
      refine lv_iload_n hx hb dX3_print_7 rfl (lv_at hl 1 rfl) ?_
      refine lv_bipush hx hb dX3_print_8 kc_b6 ?_
      refine lv_icmp_ge (tgt := 62) hx hb dX3_print_10 (by decide) (fun c1 => ?_) (fun c1 => ?_)
      · replace hf := it_t c1 hf
        refine lv_iconst hx hb dX3_print_62 kc_i0 ?_
        refine lv_istore_n (i := 1) (lv' := [(1, .int 0), (0, .ref o)]) hx hb dX3_print_63 rfl hl (by decide) rfl (fun ls hl => ?_)
        exact (w64 FU) 0 th st om ou ls H locs hP hS (lv_sub (l' := [(0, .ref o), (1, .int 0)]) hl [1, 0] rfl) hf
      · replace hf := it_f c1 hf
        refine lv_aload_n hx hb dX3_print_13 rfl (lv_at hl 0 rfl) ?_
        refine lv_bipush hx hb dX3_print_14 kc_b8 ?_
        obtain ⟨v2, hv2, hf⟩ := ob_s hf
        refine mc_X3_X3_wordOf S hK hv2 hl.1 ⟨Nat.le_of_ble_eq_true rfl, Nat.le_of_ble_eq_true rfl⟩ (Nat.le_of_ble_eq_true rfl) ⟨Nat.zero_le _, Nat.zero_le _⟩ dX3_print_16 (fun _ => ?_)
        obtain ⟨v3, hv3, hf⟩ := ob_s hf
        refine mc_X3_X3_printsWord S hC hD hK hP hS hv3 hl.1 ⟨Nat.le_of_ble_eq_true rfl, Nat.le_of_ble_eq_true rfl⟩ (Nat.le_of_ble_eq_true rfl) ⟨Nat.zero_le _, Nat.zero_le _⟩ dX3_print_19 (fun H locs _ hP hS => ?_)
        refine lv_aload_n hx hb dX3_print_22 rfl (lv_at hl 0 rfl) ?_
        refine lv_bipush hx hb dX3_print_23 kc_b32 ?_
        obtain ⟨v4, hv4, hf⟩ := ob_s hf
        refine mc_X3_X3_prints S hC hD hK hP hS hv4 hl.1 ⟨Nat.le_of_ble_eq_true rfl, Nat.le_of_ble_eq_true rfl⟩ (Nat.le_of_ble_eq_true rfl) ⟨Nat.zero_le _, Nat.zero_le _⟩ dX3_print_25 (fun H locs _ hP hS => ?_)
        refine lv_aload_n hx hb dX3_print_28 rfl (lv_at hl 0 rfl) ?_
        refine lv_iload_n hx hb dX3_print_29 rfl (lv_at hl 1 rfl) ?_
        obtain ⟨v5, hv5, hf⟩ := ob_s hf
        refine mc_X3_X3_wordOf S hK hv5 hl.1 ⟨Nat.le_of_ble_eq_true rfl, Nat.le_of_ble_eq_true rfl⟩ (Nat.le_of_ble_eq_true rfl) ⟨Nat.zero_le _, Nat.zero_le _⟩ dX3_print_30 (fun _ => ?_)
        obtain ⟨v6, hv6, hf⟩ := ob_s hf
        refine mc_X3_X3_printsWord S hC hD hK hP hS hv6 hl.1 ⟨Nat.le_of_ble_eq_true rfl, Nat.le_of_ble_eq_true rfl⟩ (Nat.le_of_ble_eq_true rfl) ⟨Nat.zero_le _, Nat.zero_le _⟩ dX3_print_33 (fun H locs _ hP hS => ?_)
        refine lv_aload_n hx hb dX3_print_36 rfl (lv_at hl 0 rfl) ?_
        refine lv_aload_n hx hb dX3_print_37 rfl (lv_at hl 0 rfl) ?_
        refine mg_1 S hC hK hP dX3_print_38 ?_
        refine lv_sipush hx hb dX3_print_41 kc_s224 ?_
        refine lv_iload_n hx hb dX3_print_44 rfl (lv_at hl 1 rfl) ?_
        refine lv_iadd hx hb dX3_print_45 ?_
        obtain ⟨g7, hf⟩ := gd_t hf
        refine ma_1 S hC hK hP (inR_vp g7) rfl dX3_print_46 ?_
        obtain ⟨v8, hv8, hf⟩ := ob_s hf
        refine mc_X3_X3_printsNumber S hC hD hK hP hS hv8 hl.1 ⟨Nat.le_of_ble_eq_true rfl, Nat.le_of_ble_eq_true rfl⟩ (Nat.le_of_ble_eq_true rfl) ⟨Nat.zero_le _, Nat.zero_le _⟩ dX3_print_47 (fun H locs _ hP hS => ?_)
        refine lv_aload_n hx hb dX3_print_50 rfl (lv_at hl 0 rfl) ?_
        refine lv_bipush hx hb dX3_print_51 kc_b59 ?_
        obtain ⟨v9, hv9, hf⟩ := ob_s hf
        refine mc_X3_X3_prints S hC hD hK hP hS hv9 hl.1 ⟨Nat.le_of_ble_eq_true rfl, Nat.le_of_ble_eq_true rfl⟩ (Nat.le_of_ble_eq_true rfl) ⟨Nat.zero_le _, Nat.zero_le _⟩ dX3_print_53 (fun H locs _ hP hS => ?_)
        refine lv_iinc (v := (x1 + 1)) (lv' := [(1, .int (x1 + 1)), (0, .ref o)]) hx hb dX3_print_56 hl (k := 1) rfl rfl (by decide) rfl (fun ls hl => ?_)
        refine lv_goto (tgt := 7) hx hb dX3_print_59 (by decide) ?_
        exact (ih) (x1 + 1) th st v9.1 v9.2 ls H locs hP hS (lv_sub (l' := [(0, .ref o), (1, .int (x1 + 1))]) hl [1, 0] rfl) hf
  suffices hg : ∀ (H : Heap) (locs : List Loc), va_P D cl (mW mi cI cJ cB o ad th tp st fk fp ac si fr tt kd nu fa pl fo wd ci gr lm om nw rd aa kp ta nm rn gv gt rw rh lg lh ou) H → va_S (mA o ad) s.heap H locs → W p l e (rM 5 107) s m ([.ref o] : List Value).toArray below meth c H locs 0 0 (MQ below (gQ D cl (some (.int out.1)) True (mW mi cI cJ cB o ad out.2.1 tp out.2.2.1 fk fp ac si fr tt kd nu fa pl fo wd ci gr lm out.2.2.2.1 nw rd aa kp ta nm rn gv gt rw rh lg lh out.2.2.2.2) (mA o ad)) ([.ref o] : List Value).toArray s 0 0 (mA o ad)) (F0 m 0 ls []) from hg s.heap [] hP va_S.rf
  clear hP
  intro H locs hP hS
  rw [f_X3_print] at hf
  refine lv_aload_n hx hb dX3_print_0 rfl (lv_at hl 0 rfl) ?_
  refine lv_iconst hx hb dX3_print_1 kc_i0 ?_
  refine mp_32 S hC hD hK hP hS dX3_print_2 (fun H locs hP hS => ?_)
  refine lv_iconst hx hb dX3_print_5 kc_i0 ?_
  refine lv_istore_n (i := 1) (lv' := [(1, .int 0), (0, .ref o)]) hx hb dX3_print_6 rfl hl (by decide) rfl (fun ls hl => ?_)
  exact (w7 FU) 0 th st 0 ou ls H locs hP hS (lv_sub (l' := [(0, .ref o), (1, .int 0)]) hl [1, 0] rfl) hf
theorem hd_X3_out : yX3_out.cls = RX3 ∧ yX3_out.cls ≠ "java/lang/invoke/MethodHandle" ∧ yX3_out.cls ≠ "java/lang/invoke/VarHandle" ∧ (parseMethodDescriptor yX3_out.desc).map (fun d => d.parameters.length) = some 1 := by decide +kernel
set_option maxHeartbeats 4000000 in
set_option maxRecDepth 100000 in
theorem mm_X3_out {a0 : Int32} {out : Int32 × Int32} (hC : mC cl tys mi cI cJ cB) (hD : mD o ad) (hf : f_X3_out om ou th a0 = some out) : Met l yX3_out (ws_ yX3_out cX3_out 2 (some .int)) (rM 0 0) (gPc D cl tys [.ref o, .int a0] (mW mi cI cJ cB o ad th tp st fk fp ac si fr tt kd nu fa pl fo wd ci gr lm om nw rd aa kp ta nm rn gv gt rw rh lg lh ou)) (gQ D cl (some (.int out.1)) True (mW mi cI cJ cB o ad out.2 tp st fk fp ac si fr tt kd nu fa pl fo wd ci gr lm om nw rd aa kp ta nm rn gv gt rw rh lg lh ou) (mA o ad)) 0 0 (mA o ad) := by
  refine gGo (by decide +kernel) (Nat.le_of_ble_eq_true rfl) (fun p e s m below meth c ls S hr hlocks hK hP hl => ?_)
  have S : CallFix p m c cX3_out 2 s _ lw_all RX3 := S
  obtain ⟨hx, hb, hml, hown, hts⟩ := id S
  have hl : lv_has ls 2 [(0, .ref o), (1, .int a0)] := hl
  have w18 : ∀ (x1 : Int32) (y1 : Int32) (th : Int32) (ls : Array Slot) (H : Heap) (locs : List Loc), va_P D cl (mW mi cI cJ cB o ad th tp st fk fp ac si fr tt kd nu fa pl fo wd ci gr lm om nw rd aa kp ta nm rn gv gt rw rh lg lh ou) H → va_S (mA o ad) s.heap H locs → lv_has ls 2 [(0, .ref o), (1, .int x1)] → f_X3_out_18 om ou x1 y1 th = some out → W p l e (rM 0 0) s m ([.ref o, .int a0] : List Value).toArray below meth c H locs 0 0 (MQ below (gQ D cl (some (.int out.1)) True (mW mi cI cJ cB o ad out.2 tp st fk fp ac si fr tt kd nu fa pl fo wd ci gr lm om nw rd aa kp ta nm rn gv gt rw rh lg lh ou) (mA o ad)) ([.ref o, .int a0] : List Value).toArray s 0 0 (mA o ad)) (F0 m 18 ls [.int y1, .ref o]) := by
    intro x1 y1 th ls H locs hP hS hl hf
    rw [f_X3_out_18] at hf
    refine mp_0 S hC hD hK hP hS dX3_out_18 (fun H locs hP hS => ?_)
    refine lv_aload_n hx hb dX3_out_21 rfl (lv_at hl 0 rfl) ?_
    refine mg_0 S hC hK hP dX3_out_22 ?_
    refine lv_iconst hx hb dX3_out_25 kc_i1 ?_
    refine lv_icmp_ne (tgt := 33) hx hb dX3_out_26 (by decide) (fun c1 => ?_) (fun c1 => ?_)
    · replace hf := it_f c1 hf
      refine lv_aload_n hx hb dX3_out_33 rfl (lv_at hl 0 rfl) ?_
      refine mg_31 S hC hK hP dX3_out_34 ?_
      refine lv_iload_n hx hb dX3_out_37 rfl (lv_at hl 1 rfl) ?_
      obtain ⟨g2, hf⟩ := gd_t hf
      refine ma_31 S hC hK hP (inR_vp g2) rfl dX3_out_38 ?_
      have hE := Option.some.inj hf
      subst hE
      exact gt_wi S hr hlocks trivial hP hS dX3_out_39
    · replace hf := it_t c1 hf
      refine lv_iconst hx hb dX3_out_29 kc_i0 ?_
      refine lv_goto (tgt := 39) hx hb dX3_out_30 (by decide) ?_
      have hE := Option.some.inj hf
      subst hE
      exact gt_wi S hr hlocks trivial hP hS dX3_out_39
  suffices hg : ∀ (H : Heap) (locs : List Loc), va_P D cl (mW mi cI cJ cB o ad th tp st fk fp ac si fr tt kd nu fa pl fo wd ci gr lm om nw rd aa kp ta nm rn gv gt rw rh lg lh ou) H → va_S (mA o ad) s.heap H locs → W p l e (rM 0 0) s m ([.ref o, .int a0] : List Value).toArray below meth c H locs 0 0 (MQ below (gQ D cl (some (.int out.1)) True (mW mi cI cJ cB o ad out.2 tp st fk fp ac si fr tt kd nu fa pl fo wd ci gr lm om nw rd aa kp ta nm rn gv gt rw rh lg lh ou) (mA o ad)) ([.ref o, .int a0] : List Value).toArray s 0 0 (mA o ad)) (F0 m 0 ls []) from hg s.heap [] hP va_S.rf
  clear hP
  intro H locs hP hS
  rw [f_X3_out] at hf
  refine lv_aload_n hx hb dX3_out_0 rfl (lv_at hl 0 rfl) ?_
  refine lv_iload_n hx hb dX3_out_1 rfl (lv_at hl 1 rfl) ?_
  refine lv_if_lt (tgt := 13) hx hb dX3_out_2 (by decide) (fun c1 => ?_) (fun c1 => ?_)
  · replace hf := it_t c1 hf
    refine lv_iconst hx hb dX3_out_13 kc_i1 ?_
    refine lv_goto (tgt := 18) hx hb dX3_out_14 (by decide) ?_
    exact (w18) a0 1 th ls H locs hP hS hl hf
  · replace hf := it_f c1 hf
    refine lv_iload_n hx hb dX3_out_5 rfl (lv_at hl 1 rfl) ?_
    refine lv_aload_n hx hb dX3_out_6 rfl (lv_at hl 0 rfl) ?_
    refine mg_32 S hC hK hP dX3_out_7 ?_
    refine lv_icmp_lt (tgt := 17) hx hb dX3_out_10 (by decide) (fun c2 => ?_) (fun c2 => ?_)
    · replace hf := it_t c2 hf
      refine lv_iconst hx hb dX3_out_17 kc_i0 ?_
      exact (w18) a0 0 th ls H locs hP hS hl hf
    · replace hf := it_f c2 hf
      refine lv_iconst hx hb dX3_out_13 kc_i1 ?_
      refine lv_goto (tgt := 18) hx hb dX3_out_14 (by decide) ?_
      exact (w18) a0 1 th ls H locs hP hS hl hf
set_option maxHeartbeats 4000000 in
set_option maxRecDepth 100000 in
theorem mm_X3_plain_nw  {out : (Nat → Int32)} (hC : mC cl tys mi cI cJ cB) (hD : mD o ad) (hf : f_X3_plain_nw nw = some out) : Met l yX3_plain (ws_ yX3_plain cX3_plain 2 none) (rM 0 0) (gPc D cl tys [.ref (ad 1)] (mW mi cI cJ cB o ad th tp st fk fp ac si fr tt kd nu fa pl fo wd ci gr lm om nw rd aa kp ta nm rn gv gt rw rh lg lh ou)) (gQ D cl none True (mW mi cI cJ cB o ad th tp st fk fp ac si fr tt kd nu fa pl fo wd ci gr lm om out rd aa kp ta nm rn gv gt rw rh lg lh ou) (mA o ad)) 0 0 (mA o ad) := by
  refine gGo (by decide +kernel) (Nat.le_of_ble_eq_true rfl) (fun p e s m below meth c ls S hr hlocks hK hP hl => ?_)
  have S : CallFix p m c cX3_plain 2 s _ lw_all RX3 := S
  obtain ⟨hx, hb, hml, hown, hts⟩ := id S
  have hl : lv_has ls 2 [(0, .ref (ad 1))] := hl
  have w2 : ∀ (n : Nat) , ∀ (x1 : Int32) (nw : (Nat → Int32)) (ls : Array Slot) (H : Heap) (locs : List Loc), va_P D cl (mW mi cI cJ cB o ad th tp st fk fp ac si fr tt kd nu fa pl fo wd ci gr lm om nw rd aa kp ta nm rn gv gt rw rh lg lh ou) H → va_S (mA o ad) s.heap H locs → lv_has ls 2 [(0, .ref (ad 1)), (1, .int x1)] → f_X3_plain_nw_2 n x1 nw = some out → W p l e (rM 0 0) s m ([.ref (ad 1)] : List Value).toArray below meth c H locs 0 0 (MQ below (gQ D cl none True (mW mi cI cJ cB o ad th tp st fk fp ac si fr tt kd nu fa pl fo wd ci gr lm om out rd aa kp ta nm rn gv gt rw rh lg lh ou) (mA o ad)) ([.ref (ad 1)] : List Value).toArray s 0 0 (mA o ad)) (F0 m 2 ls []) := by
    intro n
    induction n with
    | zero =>
      intro x1 nw ls H locs hP hS hl hf
      exact absurd hf (by rw [f_X3_plain_nw_2]; exact nofun)
    | succ n ih =>
      intro x1 nw ls H locs hP hS hl hf
      rw [f_X3_plain_nw_2] at hf
      refine lv_iload_n hx hb dX3_plain_2 rfl (lv_at hl 1 rfl) ?_
      refine lv_sipush hx hb dX3_plain_3 kc_s390 ?_
      refine lv_icmp_ge (tgt := 19) hx hb dX3_plain_6 (by decide) (fun c1 => ?_) (fun c1 => ?_)
      · replace hf := it_t c1 hf
        refine lv_aload_n hx hb dX3_plain_19 rfl (lv_at hl 0 rfl) ?_
        refine lv_sipush hx hb dX3_plain_20 kc_s224 ?_
        refine lv_iconst hx hb dX3_plain_23 kc_i3 ?_
        refine ms_1 S hC hD hK hP hS kv_224_390 kn_224 dX3_plain_24 (fun H locs hP hS => ?_)
        refine lv_aload_n hx hb dX3_plain_25 rfl (lv_at hl 0 rfl) ?_
        refine lv_sipush hx hb dX3_plain_26 kc_s225 ?_
        refine lv_iconst hx hb dX3_plain_29 kc_i4 ?_
        refine ms_1 S hC hD hK hP hS kv_225_390 kn_225 dX3_plain_30 (fun H locs hP hS => ?_)
        refine lv_aload_n hx hb dX3_plain_31 rfl (lv_at hl 0 rfl) ?_
        refine lv_sipush hx hb dX3_plain_32 kc_s228 ?_
        refine lv_sipush hx hb dX3_plain_35 kc_s999 ?_
        refine ms_1 S hC hD hK hP hS kv_228_390 kn_228 dX3_plain_38 (fun H locs hP hS => ?_)
        refine lv_aload_n hx hb dX3_plain_39 rfl (lv_at hl 0 rfl) ?_
        refine lv_sipush hx hb dX3_plain_40 kc_s229 ?_
        refine lv_iconst hx hb dX3_plain_43 kc_i2 ?_
        refine ms_1 S hC hD hK hP hS kv_229_390 kn_229 dX3_plain_44 (fun H locs hP hS => ?_)
        have hE := Option.some.inj hf
        subst hE
        exact gt_wv S hr hlocks trivial hP hS dX3_plain_45
      · replace hf := it_f c1 hf
        refine lv_aload_n hx hb dX3_plain_9 rfl (lv_at hl 0 rfl) ?_
        refine lv_iload_n hx hb dX3_plain_10 rfl (lv_at hl 1 rfl) ?_
        refine lv_iconst hx hb dX3_plain_11 kc_i0 ?_
        obtain ⟨g2, hf⟩ := gd_t hf
        refine ms_1 S hC hD hK hP hS (inR_vp g2) rfl dX3_plain_12 (fun H locs hP hS => ?_)
        refine lv_iinc (v := (x1 + 1)) (lv' := [(1, .int (x1 + 1)), (0, .ref (ad 1))]) hx hb dX3_plain_13 hl (k := 1) rfl rfl (by decide) rfl (fun ls hl => ?_)
        refine lv_goto (tgt := 2) hx hb dX3_plain_16 (by decide) ?_
        exact (ih) (x1 + 1) (upd nw x1.toNatClampNeg 0) ls H locs hP hS (lv_sub (l' := [(0, .ref (ad 1)), (1, .int (x1 + 1))]) hl [1, 0] rfl) hf
  suffices hg : ∀ (H : Heap) (locs : List Loc), va_P D cl (mW mi cI cJ cB o ad th tp st fk fp ac si fr tt kd nu fa pl fo wd ci gr lm om nw rd aa kp ta nm rn gv gt rw rh lg lh ou) H → va_S (mA o ad) s.heap H locs → W p l e (rM 0 0) s m ([.ref (ad 1)] : List Value).toArray below meth c H locs 0 0 (MQ below (gQ D cl none True (mW mi cI cJ cB o ad th tp st fk fp ac si fr tt kd nu fa pl fo wd ci gr lm om out rd aa kp ta nm rn gv gt rw rh lg lh ou) (mA o ad)) ([.ref (ad 1)] : List Value).toArray s 0 0 (mA o ad)) (F0 m 0 ls []) from hg s.heap [] hP va_S.rf
  clear hP
  intro H locs hP hS
  rw [f_X3_plain_nw] at hf
  refine lv_iconst hx hb dX3_plain_0 kc_i0 ?_
  refine lv_istore_n (i := 1) (lv' := [(1, .int 0), (0, .ref (ad 1))]) hx hb dX3_plain_1 rfl hl (by decide) rfl (fun ls hl => ?_)
  exact (w2 FU) 0 nw ls H locs hP hS (lv_sub (l' := [(0, .ref (ad 1)), (1, .int 0)]) hl [1, 0] rfl) hf
end
