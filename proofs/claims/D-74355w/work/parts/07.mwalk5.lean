section
variable {l : Launch} {D : va_G} {cl : List vw_C} {tys : List (ClassId × FieldType)} {mi : Nat} {cI cJ cB : ClassId} {o : Nat} {ad : Nat → Nat} {th : Int32} {tp : Int32} {st : Int32} {fk : Int32} {fp : Int32} {ac : Int32} {si : Int32} {fr : Int32} {tt : Int32} {kd : Int32} {nu : Int32} {fa : Int32} {pl : Int32} {fo : Int32} {wd : Int64} {ci : Int32} {gr : Int32} {lm : Int32} {om : Int32} {nw : (Nat → Int32)} {rd : (Nat → Int32)} {aa : (Nat → Int32)} {kp : (Nat → Int32)} {ta : (Nat → Int32)} {nm : (Nat → Int64)} {rn : (Nat → Int64)} {gv : (Nat → Int32)} {gt : (Nat → Int32)} {rw : (Nat → Int32)} {rh : (Nat → Int32)} {lg : (Nat → Int32)} {lh : (Nat → Int32)} {ou : (Nat → Int32)}
variable {p : Program} {e : Env} {R : Room} {s : State} {m : MethodId} {args : Array Value} {below : List Frame} {meth : Method} {c : Code} {H H0 : Heap} {locs : List Loc} {cells slots : Nat} {Q : State → Prop} {cc : ByteArray} {nL pc : Nat} {ls : Array Slot} {rest : List Value}
theorem hd_X3_laysGifts : yX3_laysGifts.cls = RX3 ∧ yX3_laysGifts.cls ≠ "java/lang/invoke/MethodHandle" ∧ yX3_laysGifts.cls ≠ "java/lang/invoke/VarHandle" ∧ (parseMethodDescriptor yX3_laysGifts.desc).map (fun d => d.parameters.length) = some 0 := by decide +kernel
set_option maxHeartbeats 4000000 in
set_option maxRecDepth 100000 in
theorem mm_X3_laysGifts  {out : Int32 × (Nat → Int32)} (hC : mC cl tys mi cI cJ cB) (hD : mD o ad) (hf : f_X3_laysGifts nw gv = some out) : Met l yX3_laysGifts (ws_ yX3_laysGifts cX3_laysGifts 5 (some .int)) (rM 6 132) (gPc D cl tys [.ref o] (mW mi cI cJ cB o ad th tp st fk fp ac si fr tt kd nu fa pl fo wd ci gr lm om nw rd aa kp ta nm rn gv gt rw rh lg lh ou)) (gQ D cl (some (.int out.1)) True (mW mi cI cJ cB o ad th tp st fk fp ac si fr tt kd nu fa pl fo wd ci gr lm om nw rd aa kp ta nm rn out.2 gt rw rh lg lh ou) (mA o ad)) 0 0 (mA o ad) := by
  refine gGo (by decide +kernel) (Nat.le_of_ble_eq_true rfl) (fun p e s m below meth c ls S hr hlocks hK hP hl => ?_)
  have S : CallFix p m c cX3_laysGifts 5 s _ lw_all RX3 := S
  obtain ⟨hx, hb, hml, hown, hts⟩ := id S
  have hl : lv_has ls 5 [(0, .ref o)] := hl
  have w71 : ∀ (n : Nat) (k52 : Int32 → Int32 → (Nat → Int32) → Option (Int32 × (Nat → Int32))), (∀ (b0 : Int32) (b1 : Int32) (b2 : (Nat → Int32)) (ls : Array Slot) (H : Heap) (locs : List Loc), va_P D cl (mW mi cI cJ cB o ad th tp st fk fp ac si fr tt kd nu fa pl fo wd ci gr lm om nw rd aa kp ta nm rn b2 gt rw rh lg lh ou) H → va_S (mA o ad) s.heap H locs → lv_has ls 5 [(0, .ref o), (1, .int b0), (2, .int b1)] → k52 b0 b1 b2 = some out → W p l e (rM 6 132) s m ([.ref o] : List Value).toArray below meth c H locs 0 0 (MQ below (gQ D cl (some (.int out.1)) True (mW mi cI cJ cB o ad th tp st fk fp ac si fr tt kd nu fa pl fo wd ci gr lm om nw rd aa kp ta nm rn out.2 gt rw rh lg lh ou) (mA o ad)) ([.ref o] : List Value).toArray s 0 0 (mA o ad)) (F0 m 52 ls [])) → ∀ (x1 : Int32) (x2 : Int32) (x3 : Int32) (x4 : Int32) (gv : (Nat → Int32)) (ls : Array Slot) (H : Heap) (locs : List Loc), va_P D cl (mW mi cI cJ cB o ad th tp st fk fp ac si fr tt kd nu fa pl fo wd ci gr lm om nw rd aa kp ta nm rn gv gt rw rh lg lh ou) H → va_S (mA o ad) s.heap H locs → lv_has ls 5 [(0, .ref o), (1, .int x1), (2, .int x2), (3, .int x3), (4, .int x4)] → f_X3_laysGifts_71 n k52 nw x1 x2 x3 x4 gv = some out → W p l e (rM 6 132) s m ([.ref o] : List Value).toArray below meth c H locs 0 0 (MQ below (gQ D cl (some (.int out.1)) True (mW mi cI cJ cB o ad th tp st fk fp ac si fr tt kd nu fa pl fo wd ci gr lm om nw rd aa kp ta nm rn out.2 gt rw rh lg lh ou) (mA o ad)) ([.ref o] : List Value).toArray s 0 0 (mA o ad)) (F0 m 71 ls []) := by
    intro n
    induction n with
    | zero =>
      intro k52 hk52 x1 x2 x3 x4 gv ls H locs hP hS hl hf
      exact absurd hf (by rw [f_X3_laysGifts_71]; exact nofun)
    | succ n ih =>
      intro k52 hk52 x1 x2 x3 x4 gv ls H locs hP hS hl hf
      rw [f_X3_laysGifts_71] at hf
      refine lv_iload hx hb dX3_laysGifts_71 (lv_at hl 4 rfl) ?_
      refine lv_aload_n hx hb dX3_laysGifts_73 rfl (lv_at hl 0 rfl) ?_
      refine mg_1 S hC hK hP dX3_laysGifts_74 ?_
      refine lv_sipush hx hb dX3_laysGifts_77 kc_s230 ?_
      refine ma_1 S hC hK hP kv_230_390 kn_230 dX3_laysGifts_80 ?_
      refine lv_icmp_ge (tgt := 129) hx hb dX3_laysGifts_81 (by decide) (fun c1 => ?_) (fun c1 => ?_)
      · replace hf := it_t c1 hf
        refine lv_aload_n hx hb dX3_laysGifts_129 rfl (lv_at hl 0 rfl) ?_
        refine mg_22 S hC hK hP dX3_laysGifts_130 ?_
        refine lv_sipush hx hb dX3_laysGifts_133 kc_s1024 ?_
        refine lv_iload_n hx hb dX3_laysGifts_136 rfl (lv_at hl 1 rfl) ?_
        refine lv_imul hx hb dX3_laysGifts_137 ?_
        refine lv_iload_n hx hb dX3_laysGifts_138 rfl (lv_at hl 2 rfl) ?_
        refine lv_iadd hx hb dX3_laysGifts_139 ?_
        refine lv_iload_n hx hb dX3_laysGifts_140 rfl (lv_at hl 3 rfl) ?_
        obtain ⟨g2, hf⟩ := gd_t hf
        refine ms_22 S hC hD hK hP hS (inR_vp g2) rfl dX3_laysGifts_141 (fun H locs hP hS => ?_)
        refine lv_iinc (v := (x2 + 1)) (lv' := [(2, .int (x2 + 1)), (0, .ref o), (1, .int x1), (3, .int x3), (4, .int x4)]) hx hb dX3_laysGifts_142 hl (k := 2) rfl rfl (by decide) rfl (fun ls hl => ?_)
        refine lv_goto (tgt := 52) hx hb dX3_laysGifts_145 (by decide) ?_
        exact hk52 x1 (x2 + 1) (upd gv (((nI 1024) * x1) + x2).toNatClampNeg x3) ls H locs hP hS (lv_sub (l' := [(0, .ref o), (1, .int x1), (2, .int (x2 + 1))]) hl [1, 2, 0] rfl) hf
      · replace hf := it_f c1 hf
        refine lv_iload_n hx hb dX3_laysGifts_84 rfl (lv_at hl 2 rfl) ?_
        refine lv_iload hx hb dX3_laysGifts_85 (lv_at hl 4 rfl) ?_
        refine lv_ishr hx hb dX3_laysGifts_87 ?_
        refine lv_iconst hx hb dX3_laysGifts_88 kc_i1 ?_
        refine lv_iand hx hb dX3_laysGifts_89 ?_
        refine lv_if_ne (tgt := 123) hx hb dX3_laysGifts_90 (by decide) (fun c3 => ?_) (fun c3 => ?_)
        · replace hf := it_f c3 hf
          refine lv_iinc (v := (x4 + 1)) (lv' := [(4, .int (x4 + 1)), (0, .ref o), (1, .int x1), (2, .int x2), (3, .int x3)]) hx hb dX3_laysGifts_123 hl (k := 4) rfl rfl (by decide) rfl (fun ls hl => ?_)
          refine lv_goto (tgt := 71) hx hb dX3_laysGifts_126 (by decide) ?_
          exact (ih k52 hk52) x1 x2 x3 (x4 + 1) gv ls H locs hP hS (lv_sub (l' := [(0, .ref o), (1, .int x1), (2, .int x2), (3, .int x3), (4, .int (x4 + 1))]) hl [1, 2, 3, 4, 0] rfl) hf
        · replace hf := it_t c3 hf
          refine lv_aload_n hx hb dX3_laysGifts_93 rfl (lv_at hl 0 rfl) ?_
          refine lv_iload_n hx hb dX3_laysGifts_94 rfl (lv_at hl 1 rfl) ?_
          refine lv_iload hx hb dX3_laysGifts_95 (lv_at hl 4 rfl) ?_
          obtain ⟨v4, hv4, hf⟩ := ob_s hf
          refine mc_X3_X3_canGive S hC hK hP hv4 hl.1 ⟨Nat.le_of_ble_eq_true rfl, Nat.le_of_ble_eq_true rfl⟩ (Nat.le_of_ble_eq_true rfl) ⟨Nat.zero_le _, Nat.zero_le _⟩ dX3_laysGifts_97 (fun hnv4 => ?_)
          refine lv_if_eq (tgt := 123) hx hb dX3_laysGifts_100 (by decide) (fun c5 => ?_) (fun c5 => ?_)
          · replace hf := it_t c5 hf
            refine lv_iinc (v := (x4 + 1)) (lv' := [(4, .int (x4 + 1)), (0, .ref o), (1, .int x1), (2, .int x2), (3, .int x3)]) hx hb dX3_laysGifts_123 hl (k := 4) rfl rfl (by decide) rfl (fun ls hl => ?_)
            refine lv_goto (tgt := 71) hx hb dX3_laysGifts_126 (by decide) ?_
            exact (ih k52 hk52) x1 x2 x3 (x4 + 1) gv ls H locs hP hS (lv_sub (l' := [(0, .ref o), (1, .int x1), (2, .int x2), (3, .int x3), (4, .int (x4 + 1))]) hl [1, 2, 3, 4, 0] rfl) hf
          · replace hf := it_f c5 hf
            refine lv_iload_n hx hb dX3_laysGifts_103 rfl (lv_at hl 3 rfl) ?_
            refine lv_iconst hx hb dX3_laysGifts_104 kc_i1 ?_
            refine lv_aload_n hx hb dX3_laysGifts_105 rfl (lv_at hl 0 rfl) ?_
            refine lv_iload_n hx hb dX3_laysGifts_106 rfl (lv_at hl 1 rfl) ?_
            refine lv_iconst hx hb dX3_laysGifts_107 kc_i1 ?_
            refine lv_iadd hx hb dX3_laysGifts_108 ?_
            refine lv_iload_n hx hb dX3_laysGifts_109 rfl (lv_at hl 2 rfl) ?_
            refine lv_iconst hx hb dX3_laysGifts_110 kc_i1 ?_
            refine lv_iload hx hb dX3_laysGifts_111 (lv_at hl 4 rfl) ?_
            refine lv_ishl hx hb dX3_laysGifts_113 ?_
            refine lv_ior hx hb dX3_laysGifts_114 ?_
            obtain ⟨v6, hv6, hf⟩ := ob_s hf
            refine mc_X3_X3_gave S hC hK hP hv6 hl.1 ⟨Nat.le_of_ble_eq_true rfl, Nat.le_of_ble_eq_true rfl⟩ (Nat.le_of_ble_eq_true rfl) ⟨Nat.zero_le _, Nat.zero_le _⟩ dX3_laysGifts_115 (fun _ => ?_)
            refine lv_iadd hx hb dX3_laysGifts_118 ?_
            obtain ⟨v7, hv7, hf⟩ := ob_s hf
            refine mc_X3_J6_max S hK hv7 hl.1 ⟨Nat.le_of_ble_eq_true rfl, Nat.le_of_ble_eq_true rfl⟩ (Nat.le_of_ble_eq_true rfl) ⟨Nat.zero_le _, Nat.zero_le _⟩ dX3_laysGifts_119 (fun _ => ?_)
            refine lv_istore_n (i := 3) (lv' := [(3, .int v7), (0, .ref o), (1, .int x1), (2, .int x2), (4, .int x4)]) hx hb dX3_laysGifts_122 rfl hl (by decide) rfl (fun ls hl => ?_)
            refine lv_iinc (v := (x4 + 1)) (lv' := [(4, .int (x4 + 1)), (3, .int v7), (0, .ref o), (1, .int x1), (2, .int x2)]) hx hb dX3_laysGifts_123 hl (k := 4) rfl rfl (by decide) rfl (fun ls hl => ?_)
            refine lv_goto (tgt := 71) hx hb dX3_laysGifts_126 (by decide) ?_
            exact (ih k52 hk52) x1 x2 v7 (x4 + 1) gv ls H locs hP hS (lv_sub (l' := [(0, .ref o), (1, .int x1), (2, .int x2), (3, .int v7), (4, .int (x4 + 1))]) hl [2, 3, 4, 1, 0] rfl) hf
  have w52 : ∀ (n : Nat) (k46 : Int32 → (Nat → Int32) → Option (Int32 × (Nat → Int32))), (∀ (b0 : Int32) (b1 : (Nat → Int32)) (ls : Array Slot) (H : Heap) (locs : List Loc), va_P D cl (mW mi cI cJ cB o ad th tp st fk fp ac si fr tt kd nu fa pl fo wd ci gr lm om nw rd aa kp ta nm rn b1 gt rw rh lg lh ou) H → va_S (mA o ad) s.heap H locs → lv_has ls 5 [(0, .ref o), (1, .int b0)] → k46 b0 b1 = some out → W p l e (rM 6 132) s m ([.ref o] : List Value).toArray below meth c H locs 0 0 (MQ below (gQ D cl (some (.int out.1)) True (mW mi cI cJ cB o ad th tp st fk fp ac si fr tt kd nu fa pl fo wd ci gr lm om nw rd aa kp ta nm rn out.2 gt rw rh lg lh ou) (mA o ad)) ([.ref o] : List Value).toArray s 0 0 (mA o ad)) (F0 m 46 ls [])) → ∀ (x1 : Int32) (x2 : Int32) (gv : (Nat → Int32)) (ls : Array Slot) (H : Heap) (locs : List Loc), va_P D cl (mW mi cI cJ cB o ad th tp st fk fp ac si fr tt kd nu fa pl fo wd ci gr lm om nw rd aa kp ta nm rn gv gt rw rh lg lh ou) H → va_S (mA o ad) s.heap H locs → lv_has ls 5 [(0, .ref o), (1, .int x1), (2, .int x2)] → f_X3_laysGifts_52 n k46 nw x1 x2 gv = some out → W p l e (rM 6 132) s m ([.ref o] : List Value).toArray below meth c H locs 0 0 (MQ below (gQ D cl (some (.int out.1)) True (mW mi cI cJ cB o ad th tp st fk fp ac si fr tt kd nu fa pl fo wd ci gr lm om nw rd aa kp ta nm rn out.2 gt rw rh lg lh ou) (mA o ad)) ([.ref o] : List Value).toArray s 0 0 (mA o ad)) (F0 m 52 ls []) := by
    intro n
    induction n with
    | zero =>
      intro k46 hk46 x1 x2 gv ls H locs hP hS hl hf
      exact absurd hf (by rw [f_X3_laysGifts_52]; exact nofun)
    | succ n ih =>
      intro k46 hk46 x1 x2 gv ls H locs hP hS hl hf
      rw [f_X3_laysGifts_52] at hf
      refine lv_iload_n hx hb dX3_laysGifts_52 rfl (lv_at hl 2 rfl) ?_
      refine lv_sipush hx hb dX3_laysGifts_53 kc_s1024 ?_
      refine lv_icmp_ge (tgt := 148) hx hb dX3_laysGifts_56 (by decide) (fun c1 => ?_) (fun c1 => ?_)
      · replace hf := it_t c1 hf
        refine lv_iinc (v := (x1 + (-1))) (lv' := [(1, .int (x1 + (-1))), (0, .ref o), (2, .int x2)]) hx hb dX3_laysGifts_148 hl (k := 1) rfl rfl (by decide) rfl (fun ls hl => ?_)
        refine lv_goto (tgt := 46) hx hb dX3_laysGifts_151 (by decide) ?_
        exact hk46 (x1 + (-1)) gv ls H locs hP hS (lv_sub (l' := [(0, .ref o), (1, .int (x1 + (-1)))]) hl [1, 0] rfl) hf
      · replace hf := it_f c1 hf
        refine lv_aload_n hx hb dX3_laysGifts_59 rfl (lv_at hl 0 rfl) ?_
        refine lv_iload_n hx hb dX3_laysGifts_60 rfl (lv_at hl 1 rfl) ?_
        refine lv_iconst hx hb dX3_laysGifts_61 kc_i1 ?_
        refine lv_iadd hx hb dX3_laysGifts_62 ?_
        refine lv_iload_n hx hb dX3_laysGifts_63 rfl (lv_at hl 2 rfl) ?_
        obtain ⟨v2, hv2, hf⟩ := ob_s hf
        refine mc_X3_X3_gave S hC hK hP hv2 hl.1 ⟨Nat.le_of_ble_eq_true rfl, Nat.le_of_ble_eq_true rfl⟩ (Nat.le_of_ble_eq_true rfl) ⟨Nat.zero_le _, Nat.zero_le _⟩ dX3_laysGifts_64 (fun _ => ?_)
        refine lv_istore_n (i := 3) (lv' := [(3, .int v2), (0, .ref o), (1, .int x1), (2, .int x2)]) hx hb dX3_laysGifts_67 rfl hl (by decide) rfl (fun ls hl => ?_)
        refine lv_iconst hx hb dX3_laysGifts_68 kc_i0 ?_
        refine lv_istore (lv' := [(4, .int 0), (3, .int v2), (0, .ref o), (1, .int x1), (2, .int x2)]) hx hb dX3_laysGifts_69 hl (by decide) rfl (fun ls hl => ?_)
        exact (w71 FU (f_X3_laysGifts_52 n k46 nw) (ih k46 hk46)) x1 x2 v2 0 gv ls H locs hP hS (lv_sub (l' := [(0, .ref o), (1, .int x1), (2, .int x2), (3, .int v2), (4, .int 0)]) hl [2, 3, 4, 1, 0] rfl) hf
  have w46 : ∀ (n : Nat) , ∀ (x1 : Int32) (gv : (Nat → Int32)) (ls : Array Slot) (H : Heap) (locs : List Loc), va_P D cl (mW mi cI cJ cB o ad th tp st fk fp ac si fr tt kd nu fa pl fo wd ci gr lm om nw rd aa kp ta nm rn gv gt rw rh lg lh ou) H → va_S (mA o ad) s.heap H locs → lv_has ls 5 [(0, .ref o), (1, .int x1)] → f_X3_laysGifts_46 n nw x1 gv = some out → W p l e (rM 6 132) s m ([.ref o] : List Value).toArray below meth c H locs 0 0 (MQ below (gQ D cl (some (.int out.1)) True (mW mi cI cJ cB o ad th tp st fk fp ac si fr tt kd nu fa pl fo wd ci gr lm om nw rd aa kp ta nm rn out.2 gt rw rh lg lh ou) (mA o ad)) ([.ref o] : List Value).toArray s 0 0 (mA o ad)) (F0 m 46 ls []) := by
    intro n
    induction n with
    | zero =>
      intro x1 gv ls H locs hP hS hl hf
      exact absurd hf (by rw [f_X3_laysGifts_46]; exact nofun)
    | succ n ih =>
      intro x1 gv ls H locs hP hS hl hf
      rw [f_X3_laysGifts_46] at hf
      refine lv_iload_n hx hb dX3_laysGifts_46 rfl (lv_at hl 1 rfl) ?_
      refine lv_if_lt (tgt := 154) hx hb dX3_laysGifts_47 (by decide) (fun c1 => ?_) (fun c1 => ?_)
      · replace hf := it_t c1 hf
        refine lv_aload_n hx hb dX3_laysGifts_154 rfl (lv_at hl 0 rfl) ?_
        refine lv_iconst hx hb dX3_laysGifts_155 kc_i0 ?_
        refine lv_iconst hx hb dX3_laysGifts_156 kc_i0 ?_
        obtain ⟨v2, hv2, hf⟩ := ob_s hf
        refine mc_X3_X3_gave S hC hK hP hv2 hl.1 ⟨Nat.le_of_ble_eq_true rfl, Nat.le_of_ble_eq_true rfl⟩ (Nat.le_of_ble_eq_true rfl) ⟨Nat.zero_le _, Nat.zero_le _⟩ dX3_laysGifts_157 (fun _ => ?_)
        have hE := Option.some.inj hf
        subst hE
        exact gt_wi S hr hlocks trivial hP hS dX3_laysGifts_160
      · replace hf := it_f c1 hf
        refine lv_iconst hx hb dX3_laysGifts_50 kc_i0 ?_
        refine lv_istore_n (i := 2) (lv' := [(2, .int 0), (0, .ref o), (1, .int x1)]) hx hb dX3_laysGifts_51 rfl hl (by decide) rfl (fun ls hl => ?_)
        exact (w52 FU (f_X3_laysGifts_46 n nw) (ih)) x1 0 gv ls H locs hP hS (lv_sub (l' := [(0, .ref o), (1, .int x1), (2, .int 0)]) hl [1, 2, 0] rfl) hf
  have w2 : ∀ (n : Nat) , ∀ (x1 : Int32) (gv : (Nat → Int32)) (ls : Array Slot) (H : Heap) (locs : List Loc), va_P D cl (mW mi cI cJ cB o ad th tp st fk fp ac si fr tt kd nu fa pl fo wd ci gr lm om nw rd aa kp ta nm rn gv gt rw rh lg lh ou) H → va_S (mA o ad) s.heap H locs → lv_has ls 5 [(0, .ref o), (1, .int x1)] → f_X3_laysGifts_2 n nw x1 gv = some out → W p l e (rM 6 132) s m ([.ref o] : List Value).toArray below meth c H locs 0 0 (MQ below (gQ D cl (some (.int out.1)) True (mW mi cI cJ cB o ad th tp st fk fp ac si fr tt kd nu fa pl fo wd ci gr lm om nw rd aa kp ta nm rn out.2 gt rw rh lg lh ou) (mA o ad)) ([.ref o] : List Value).toArray s 0 0 (mA o ad)) (F0 m 2 ls []) := by
    intro n
    induction n with
    | zero =>
      intro x1 gv ls H locs hP hS hl hf
      exact absurd hf (by rw [f_X3_laysGifts_2]; exact nofun)
    | succ n ih =>
      intro x1 gv ls H locs hP hS hl hf
      rw [f_X3_laysGifts_2] at hf
      refine lv_iload_n hx hb dX3_laysGifts_2 rfl (lv_at hl 1 rfl) ?_
      refine lv_sipush hx hb dX3_laysGifts_3 kc_s1024 ?_
      refine lv_icmp_ge (tgt := 35) hx hb dX3_laysGifts_6 (by decide) (fun c1 => ?_) (fun c1 => ?_)
      · replace hf := it_t c1 hf
        refine lv_aload_n hx hb dX3_laysGifts_35 rfl (lv_at hl 0 rfl) ?_
        refine mg_1 S hC hK hP dX3_laysGifts_36 ?_
        refine lv_sipush hx hb dX3_laysGifts_39 kc_s231 ?_
        refine ma_1 S hC hK hP kv_231_390 kn_231 dX3_laysGifts_42 ?_
        refine lv_iconst hx hb dX3_laysGifts_43 kc_i1 ?_
        refine lv_isub hx hb dX3_laysGifts_44 ?_
        refine lv_istore_n (i := 1) (lv' := [(1, .int ((nw 231) - 1)), (0, .ref o)]) hx hb dX3_laysGifts_45 rfl hl (by decide) rfl (fun ls hl => ?_)
        exact (w46 FU) ((nw 231) - 1) gv ls H locs hP hS (lv_sub (l' := [(0, .ref o), (1, .int ((nw 231) - 1))]) hl [1, 0] rfl) hf
      · replace hf := it_f c1 hf
        refine lv_aload_n hx hb dX3_laysGifts_9 rfl (lv_at hl 0 rfl) ?_
        refine mg_22 S hC hK hP dX3_laysGifts_10 ?_
        refine lv_sipush hx hb dX3_laysGifts_13 kc_s1024 ?_
        refine lv_aload_n hx hb dX3_laysGifts_16 rfl (lv_at hl 0 rfl) ?_
        refine mg_1 S hC hK hP dX3_laysGifts_17 ?_
        refine lv_sipush hx hb dX3_laysGifts_20 kc_s231 ?_
        refine ma_1 S hC hK hP kv_231_390 kn_231 dX3_laysGifts_23 ?_
        refine lv_imul hx hb dX3_laysGifts_24 ?_
        refine lv_iload_n hx hb dX3_laysGifts_25 rfl (lv_at hl 1 rfl) ?_
        refine lv_iadd hx hb dX3_laysGifts_26 ?_
        refine lv_iconst hx hb dX3_laysGifts_27 kc_i0 ?_
        obtain ⟨g2, hf⟩ := gd_t hf
        refine ms_22 S hC hD hK hP hS (inR_vp g2) rfl dX3_laysGifts_28 (fun H locs hP hS => ?_)
        refine lv_iinc (v := (x1 + 1)) (lv' := [(1, .int (x1 + 1)), (0, .ref o)]) hx hb dX3_laysGifts_29 hl (k := 1) rfl rfl (by decide) rfl (fun ls hl => ?_)
        refine lv_goto (tgt := 2) hx hb dX3_laysGifts_32 (by decide) ?_
        exact (ih) (x1 + 1) (upd gv (((nI 1024) * (nw 231)) + x1).toNatClampNeg 0) ls H locs hP hS (lv_sub (l' := [(0, .ref o), (1, .int (x1 + 1))]) hl [1, 0] rfl) hf
  suffices hg : ∀ (H : Heap) (locs : List Loc), va_P D cl (mW mi cI cJ cB o ad th tp st fk fp ac si fr tt kd nu fa pl fo wd ci gr lm om nw rd aa kp ta nm rn gv gt rw rh lg lh ou) H → va_S (mA o ad) s.heap H locs → W p l e (rM 6 132) s m ([.ref o] : List Value).toArray below meth c H locs 0 0 (MQ below (gQ D cl (some (.int out.1)) True (mW mi cI cJ cB o ad th tp st fk fp ac si fr tt kd nu fa pl fo wd ci gr lm om nw rd aa kp ta nm rn out.2 gt rw rh lg lh ou) (mA o ad)) ([.ref o] : List Value).toArray s 0 0 (mA o ad)) (F0 m 0 ls []) from hg s.heap [] hP va_S.rf
  clear hP
  intro H locs hP hS
  rw [f_X3_laysGifts] at hf
  refine lv_iconst hx hb dX3_laysGifts_0 kc_i0 ?_
  refine lv_istore_n (i := 1) (lv' := [(1, .int 0), (0, .ref o)]) hx hb dX3_laysGifts_1 rfl hl (by decide) rfl (fun ls hl => ?_)
  exact (w2 FU) 0 gv ls H locs hP hS (lv_sub (l' := [(0, .ref o), (1, .int 0)]) hl [1, 0] rfl) hf
set_option maxRecDepth 100000 in
theorem mc_X3_X3_laysGifts  {out : Int32 × (Nat → Int32)} (S : CallFix p m c cc nL s args lw_all RX3) (hC : mC cl tys mi cI cJ cB) (hD : mD o ad) (hK : va_K D cl tys s) (hP : va_P D cl (mW mi cI cJ cB o ad th tp st fk fp ac si fr tt kd nu fa pl fo wd ci gr lm om nw rd aa kp ta nm rn gv gt rw rh lg lh ou) H) (hS : va_S (mA o ad) H0 H locs) (hf : f_X3_laysGifts nw gv = some out) (hsz : ls.size = nL) (hR : 6 + 1 ≤ R.frames ∧ 8 + (5 + 11) + 132 ≤ R.locals) (hW : (rest.map fun v => v.category).sum ≤ 8) (hcs : cells ≤ R.cells ∧ slots ≤ R.slots) (hdg : decode cc pc = .ok (.invokevirtual 346, 3)) (kk : ∀ (H1 : Heap) (locs1 : List Loc), True → va_P D cl (mW mi cI cJ cB o ad th tp st fk fp ac si fr tt kd nu fa pl fo wd ci gr lm om nw rd aa kp ta nm rn out.2 gt rw rh lg lh ou) H1 → va_S (mA o ad) H0 H1 locs1 → W p l e R s m args below meth c H1 locs1 cells slots Q (F0 m (pc + 3) ls (.int out.1 :: rest))) : W p l e R s m args below meth c H locs cells slots Q (F0 m pc ls (.ref o :: rest)) :=
  gc_Vw (As := []) S (mm_X3_laysGifts hC hD hf) (cwV 0 S.2.2.2.2 (lw_V q2471 q2473 qs153 q189 q2474) rfl rfl rfl hd_X3_laysGifts hR) (gPreV hK hP hC.1 (q0 := 0) rfl) rfl hsz rfl hW hdg hcs hS kk
theorem hd_X3_most : yX3_most.cls = RX3 ∧ yX3_most.cls ≠ "java/lang/invoke/MethodHandle" ∧ yX3_most.cls ≠ "java/lang/invoke/VarHandle" ∧ (parseMethodDescriptor yX3_most.desc).map (fun d => d.parameters.length) = some 0 := by decide +kernel
set_option maxHeartbeats 4000000 in
set_option maxRecDepth 100000 in
theorem mm_X3_most  {out : Int32 × Int32 × Int32 × (Nat → Int32)} (hC : mC cl tys mi cI cJ cB) (hD : mD o ad) (hf : f_X3_most nw th st gv = some out) : Met l yX3_most (ws_ yX3_most cX3_most 1 (some .int)) (rM 7 156) (gPc D cl tys [.ref o] (mW mi cI cJ cB o ad th tp st fk fp ac si fr tt kd nu fa pl fo wd ci gr lm om nw rd aa kp ta nm rn gv gt rw rh lg lh ou)) (gQ D cl (some (.int out.1)) True (mW mi cI cJ cB o ad out.2.1 tp out.2.2.1 fk fp ac si fr tt kd nu fa pl fo wd ci gr lm om nw rd aa kp ta nm rn out.2.2.2 gt rw rh lg lh ou) (mA o ad)) 0 0 (mA o ad) := by
  refine gGo (by decide +kernel) (Nat.le_of_ble_eq_true rfl) (fun p e s m below meth c ls S hr hlocks hK hP hl => ?_)
  have S : CallFix p m c cX3_most 1 s _ lw_all RX3 := S
  obtain ⟨hx, hb, hml, hown, hts⟩ := id S
  have hl : lv_has ls 1 [(0, .ref o)] := hl
  suffices hg : ∀ (H : Heap) (locs : List Loc), va_P D cl (mW mi cI cJ cB o ad th tp st fk fp ac si fr tt kd nu fa pl fo wd ci gr lm om nw rd aa kp ta nm rn gv gt rw rh lg lh ou) H → va_S (mA o ad) s.heap H locs → W p l e (rM 7 156) s m ([.ref o] : List Value).toArray below meth c H locs 0 0 (MQ below (gQ D cl (some (.int out.1)) True (mW mi cI cJ cB o ad out.2.1 tp out.2.2.1 fk fp ac si fr tt kd nu fa pl fo wd ci gr lm om nw rd aa kp ta nm rn out.2.2.2 gt rw rh lg lh ou) (mA o ad)) ([.ref o] : List Value).toArray s 0 0 (mA o ad)) (F0 m 0 ls []) from hg s.heap [] hP va_S.rf
  clear hP
  intro H locs hP hS
  rw [f_X3_most] at hf
  refine lv_aload_n hx hb dX3_most_0 rfl (lv_at hl 0 rfl) ?_
  refine lv_aload_n hx hb dX3_most_1 rfl (lv_at hl 0 rfl) ?_
  obtain ⟨v1, hv1, hf⟩ := ob_s hf
  refine mc_X3_X3_laysGifts S hC hD hK hP hS hv1 hl.1 ⟨Nat.le_of_ble_eq_true rfl, Nat.le_of_ble_eq_true rfl⟩ (Nat.le_of_ble_eq_true rfl) ⟨Nat.zero_le _, Nat.zero_le _⟩ dX3_most_2 (fun H locs _ hP hS => ?_)
  obtain ⟨v2, hv2, hf⟩ := ob_s hf
  refine mc_X3_X3_gives S hC hD hK hP hS hv2 hl.1 ⟨Nat.le_of_ble_eq_true rfl, Nat.le_of_ble_eq_true rfl⟩ (Nat.le_of_ble_eq_true rfl) ⟨Nat.zero_le _, Nat.zero_le _⟩ dX3_most_5 (fun H locs _ hP hS => ?_)
  have hE := Option.some.inj hf
  subst hE
  exact gt_wi S hr hlocks trivial hP hS dX3_most_8
theorem hd_X3_gift : yX3_gift.cls = RX3 ∧ yX3_gift.cls ≠ "java/lang/invoke/MethodHandle" ∧ yX3_gift.cls ≠ "java/lang/invoke/VarHandle" ∧ (parseMethodDescriptor yX3_gift.desc).map (fun d => d.parameters.length) = some 1 := by decide +kernel
set_option maxHeartbeats 4000000 in
set_option maxRecDepth 100000 in
theorem mm_X3_gift {a0 : Int32} {out : Int32 × Int32 × Int32 × (Nat → Int32)} (hC : mC cl tys mi cI cJ cB) (hD : mD o ad) (hf : f_X3_gift nw th st gv a0 = some out) : Met l yX3_gift (ws_ yX3_gift cX3_gift 6 (some .int)) (rM 7 156) (gPc D cl tys [.ref o, .int a0] (mW mi cI cJ cB o ad th tp st fk fp ac si fr tt kd nu fa pl fo wd ci gr lm om nw rd aa kp ta nm rn gv gt rw rh lg lh ou)) (gQ D cl (some (.int out.1)) True (mW mi cI cJ cB o ad out.2.1 tp out.2.2.1 fk fp ac si fr tt kd nu fa pl fo wd ci gr lm om nw rd aa kp ta nm rn out.2.2.2 gt rw rh lg lh ou) (mA o ad)) 0 0 (mA o ad) := by
  refine gGo (by decide +kernel) (Nat.le_of_ble_eq_true rfl) (fun p e s m below meth c ls S hr hlocks hK hP hl => ?_)
  have S : CallFix p m c cX3_gift 6 s _ lw_all RX3 := S
  obtain ⟨hx, hb, hml, hown, hts⟩ := id S
  have hl : lv_has ls 6 [(0, .ref o), (1, .int a0)] := hl
  have w110 : ∀ (k26 : Int32 → Int32 → Int32 → Int32 → Int32 → Int32 → (Nat → Int32) → Option (Int32 × Int32 × Int32 × (Nat → Int32))), (∀ (b0 : Int32) (b1 : Int32) (b2 : Int32) (b3 : Int32) (b4 : Int32) (b5 : Int32) (b6 : (Nat → Int32)) (ls : Array Slot) (H : Heap) (locs : List Loc), va_P D cl (mW mi cI cJ cB o ad b4 tp b5 fk fp ac si fr tt kd nu fa pl fo wd ci gr lm om nw rd aa kp ta nm rn b6 gt rw rh lg lh ou) H → va_S (mA o ad) s.heap H locs → lv_has ls 6 [(0, .ref o), (1, .int b0), (2, .int b1), (3, .int b2), (4, .int b3)] → k26 b0 b1 b2 b3 b4 b5 b6 = some out → W p l e (rM 7 156) s m ([.ref o, .int a0] : List Value).toArray below meth c H locs 0 0 (MQ below (gQ D cl (some (.int out.1)) True (mW mi cI cJ cB o ad out.2.1 tp out.2.2.1 fk fp ac si fr tt kd nu fa pl fo wd ci gr lm om nw rd aa kp ta nm rn out.2.2.2 gt rw rh lg lh ou) (mA o ad)) ([.ref o, .int a0] : List Value).toArray s 0 0 (mA o ad)) (F0 m 26 ls [])) → ∀ (x1 : Int32) (x2 : Int32) (x3 : Int32) (x4 : Int32) (th : Int32) (st : Int32) (gv : (Nat → Int32)) (ls : Array Slot) (H : Heap) (locs : List Loc), va_P D cl (mW mi cI cJ cB o ad th tp st fk fp ac si fr tt kd nu fa pl fo wd ci gr lm om nw rd aa kp ta nm rn gv gt rw rh lg lh ou) H → va_S (mA o ad) s.heap H locs → lv_has ls 6 [(0, .ref o), (1, .int x1), (2, .int x2), (3, .int x3), (4, .int x4)] → f_X3_gift_110 k26 nw x1 x2 x3 x4 th st gv = some out → W p l e (rM 7 156) s m ([.ref o, .int a0] : List Value).toArray below meth c H locs 0 0 (MQ below (gQ D cl (some (.int out.1)) True (mW mi cI cJ cB o ad out.2.1 tp out.2.2.1 fk fp ac si fr tt kd nu fa pl fo wd ci gr lm om nw rd aa kp ta nm rn out.2.2.2 gt rw rh lg lh ou) (mA o ad)) ([.ref o, .int a0] : List Value).toArray s 0 0 (mA o ad)) (F0 m 110 ls []) := by
    intro k26 hk26 x1 x2 x3 x4 th st gv ls H locs hP hS hl hf
    rw [f_X3_gift_110] at hf
    refine lv_iload_n hx hb dX3_gift_110 rfl (lv_at hl 2 rfl) ?_
    refine lv_iload_n hx hb dX3_gift_111 rfl (lv_at hl 3 rfl) ?_
    refine lv_iconst hx hb dX3_gift_112 kc_im1 ?_
    refine lv_icmp_ne (tgt := 120) hx hb dX3_gift_113 (by decide) (fun c1 => ?_) (fun c1 => ?_)
    · replace hf := it_f c1 hf
      refine lv_iconst hx hb dX3_gift_120 kc_i1 ?_
      refine lv_iload_n hx hb dX3_gift_121 rfl (lv_at hl 3 rfl) ?_
      refine lv_ishl hx hb dX3_gift_122 ?_
      refine lv_ior hx hb dX3_gift_123 ?_
      refine lv_istore_n (i := 2) (lv' := [(2, .int (x2 ||| (1 <<< (x3 &&& 31)))), (0, .ref o), (1, .int x1), (3, .int x3), (4, .int x4)]) hx hb dX3_gift_124 rfl hl (by decide) rfl (fun ls hl => ?_)
      refine lv_iinc (v := (x4 + 1)) (lv' := [(4, .int (x4 + 1)), (2, .int (x2 ||| (1 <<< (x3 &&& 31)))), (0, .ref o), (1, .int x1), (3, .int x3)]) hx hb dX3_gift_125 hl (k := 4) rfl rfl (by decide) rfl (fun ls hl => ?_)
      refine lv_goto (tgt := 26) hx hb dX3_gift_128 (by decide) ?_
      exact hk26 x1 (x2 ||| (1 <<< (x3 &&& 31))) x3 (x4 + 1) th st gv ls H locs hP hS (lv_sub (l' := [(0, .ref o), (1, .int x1), (2, .int (x2 ||| (1 <<< (x3 &&& 31)))), (3, .int x3), (4, .int (x4 + 1))]) hl [2, 3, 1, 4, 0] rfl) hf
    · replace hf := it_t c1 hf
      refine lv_iconst hx hb dX3_gift_116 kc_i0 ?_
      refine lv_goto (tgt := 123) hx hb dX3_gift_117 (by decide) ?_
      refine lv_ior hx hb dX3_gift_123 ?_
      refine lv_istore_n (i := 2) (lv' := [(2, .int (x2 ||| 0)), (0, .ref o), (1, .int x1), (3, .int x3), (4, .int x4)]) hx hb dX3_gift_124 rfl hl (by decide) rfl (fun ls hl => ?_)
      refine lv_iinc (v := (x4 + 1)) (lv' := [(4, .int (x4 + 1)), (2, .int (x2 ||| 0)), (0, .ref o), (1, .int x1), (3, .int x3)]) hx hb dX3_gift_125 hl (k := 4) rfl rfl (by decide) rfl (fun ls hl => ?_)
      refine lv_goto (tgt := 26) hx hb dX3_gift_128 (by decide) ?_
      exact hk26 x1 (x2 ||| 0) x3 (x4 + 1) th st gv ls H locs hP hS (lv_sub (l' := [(0, .ref o), (1, .int x1), (2, .int (x2 ||| 0)), (3, .int x3), (4, .int (x4 + 1))]) hl [2, 3, 1, 4, 0] rfl) hf
  have w37 : ∀ (n : Nat) (k26 : Int32 → Int32 → Int32 → Int32 → Int32 → Int32 → (Nat → Int32) → Option (Int32 × Int32 × Int32 × (Nat → Int32))), (∀ (b0 : Int32) (b1 : Int32) (b2 : Int32) (b3 : Int32) (b4 : Int32) (b5 : Int32) (b6 : (Nat → Int32)) (ls : Array Slot) (H : Heap) (locs : List Loc), va_P D cl (mW mi cI cJ cB o ad b4 tp b5 fk fp ac si fr tt kd nu fa pl fo wd ci gr lm om nw rd aa kp ta nm rn b6 gt rw rh lg lh ou) H → va_S (mA o ad) s.heap H locs → lv_has ls 6 [(0, .ref o), (1, .int b0), (2, .int b1), (3, .int b2), (4, .int b3)] → k26 b0 b1 b2 b3 b4 b5 b6 = some out → W p l e (rM 7 156) s m ([.ref o, .int a0] : List Value).toArray below meth c H locs 0 0 (MQ below (gQ D cl (some (.int out.1)) True (mW mi cI cJ cB o ad out.2.1 tp out.2.2.1 fk fp ac si fr tt kd nu fa pl fo wd ci gr lm om nw rd aa kp ta nm rn out.2.2.2 gt rw rh lg lh ou) (mA o ad)) ([.ref o, .int a0] : List Value).toArray s 0 0 (mA o ad)) (F0 m 26 ls [])) → ∀ (x1 : Int32) (x2 : Int32) (x3 : Int32) (x4 : Int32) (x5 : Int32) (th : Int32) (st : Int32) (gv : (Nat → Int32)) (ls : Array Slot) (H : Heap) (locs : List Loc), va_P D cl (mW mi cI cJ cB o ad th tp st fk fp ac si fr tt kd nu fa pl fo wd ci gr lm om nw rd aa kp ta nm rn gv gt rw rh lg lh ou) H → va_S (mA o ad) s.heap H locs → lv_has ls 6 [(0, .ref o), (1, .int x1), (2, .int x2), (3, .int x3), (4, .int x4), (5, .int x5)] → f_X3_gift_37 n k26 nw x1 x2 x3 x4 x5 th st gv = some out → W p l e (rM 7 156) s m ([.ref o, .int a0] : List Value).toArray below meth c H locs 0 0 (MQ below (gQ D cl (some (.int out.1)) True (mW mi cI cJ cB o ad out.2.1 tp out.2.2.1 fk fp ac si fr tt kd nu fa pl fo wd ci gr lm om nw rd aa kp ta nm rn out.2.2.2 gt rw rh lg lh ou) (mA o ad)) ([.ref o, .int a0] : List Value).toArray s 0 0 (mA o ad)) (F0 m 37 ls []) := by
    intro n
    induction n with
    | zero =>
      intro k26 hk26 x1 x2 x3 x4 x5 th st gv ls H locs hP hS hl hf
      exact absurd hf (by rw [f_X3_gift_37]; exact nofun)
    | succ n ih =>
      intro k26 hk26 x1 x2 x3 x4 x5 th st gv ls H locs hP hS hl hf
      rw [f_X3_gift_37] at hf
      refine lv_iload hx hb dX3_gift_37 (lv_at hl 5 rfl) ?_
      refine lv_aload_n hx hb dX3_gift_39 rfl (lv_at hl 0 rfl) ?_
      refine mg_1 S hC hK hP dX3_gift_40 ?_
      refine lv_sipush hx hb dX3_gift_43 kc_s230 ?_
      refine ma_1 S hC hK hP kv_230_390 kn_230 dX3_gift_46 ?_
      refine lv_icmp_ge (tgt := 110) hx hb dX3_gift_47 (by decide) (fun c1 => ?_) (fun c1 => ?_)
      · replace hf := it_t c1 hf
        exact (w110 k26 hk26) x1 x2 x3 x4 th st gv ls H locs hP hS (lv_sub (l' := [(0, .ref o), (1, .int x1), (2, .int x2), (3, .int x3), (4, .int x4)]) hl [0, 1, 2, 3, 4] rfl) hf
      · replace hf := it_f c1 hf
        refine lv_iload_n hx hb dX3_gift_50 rfl (lv_at hl 3 rfl) ?_
        refine lv_iconst hx hb dX3_gift_51 kc_im1 ?_
        refine lv_icmp_ne (tgt := 110) hx hb dX3_gift_52 (by decide) (fun c2 => ?_) (fun c2 => ?_)
        · replace hf := it_f c2 hf
          exact (w110 k26 hk26) x1 x2 x3 x4 th st gv ls H locs hP hS (lv_sub (l' := [(0, .ref o), (1, .int x1), (2, .int x2), (3, .int x3), (4, .int x4)]) hl [0, 1, 2, 3, 4] rfl) hf
        · replace hf := it_t c2 hf
          refine lv_iload_n hx hb dX3_gift_55 rfl (lv_at hl 2 rfl) ?_
          refine lv_iload hx hb dX3_gift_56 (lv_at hl 5 rfl) ?_
          refine lv_ishr hx hb dX3_gift_58 ?_
          refine lv_iconst hx hb dX3_gift_59 kc_i1 ?_
          refine lv_iand hx hb dX3_gift_60 ?_
          refine lv_if_ne (tgt := 104) hx hb dX3_gift_61 (by decide) (fun c3 => ?_) (fun c3 => ?_)
          · replace hf := it_f c3 hf
            refine lv_iinc (v := (x5 + 1)) (lv' := [(5, .int (x5 + 1)), (0, .ref o), (1, .int x1), (2, .int x2), (3, .int x3), (4, .int x4)]) hx hb dX3_gift_104 hl (k := 5) rfl rfl (by decide) rfl (fun ls hl => ?_)
            refine lv_goto (tgt := 37) hx hb dX3_gift_107 (by decide) ?_
            exact (ih k26 hk26) x1 x2 x3 x4 (x5 + 1) th st gv ls H locs hP hS (lv_sub (l' := [(0, .ref o), (1, .int x1), (2, .int x2), (3, .int x3), (4, .int x4), (5, .int (x5 + 1))]) hl [1, 2, 3, 4, 5, 0] rfl) hf
          · replace hf := it_t c3 hf
            refine lv_aload_n hx hb dX3_gift_64 rfl (lv_at hl 0 rfl) ?_
            refine lv_iload hx hb dX3_gift_65 (lv_at hl 4 rfl) ?_
            refine lv_iload hx hb dX3_gift_67 (lv_at hl 5 rfl) ?_
            obtain ⟨v4, hv4, hf⟩ := ob_s hf
            refine mc_X3_X3_canGive S hC hK hP hv4 hl.1 ⟨Nat.le_of_ble_eq_true rfl, Nat.le_of_ble_eq_true rfl⟩ (Nat.le_of_ble_eq_true rfl) ⟨Nat.zero_le _, Nat.zero_le _⟩ dX3_gift_69 (fun hnv4 => ?_)
            refine lv_if_eq (tgt := 104) hx hb dX3_gift_72 (by decide) (fun c5 => ?_) (fun c5 => ?_)
            · replace hf := it_t c5 hf
              refine lv_iinc (v := (x5 + 1)) (lv' := [(5, .int (x5 + 1)), (0, .ref o), (1, .int x1), (2, .int x2), (3, .int x3), (4, .int x4)]) hx hb dX3_gift_104 hl (k := 5) rfl rfl (by decide) rfl (fun ls hl => ?_)
              refine lv_goto (tgt := 37) hx hb dX3_gift_107 (by decide) ?_
              exact (ih k26 hk26) x1 x2 x3 x4 (x5 + 1) th st gv ls H locs hP hS (lv_sub (l' := [(0, .ref o), (1, .int x1), (2, .int x2), (3, .int x3), (4, .int x4), (5, .int (x5 + 1))]) hl [1, 2, 3, 4, 5, 0] rfl) hf
            · replace hf := it_f c5 hf
              refine lv_iconst hx hb dX3_gift_75 kc_i1 ?_
              refine lv_aload_n hx hb dX3_gift_76 rfl (lv_at hl 0 rfl) ?_
              refine lv_iload hx hb dX3_gift_77 (lv_at hl 4 rfl) ?_
              refine lv_iconst hx hb dX3_gift_79 kc_i1 ?_
              refine lv_iadd hx hb dX3_gift_80 ?_
              refine lv_iload_n hx hb dX3_gift_81 rfl (lv_at hl 2 rfl) ?_
              refine lv_iconst hx hb dX3_gift_82 kc_i1 ?_
              refine lv_iload hx hb dX3_gift_83 (lv_at hl 5 rfl) ?_
              refine lv_ishl hx hb dX3_gift_85 ?_
              refine lv_ior hx hb dX3_gift_86 ?_
              obtain ⟨v6, hv6, hf⟩ := ob_s hf
              refine mc_X3_X3_gave S hC hK hP hv6 hl.1 ⟨Nat.le_of_ble_eq_true rfl, Nat.le_of_ble_eq_true rfl⟩ (Nat.le_of_ble_eq_true rfl) ⟨Nat.zero_le _, Nat.zero_le _⟩ dX3_gift_87 (fun _ => ?_)
              refine lv_iadd hx hb dX3_gift_90 ?_
              refine lv_aload_n hx hb dX3_gift_91 rfl (lv_at hl 0 rfl) ?_
              refine lv_iload hx hb dX3_gift_92 (lv_at hl 4 rfl) ?_
              refine lv_iload_n hx hb dX3_gift_94 rfl (lv_at hl 2 rfl) ?_
              obtain ⟨v7, hv7, hf⟩ := ob_s hf
              refine mc_X3_X3_gave S hC hK hP hv7 hl.1 ⟨Nat.le_of_ble_eq_true rfl, Nat.le_of_ble_eq_true rfl⟩ (Nat.le_of_ble_eq_true rfl) ⟨Nat.zero_le _, Nat.zero_le _⟩ dX3_gift_95 (fun _ => ?_)
              refine lv_icmp_ne (tgt := 104) hx hb dX3_gift_98 (by decide) (fun c8 => ?_) (fun c8 => ?_)
              · replace hf := it_f c8 hf
                refine lv_iinc (v := (x5 + 1)) (lv' := [(5, .int (x5 + 1)), (0, .ref o), (1, .int x1), (2, .int x2), (3, .int x3), (4, .int x4)]) hx hb dX3_gift_104 hl (k := 5) rfl rfl (by decide) rfl (fun ls hl => ?_)
                refine lv_goto (tgt := 37) hx hb dX3_gift_107 (by decide) ?_
                exact (ih k26 hk26) x1 x2 x3 x4 (x5 + 1) th st gv ls H locs hP hS (lv_sub (l' := [(0, .ref o), (1, .int x1), (2, .int x2), (3, .int x3), (4, .int x4), (5, .int (x5 + 1))]) hl [1, 2, 3, 4, 5, 0] rfl) hf
              · replace hf := it_t c8 hf
                refine lv_iload hx hb dX3_gift_101 (lv_at hl 5 rfl) ?_
                refine lv_istore_n (i := 3) (lv' := [(3, .int x5), (0, .ref o), (1, .int x1), (2, .int x2), (4, .int x4), (5, .int x5)]) hx hb dX3_gift_103 rfl hl (by decide) rfl (fun ls hl => ?_)
                refine lv_iinc (v := (x5 + 1)) (lv' := [(5, .int (x5 + 1)), (3, .int x5), (0, .ref o), (1, .int x1), (2, .int x2), (4, .int x4)]) hx hb dX3_gift_104 hl (k := 5) rfl rfl (by decide) rfl (fun ls hl => ?_)
                refine lv_goto (tgt := 37) hx hb dX3_gift_107 (by decide) ?_
                exact (ih k26 hk26) x1 x2 x5 x4 (x5 + 1) th st gv ls H locs hP hS (lv_sub (l' := [(0, .ref o), (1, .int x1), (2, .int x2), (3, .int x5), (4, .int x4), (5, .int (x5 + 1))]) hl [2, 3, 4, 1, 5, 0] rfl) hf
  have w26 : ∀ (n : Nat) , ∀ (x1 : Int32) (x2 : Int32) (x3 : Int32) (x4 : Int32) (th : Int32) (st : Int32) (gv : (Nat → Int32)) (ls : Array Slot) (H : Heap) (locs : List Loc), va_P D cl (mW mi cI cJ cB o ad th tp st fk fp ac si fr tt kd nu fa pl fo wd ci gr lm om nw rd aa kp ta nm rn gv gt rw rh lg lh ou) H → va_S (mA o ad) s.heap H locs → lv_has ls 6 [(0, .ref o), (1, .int x1), (2, .int x2), (3, .int x3), (4, .int x4)] → f_X3_gift_26 n nw x1 x2 x3 x4 th st gv = some out → W p l e (rM 7 156) s m ([.ref o, .int a0] : List Value).toArray below meth c H locs 0 0 (MQ below (gQ D cl (some (.int out.1)) True (mW mi cI cJ cB o ad out.2.1 tp out.2.2.1 fk fp ac si fr tt kd nu fa pl fo wd ci gr lm om nw rd aa kp ta nm rn out.2.2.2 gt rw rh lg lh ou) (mA o ad)) ([.ref o, .int a0] : List Value).toArray s 0 0 (mA o ad)) (F0 m 26 ls []) := by
    intro n
    induction n with
    | zero =>
      intro x1 x2 x3 x4 th st gv ls H locs hP hS hl hf
      exact absurd hf (by rw [f_X3_gift_26]; exact nofun)
    | succ n ih =>
      intro x1 x2 x3 x4 th st gv ls H locs hP hS hl hf
      rw [f_X3_gift_26] at hf
      refine lv_iload hx hb dX3_gift_26 (lv_at hl 4 rfl) ?_
      refine lv_iload_n hx hb dX3_gift_28 rfl (lv_at hl 1 rfl) ?_
      refine lv_icmp_gt (tgt := 131) hx hb dX3_gift_29 (by decide) (fun c1 => ?_) (fun c1 => ?_)
      · replace hf := it_t c1 hf
        refine lv_iload_n hx hb dX3_gift_131 rfl (lv_at hl 3 rfl) ?_
        refine lv_iconst hx hb dX3_gift_132 kc_im1 ?_
        refine lv_icmp_ne (tgt := 144) hx hb dX3_gift_133 (by decide) (fun c2 => ?_) (fun c2 => ?_)
        · replace hf := it_f c2 hf
          refine lv_aload_n hx hb dX3_gift_144 rfl (lv_at hl 0 rfl) ?_
          refine lv_iload_n hx hb dX3_gift_145 rfl (lv_at hl 3 rfl) ?_
          obtain ⟨v3, hv3, hf⟩ := ob_s hf
          refine mc_X3_X3_gives S hC hD hK hP hS hv3 hl.1 ⟨Nat.le_of_ble_eq_true rfl, Nat.le_of_ble_eq_true rfl⟩ (Nat.le_of_ble_eq_true rfl) ⟨Nat.zero_le _, Nat.zero_le _⟩ dX3_gift_146 (fun H locs _ hP hS => ?_)
          have hE := Option.some.inj hf
          subst hE
          exact gt_wi S hr hlocks trivial hP hS dX3_gift_149
        · replace hf := it_t c2 hf
          refine lv_aload_n hx hb dX3_gift_136 rfl (lv_at hl 0 rfl) ?_
          refine lv_iconst hx hb dX3_gift_137 kc_i5 ?_
          obtain ⟨v4, hv4, hf⟩ := ob_s hf
          refine mc_X3_X3_refuse S hC hD hK hP hS hv4 hl.1 ⟨Nat.le_of_ble_eq_true rfl, Nat.le_of_ble_eq_true rfl⟩ (Nat.le_of_ble_eq_true rfl) ⟨Nat.zero_le _, Nat.zero_le _⟩ dX3_gift_138 (fun H locs _ hP hS => ?_)
          refine lv_goto (tgt := 149) hx hb dX3_gift_141 (by decide) ?_
          have hE := Option.some.inj hf
          subst hE
          exact gt_wi S hr hlocks trivial hP hS dX3_gift_149
      · replace hf := it_f c1 hf
        refine lv_iconst hx hb dX3_gift_32 kc_im1 ?_
        refine lv_istore_n (i := 3) (lv' := [(3, .int (-1)), (0, .ref o), (1, .int x1), (2, .int x2), (4, .int x4)]) hx hb dX3_gift_33 rfl hl (by decide) rfl (fun ls hl => ?_)
        refine lv_iconst hx hb dX3_gift_34 kc_i0 ?_
        refine lv_istore (lv' := [(5, .int 0), (3, .int (-1)), (0, .ref o), (1, .int x1), (2, .int x2), (4, .int x4)]) hx hb dX3_gift_35 hl (by decide) rfl (fun ls hl => ?_)
        exact (w37 FU (f_X3_gift_26 n nw) (ih)) x1 x2 (-1) x4 0 th st gv ls H locs hP hS (lv_sub (l' := [(0, .ref o), (1, .int x1), (2, .int x2), (3, .int (-1)), (4, .int x4), (5, .int 0)]) hl [2, 3, 4, 1, 5, 0] rfl) hf
  suffices hg : ∀ (H : Heap) (locs : List Loc), va_P D cl (mW mi cI cJ cB o ad th tp st fk fp ac si fr tt kd nu fa pl fo wd ci gr lm om nw rd aa kp ta nm rn gv gt rw rh lg lh ou) H → va_S (mA o ad) s.heap H locs → W p l e (rM 7 156) s m ([.ref o, .int a0] : List Value).toArray below meth c H locs 0 0 (MQ below (gQ D cl (some (.int out.1)) True (mW mi cI cJ cB o ad out.2.1 tp out.2.2.1 fk fp ac si fr tt kd nu fa pl fo wd ci gr lm om nw rd aa kp ta nm rn out.2.2.2 gt rw rh lg lh ou) (mA o ad)) ([.ref o, .int a0] : List Value).toArray s 0 0 (mA o ad)) (F0 m 0 ls []) from hg s.heap [] hP va_S.rf
  clear hP
  intro H locs hP hS
  rw [f_X3_gift] at hf
  refine lv_aload_n hx hb dX3_gift_0 rfl (lv_at hl 0 rfl) ?_
  refine lv_iload_n hx hb dX3_gift_1 rfl (lv_at hl 1 rfl) ?_
  obtain ⟨v1, hv1, hf⟩ := ob_s hf
  refine mc_X3_X3_isHouse S hC hK hP hv1 hl.1 ⟨Nat.le_of_ble_eq_true rfl, Nat.le_of_ble_eq_true rfl⟩ (Nat.le_of_ble_eq_true rfl) ⟨Nat.zero_le _, Nat.zero_le _⟩ dX3_gift_2 (fun hnv1 => ?_)
  refine lv_if_ne (tgt := 14) hx hb dX3_gift_5 (by decide) (fun c2 => ?_) (fun c2 => ?_)
  · replace hf := it_f c2 hf
    refine lv_aload_n hx hb dX3_gift_14 rfl (lv_at hl 0 rfl) ?_
    obtain ⟨v3, hv3, hf⟩ := ob_s hf
    refine mc_X3_X3_laysGifts S hC hD hK hP hS hv3 hl.1 ⟨Nat.le_of_ble_eq_true rfl, Nat.le_of_ble_eq_true rfl⟩ (Nat.le_of_ble_eq_true rfl) ⟨Nat.zero_le _, Nat.zero_le _⟩ dX3_gift_15 (fun H locs _ hP hS => ?_)
    refine lv_pop hx hb dX3_gift_18 rfl ?_
    refine lv_iconst hx hb dX3_gift_19 kc_i0 ?_
    refine lv_istore_n (i := 2) (lv' := [(2, .int 0), (0, .ref o), (1, .int a0)]) hx hb dX3_gift_20 rfl hl (by decide) rfl (fun ls hl => ?_)
    refine lv_iconst hx hb dX3_gift_21 kc_im1 ?_
    refine lv_istore_n (i := 3) (lv' := [(3, .int (-1)), (2, .int 0), (0, .ref o), (1, .int a0)]) hx hb dX3_gift_22 rfl hl (by decide) rfl (fun ls hl => ?_)
    refine lv_iconst hx hb dX3_gift_23 kc_i0 ?_
    refine lv_istore (lv' := [(4, .int 0), (3, .int (-1)), (2, .int 0), (0, .ref o), (1, .int a0)]) hx hb dX3_gift_24 hl (by decide) rfl (fun ls hl => ?_)
    exact (w26 FU) a0 0 (-1) 0 th st v3.2 ls H locs hP hS (lv_sub (l' := [(0, .ref o), (1, .int a0), (2, .int 0), (3, .int (-1)), (4, .int 0)]) hl [3, 4, 2, 1, 0] rfl) hf
  · replace hf := it_t c2 hf
    refine lv_aload_n hx hb dX3_gift_8 rfl (lv_at hl 0 rfl) ?_
    refine lv_iconst hx hb dX3_gift_9 kc_i2 ?_
    obtain ⟨v4, hv4, hf⟩ := ob_s hf
    refine mc_X3_X3_refuse S hC hD hK hP hS hv4 hl.1 ⟨Nat.le_of_ble_eq_true rfl, Nat.le_of_ble_eq_true rfl⟩ (Nat.le_of_ble_eq_true rfl) ⟨Nat.zero_le _, Nat.zero_le _⟩ dX3_gift_10 (fun H locs _ hP hS => ?_)
    have hE := Option.some.inj hf
    subst hE
    exact gt_wi S hr hlocks trivial hP hS dX3_gift_13
theorem hd_X3_allThatCould : yX3_allThatCould.cls = RX3 ∧ yX3_allThatCould.cls ≠ "java/lang/invoke/MethodHandle" ∧ yX3_allThatCould.cls ≠ "java/lang/invoke/VarHandle" ∧ (parseMethodDescriptor yX3_allThatCould.desc).map (fun d => d.parameters.length) = some 1 := by decide +kernel
set_option maxHeartbeats 4000000 in
set_option maxRecDepth 100000 in
theorem mm_X3_allThatCould {a0 : Int32} {out : Int32} (hC : mC cl tys mi cI cJ cB) (hf : f_X3_allThatCould nw a0 = some out) : Met l yX3_allThatCould (ws_ yX3_allThatCould cX3_allThatCould 4 (some .int)) (rM 5 110) (gPc D cl tys [.ref o, .int a0] (mW mi cI cJ cB o ad th tp st fk fp ac si fr tt kd nu fa pl fo wd ci gr lm om nw rd aa kp ta nm rn gv gt rw rh lg lh ou)) (gR (some (.int out)) True) 0 0 (fun _ => False) := by
  refine gGo (by decide +kernel) (Nat.le_of_ble_eq_true rfl) (fun p e s m below meth c ls S hr hlocks hK hP hl => ?_)
  have S : CallFix p m c cX3_allThatCould 4 s _ lw_all RX3 := S
  obtain ⟨hx, hb, hml, hown, hts⟩ := id S
  have hl : lv_has ls 4 [(0, .ref o), (1, .int a0)] := hl
  have w4 : ∀ (n : Nat) , ∀ (x1 : Int32) (x2 : Int32) (x3 : Int32) (ls : Array Slot), lv_has ls 4 [(0, .ref o), (1, .int x1), (2, .int x2), (3, .int x3)] → f_X3_allThatCould_4 n nw x1 x2 x3 = some out → W p l e (rM 5 110) s m ([.ref o, .int a0] : List Value).toArray below meth c s.heap [] 0 0 (MQ below (gR (some (.int out)) True) ([.ref o, .int a0] : List Value).toArray s 0 0 (fun _ => False)) (F0 m 4 ls []) := by
    intro n
    induction n with
    | zero =>
      intro x1 x2 x3 ls hl hf
      exact absurd hf (by rw [f_X3_allThatCould_4]; exact nofun)
    | succ n ih =>
      intro x1 x2 x3 ls hl hf
      rw [f_X3_allThatCould_4] at hf
      refine lv_iload_n hx hb dX3_allThatCould_4 rfl (lv_at hl 3 rfl) ?_
      refine lv_aload_n hx hb dX3_allThatCould_5 rfl (lv_at hl 0 rfl) ?_
      refine mg_1 S hC hK hP dX3_allThatCould_6 ?_
      refine lv_sipush hx hb dX3_allThatCould_9 kc_s231 ?_
      refine ma_1 S hC hK hP kv_231_390 kn_231 dX3_allThatCould_12 ?_
      refine lv_icmp_ge (tgt := 41) hx hb dX3_allThatCould_13 (by decide) (fun c1 => ?_) (fun c1 => ?_)
      · replace hf := it_t c1 hf
        refine lv_iload_n hx hb dX3_allThatCould_41 rfl (lv_at hl 2 rfl) ?_
        have hE := Option.some.inj hf
        subst hE
        exact gt_ri S hr hlocks trivial dX3_allThatCould_42
      · replace hf := it_f c1 hf
        refine lv_iload_n hx hb dX3_allThatCould_16 rfl (lv_at hl 2 rfl) ?_
        refine lv_aload_n hx hb dX3_allThatCould_17 rfl (lv_at hl 0 rfl) ?_
        refine lv_iload_n hx hb dX3_allThatCould_18 rfl (lv_at hl 3 rfl) ?_
        refine lv_iload_n hx hb dX3_allThatCould_19 rfl (lv_at hl 1 rfl) ?_
        obtain ⟨v2, hv2, hf⟩ := ob_s hf
        refine mc_X3_X3_couldHave S hC hK hP hv2 hl.1 ⟨Nat.le_of_ble_eq_true rfl, Nat.le_of_ble_eq_true rfl⟩ (Nat.le_of_ble_eq_true rfl) ⟨Nat.zero_le _, Nat.zero_le _⟩ dX3_allThatCould_20 (fun hnv2 => ?_)
        refine lv_if_eq (tgt := 32) hx hb dX3_allThatCould_23 (by decide) (fun c3 => ?_) (fun c3 => ?_)
        · replace hf := it_t c3 hf
          refine lv_iconst hx hb dX3_allThatCould_32 kc_i0 ?_
          refine lv_ior hx hb dX3_allThatCould_33 ?_
          refine lv_istore_n (i := 2) (lv' := [(2, .int (x2 ||| 0)), (0, .ref o), (1, .int x1), (3, .int x3)]) hx hb dX3_allThatCould_34 rfl hl (by decide) rfl (fun ls hl => ?_)
          refine lv_iinc (v := (x3 + 1)) (lv' := [(3, .int (x3 + 1)), (2, .int (x2 ||| 0)), (0, .ref o), (1, .int x1)]) hx hb dX3_allThatCould_35 hl (k := 3) rfl rfl (by decide) rfl (fun ls hl => ?_)
          refine lv_goto (tgt := 4) hx hb dX3_allThatCould_38 (by decide) ?_
          exact (ih) x1 (x2 ||| 0) (x3 + 1) ls (lv_sub (l' := [(0, .ref o), (1, .int x1), (2, .int (x2 ||| 0)), (3, .int (x3 + 1))]) hl [2, 3, 1, 0] rfl) hf
        · replace hf := it_f c3 hf
          refine lv_iconst hx hb dX3_allThatCould_26 kc_i1 ?_
          refine lv_iload_n hx hb dX3_allThatCould_27 rfl (lv_at hl 3 rfl) ?_
          refine lv_ishl hx hb dX3_allThatCould_28 ?_
          refine lv_goto (tgt := 33) hx hb dX3_allThatCould_29 (by decide) ?_
          refine lv_ior hx hb dX3_allThatCould_33 ?_
          refine lv_istore_n (i := 2) (lv' := [(2, .int (x2 ||| (1 <<< (x3 &&& 31)))), (0, .ref o), (1, .int x1), (3, .int x3)]) hx hb dX3_allThatCould_34 rfl hl (by decide) rfl (fun ls hl => ?_)
          refine lv_iinc (v := (x3 + 1)) (lv' := [(3, .int (x3 + 1)), (2, .int (x2 ||| (1 <<< (x3 &&& 31)))), (0, .ref o), (1, .int x1)]) hx hb dX3_allThatCould_35 hl (k := 3) rfl rfl (by decide) rfl (fun ls hl => ?_)
          refine lv_goto (tgt := 4) hx hb dX3_allThatCould_38 (by decide) ?_
          exact (ih) x1 (x2 ||| (1 <<< (x3 &&& 31))) (x3 + 1) ls (lv_sub (l' := [(0, .ref o), (1, .int x1), (2, .int (x2 ||| (1 <<< (x3 &&& 31)))), (3, .int (x3 + 1))]) hl [2, 3, 1, 0] rfl) hf
  rw [f_X3_allThatCould] at hf
  refine lv_iconst hx hb dX3_allThatCould_0 kc_i0 ?_
  refine lv_istore_n (i := 2) (lv' := [(2, .int 0), (0, .ref o), (1, .int a0)]) hx hb dX3_allThatCould_1 rfl hl (by decide) rfl (fun ls hl => ?_)
  refine lv_iconst hx hb dX3_allThatCould_2 kc_i0 ?_
  refine lv_istore_n (i := 3) (lv' := [(3, .int 0), (2, .int 0), (0, .ref o), (1, .int a0)]) hx hb dX3_allThatCould_3 rfl hl (by decide) rfl (fun ls hl => ?_)
  exact (w4 FU) a0 0 0 ls (lv_sub (l' := [(0, .ref o), (1, .int a0), (2, .int 0), (3, .int 0)]) hl [2, 3, 1, 0] rfl) hf
set_option maxRecDepth 100000 in
theorem mc_X3_X3_allThatCould {a0 : Int32} {out : Int32} (S : CallFix p m c cc nL s args lw_all RX3) (hC : mC cl tys mi cI cJ cB) (hK : va_K D cl tys s) (hP : va_P D cl (mW mi cI cJ cB o ad th tp st fk fp ac si fr tt kd nu fa pl fo wd ci gr lm om nw rd aa kp ta nm rn gv gt rw rh lg lh ou) H) (hf : f_X3_allThatCould nw a0 = some out) (hsz : ls.size = nL) (hR : 5 + 1 ≤ R.frames ∧ 8 + (4 + 11) + 110 ≤ R.locals) (hW : (rest.map fun v => v.category).sum ≤ 8) (hcs : cells ≤ R.cells ∧ slots ≤ R.slots) (hdg : decode cc pc = .ok (.invokevirtual 349, 3)) (kk : True → W p l e R s m args below meth c H locs cells slots Q (F0 m (pc + 3) ls (.int out :: rest))) : W p l e R s m args below meth c H locs cells slots Q (F0 m pc ls (.int a0 :: .ref o :: rest)) :=
  gc_Vr (As := [.int a0]) S (mm_X3_allThatCould hC hf) (cwV 1 S.2.2.2.2 (lw_V q2495 q2497 qs157 q189 q2498) rfl rfl rfl hd_X3_allThatCould hR) (gPreV hK hP hC.1 (q0 := 0) rfl) rfl hsz rfl hW hdg hcs kk
theorem hd_X3_top : yX3_top.cls = RX3 ∧ yX3_top.cls ≠ "java/lang/invoke/MethodHandle" ∧ yX3_top.cls ≠ "java/lang/invoke/VarHandle" ∧ (parseMethodDescriptor yX3_top.desc).map (fun d => d.parameters.length) = some 1 := by decide +kernel
set_option maxHeartbeats 4000000 in
set_option maxRecDepth 100000 in
theorem mm_X3_top {a0 : Int32} {out : Int32 × Int32 × Int32} (hC : mC cl tys mi cI cJ cB) (hD : mD o ad) (hf : f_X3_top nw th st a0 = some out) : Met l yX3_top (ws_ yX3_top cX3_top 3 (some .int)) (rM 6 135) (gPc D cl tys [.ref o, .int a0] (mW mi cI cJ cB o ad th tp st fk fp ac si fr tt kd nu fa pl fo wd ci gr lm om nw rd aa kp ta nm rn gv gt rw rh lg lh ou)) (gQ D cl (some (.int out.1)) True (mW mi cI cJ cB o ad out.2.1 tp out.2.2 fk fp ac si fr tt kd nu fa pl fo wd ci gr lm om nw rd aa kp ta nm rn gv gt rw rh lg lh ou) (mA o ad)) 0 0 (mA o ad) := by
  refine gGo (by decide +kernel) (Nat.le_of_ble_eq_true rfl) (fun p e s m below meth c ls S hr hlocks hK hP hl => ?_)
  have S : CallFix p m c cX3_top 3 s _ lw_all RX3 := S
  obtain ⟨hx, hb, hml, hown, hts⟩ := id S
  have hl : lv_has ls 3 [(0, .ref o), (1, .int a0)] := hl
  suffices hg : ∀ (H : Heap) (locs : List Loc), va_P D cl (mW mi cI cJ cB o ad th tp st fk fp ac si fr tt kd nu fa pl fo wd ci gr lm om nw rd aa kp ta nm rn gv gt rw rh lg lh ou) H → va_S (mA o ad) s.heap H locs → W p l e (rM 6 135) s m ([.ref o, .int a0] : List Value).toArray below meth c H locs 0 0 (MQ below (gQ D cl (some (.int out.1)) True (mW mi cI cJ cB o ad out.2.1 tp out.2.2 fk fp ac si fr tt kd nu fa pl fo wd ci gr lm om nw rd aa kp ta nm rn gv gt rw rh lg lh ou) (mA o ad)) ([.ref o, .int a0] : List Value).toArray s 0 0 (mA o ad)) (F0 m 0 ls []) from hg s.heap [] hP va_S.rf
  clear hP
  intro H locs hP hS
  rw [f_X3_top] at hf
  refine lv_aload_n hx hb dX3_top_0 rfl (lv_at hl 0 rfl) ?_
  refine lv_iload_n hx hb dX3_top_1 rfl (lv_at hl 1 rfl) ?_
  obtain ⟨v1, hv1, hf⟩ := ob_s hf
  refine mc_X3_X3_isHome S hC hK hP hv1 hl.1 ⟨Nat.le_of_ble_eq_true rfl, Nat.le_of_ble_eq_true rfl⟩ (Nat.le_of_ble_eq_true rfl) ⟨Nat.zero_le _, Nat.zero_le _⟩ dX3_top_2 (fun hnv1 => ?_)
  refine lv_if_ne (tgt := 14) hx hb dX3_top_5 (by decide) (fun c2 => ?_) (fun c2 => ?_)
  · replace hf := it_f c2 hf
    refine lv_aload_n hx hb dX3_top_14 rfl (lv_at hl 0 rfl) ?_
    refine lv_aload_n hx hb dX3_top_15 rfl (lv_at hl 0 rfl) ?_
    refine lv_iload_n hx hb dX3_top_16 rfl (lv_at hl 1 rfl) ?_
    obtain ⟨v3, hv3, hf⟩ := ob_s hf
    refine mc_X3_X3_allThatCould S hC hK hP hv3 hl.1 ⟨Nat.le_of_ble_eq_true rfl, Nat.le_of_ble_eq_true rfl⟩ (Nat.le_of_ble_eq_true rfl) ⟨Nat.zero_le _, Nat.zero_le _⟩ dX3_top_17 (fun _ => ?_)
    refine lv_iload_n hx hb dX3_top_20 rfl (lv_at hl 1 rfl) ?_
    obtain ⟨v4, hv4, hf⟩ := ob_s hf
    refine mc_X3_X3_firstOf S hC hK hP hv4 hl.1 ⟨Nat.le_of_ble_eq_true rfl, Nat.le_of_ble_eq_true rfl⟩ (Nat.le_of_ble_eq_true rfl) ⟨Nat.zero_le _, Nat.zero_le _⟩ dX3_top_21 (fun _ => ?_)
    refine lv_istore_n (i := 2) (lv' := [(2, .int v4), (0, .ref o), (1, .int a0)]) hx hb dX3_top_24 rfl hl (by decide) rfl (fun ls hl => ?_)
    refine lv_iload_n hx hb dX3_top_25 rfl (lv_at hl 0 rfl) ?_
    refine lv_iconst hx hb dX3_top_26 kc_im1 ?_
    refine lv_icmp_ne (tgt := 38) hx hb dX3_top_27 (by decide) (fun c5 => ?_) (fun c5 => ?_)
    · replace hf := it_f c5 hf
      refine lv_aload_n hx hb dX3_top_38 rfl (lv_at hl 1 rfl) ?_
      refine lv_iload_n hx hb dX3_top_39 rfl (lv_at hl 0 rfl) ?_
      obtain ⟨v6, hv6, hf⟩ := ob_s hf
      refine mc_X3_X3_gives S hC hD hK hP hS hv6 hl.1 ⟨Nat.le_of_ble_eq_true rfl, Nat.le_of_ble_eq_true rfl⟩ (Nat.le_of_ble_eq_true rfl) ⟨Nat.zero_le _, Nat.zero_le _⟩ dX3_top_40 (fun H locs _ hP hS => ?_)
      have hE := Option.some.inj hf
      subst hE
      exact gt_wi S hr hlocks trivial hP hS dX3_top_43
    · replace hf := it_t c5 hf
      refine lv_aload_n hx hb dX3_top_30 rfl (lv_at hl 1 rfl) ?_
      refine lv_iconst hx hb dX3_top_31 kc_i5 ?_
      obtain ⟨v7, hv7, hf⟩ := ob_s hf
      refine mc_X3_X3_refuse S hC hD hK hP hS hv7 hl.1 ⟨Nat.le_of_ble_eq_true rfl, Nat.le_of_ble_eq_true rfl⟩ (Nat.le_of_ble_eq_true rfl) ⟨Nat.zero_le _, Nat.zero_le _⟩ dX3_top_32 (fun H locs _ hP hS => ?_)
      refine lv_goto (tgt := 43) hx hb dX3_top_35 (by decide) ?_
      have hE := Option.some.inj hf
      subst hE
      exact gt_wi S hr hlocks trivial hP hS dX3_top_43
  · replace hf := it_t c2 hf
    refine lv_aload_n hx hb dX3_top_8 rfl (lv_at hl 0 rfl) ?_
    refine lv_iconst hx hb dX3_top_9 kc_i2 ?_
    obtain ⟨v8, hv8, hf⟩ := ob_s hf
    refine mc_X3_X3_refuse S hC hD hK hP hS hv8 hl.1 ⟨Nat.le_of_ble_eq_true rfl, Nat.le_of_ble_eq_true rfl⟩ (Nat.le_of_ble_eq_true rfl) ⟨Nat.zero_le _, Nat.zero_le _⟩ dX3_top_10 (fun H locs _ hP hS => ?_)
    have hE := Option.some.inj hf
    subst hE
    exact gt_wi S hr hlocks trivial hP hS dX3_top_13
theorem hd_X3_weeksWaited : yX3_weeksWaited.cls = RX3 ∧ yX3_weeksWaited.cls ≠ "java/lang/invoke/MethodHandle" ∧ yX3_weeksWaited.cls ≠ "java/lang/invoke/VarHandle" ∧ (parseMethodDescriptor yX3_weeksWaited.desc).map (fun d => d.parameters.length) = some 1 := by decide +kernel
set_option maxHeartbeats 4000000 in
set_option maxRecDepth 100000 in
theorem mm_X3_weeksWaited {a0 : Int32} {out : Int32} (hC : mC cl tys mi cI cJ cB) (hf : f_X3_weeksWaited nw a0 = some out) : Met l yX3_weeksWaited (ws_ yX3_weeksWaited cX3_weeksWaited 2 (some .int)) (rM 2 43) (gPc D cl tys [.ref o, .int a0] (mW mi cI cJ cB o ad th tp st fk fp ac si fr tt kd nu fa pl fo wd ci gr lm om nw rd aa kp ta nm rn gv gt rw rh lg lh ou)) (gR (some (.int out)) True) 0 0 (fun _ => False) := by
  refine gGo (by decide +kernel) (Nat.le_of_ble_eq_true rfl) (fun p e s m below meth c ls S hr hlocks hK hP hl => ?_)
  have S : CallFix p m c cX3_weeksWaited 2 s _ lw_all RX3 := S
  obtain ⟨hx, hb, hml, hown, hts⟩ := id S
  have hl : lv_has ls 2 [(0, .ref o), (1, .int a0)] := hl
  rw [f_X3_weeksWaited] at hf
  refine lv_iconst hx hb dX3_weeksWaited_0 kc_i1 ?_
  refine lv_sipush hx hb dX3_weeksWaited_1 kc_s1000 ?_
  refine lv_bipush hx hb dX3_weeksWaited_4 kc_b7 ?_
  refine lv_aload_n hx hb dX3_weeksWaited_6 rfl (lv_at hl 0 rfl) ?_
  refine mg_1 S hC hK hP dX3_weeksWaited_7 ?_
  refine lv_sipush hx hb dX3_weeksWaited_10 kc_s232 ?_
  refine ma_1 S hC hK hP kv_232_390 kn_232 dX3_weeksWaited_13 ?_
  refine lv_imul hx hb dX3_weeksWaited_14 ?_
  refine lv_iadd hx hb dX3_weeksWaited_15 ?_
  refine lv_aload_n hx hb dX3_weeksWaited_16 rfl (lv_at hl 0 rfl) ?_
  refine lv_iload_n hx hb dX3_weeksWaited_17 rfl (lv_at hl 1 rfl) ?_
  refine lv_iconst hx hb dX3_weeksWaited_18 kc_i3 ?_
  obtain ⟨v1, hv1, hf⟩ := ob_s hf
  refine mc_X3_X3_of S hC hK hP hv1 hl.1 ⟨Nat.le_of_ble_eq_true rfl, Nat.le_of_ble_eq_true rfl⟩ (Nat.le_of_ble_eq_true rfl) ⟨Nat.zero_le _, Nat.zero_le _⟩ dX3_weeksWaited_19 (fun _ => ?_)
  refine lv_isub hx hb dX3_weeksWaited_22 ?_
  refine lv_bipush hx hb dX3_weeksWaited_23 kc_b7 ?_
  obtain ⟨g2, hf⟩ := gd_t hf
  refine lv_idiv hx hb dX3_weeksWaited_25 (nz32_t g2) ?_
  obtain ⟨v3, hv3, hf⟩ := ob_s hf
  refine mc_X3_J6_max S hK hv3 hl.1 ⟨Nat.le_of_ble_eq_true rfl, Nat.le_of_ble_eq_true rfl⟩ (Nat.le_of_ble_eq_true rfl) ⟨Nat.zero_le _, Nat.zero_le _⟩ dX3_weeksWaited_26 (fun _ => ?_)
  have hE := Option.some.inj hf
  subst hE
  exact gt_ri S hr hlocks trivial dX3_weeksWaited_29
set_option maxRecDepth 100000 in
theorem mc_X3_X3_weeksWaited {a0 : Int32} {out : Int32} (S : CallFix p m c cc nL s args lw_all RX3) (hC : mC cl tys mi cI cJ cB) (hK : va_K D cl tys s) (hP : va_P D cl (mW mi cI cJ cB o ad th tp st fk fp ac si fr tt kd nu fa pl fo wd ci gr lm om nw rd aa kp ta nm rn gv gt rw rh lg lh ou) H) (hf : f_X3_weeksWaited nw a0 = some out) (hsz : ls.size = nL) (hR : 2 + 1 ≤ R.frames ∧ 8 + (2 + 11) + 43 ≤ R.locals) (hW : (rest.map fun v => v.category).sum ≤ 8) (hcs : cells ≤ R.cells ∧ slots ≤ R.slots) (hdg : decode cc pc = .ok (.invokevirtual 353, 3)) (kk : True → W p l e R s m args below meth c H locs cells slots Q (F0 m (pc + 3) ls (.int out :: rest))) : W p l e R s m args below meth c H locs cells slots Q (F0 m pc ls (.int a0 :: .ref o :: rest)) :=
  gc_Vr (As := [.int a0]) S (mm_X3_weeksWaited hC hf) (cwV 1 S.2.2.2.2 (lw_V q2504 q2506 qs158 q189 q2507) rfl rfl rfl hd_X3_weeksWaited hR) (gPreV hK hP hC.1 (q0 := 0) rfl) rfl hsz rfl hW hdg hcs kk
theorem hd_X3_lot : yX3_lot.cls = RX3 ∧ yX3_lot.cls ≠ "java/lang/invoke/MethodHandle" ∧ yX3_lot.cls ≠ "java/lang/invoke/VarHandle" ∧ (parseMethodDescriptor yX3_lot.desc).map (fun d => d.parameters.length) = some 2 := by decide +kernel
set_option maxHeartbeats 4000000 in
set_option maxRecDepth 100000 in
theorem mm_X3_lot {a0 : Int32} {a1 : Int32} {out : Int32 × Int32 × Int32} (hC : mC cl tys mi cI cJ cB) (hD : mD o ad) (hf : f_X3_lot nw th st a0 a1 = some out) : Met l yX3_lot (ws_ yX3_lot cX3_lot 7 (some .int)) (rM 6 133) (gPc D cl tys [.ref o, .int a0, .int a1] (mW mi cI cJ cB o ad th tp st fk fp ac si fr tt kd nu fa pl fo wd ci gr lm om nw rd aa kp ta nm rn gv gt rw rh lg lh ou)) (gQ D cl (some (.int out.1)) True (mW mi cI cJ cB o ad out.2.1 tp out.2.2 fk fp ac si fr tt kd nu fa pl fo wd ci gr lm om nw rd aa kp ta nm rn gv gt rw rh lg lh ou) (mA o ad)) 0 0 (mA o ad) := by
  refine gGo (by decide +kernel) (Nat.le_of_ble_eq_true rfl) (fun p e s m below meth c ls S hr hlocks hK hP hl => ?_)
  have S : CallFix p m c cX3_lot 7 s _ lw_all RX3 := S
  obtain ⟨hx, hb, hml, hown, hts⟩ := id S
  have hl : lv_has ls 7 [(0, .ref o), (1, .int a0), (2, .int a1)] := hl
  have w117 : ∀ (n : Nat) , ∀ (x3 : Int32) (x5 : Int32) (x6 : Int32) (th : Int32) (st : Int32) (ls : Array Slot) (H : Heap) (locs : List Loc), va_P D cl (mW mi cI cJ cB o ad th tp st fk fp ac si fr tt kd nu fa pl fo wd ci gr lm om nw rd aa kp ta nm rn gv gt rw rh lg lh ou) H → va_S (mA o ad) s.heap H locs → lv_has ls 7 [(0, .ref o), (3, .int x3), (5, .int x5), (6, .int x6)] → f_X3_lot_117 n nw x3 x5 x6 th st = some out → W p l e (rM 6 133) s m ([.ref o, .int a0, .int a1] : List Value).toArray below meth c H locs 0 0 (MQ below (gQ D cl (some (.int out.1)) True (mW mi cI cJ cB o ad out.2.1 tp out.2.2 fk fp ac si fr tt kd nu fa pl fo wd ci gr lm om nw rd aa kp ta nm rn gv gt rw rh lg lh ou) (mA o ad)) ([.ref o, .int a0, .int a1] : List Value).toArray s 0 0 (mA o ad)) (F0 m 117 ls []) := by
    intro n
    induction n with
    | zero =>
      intro x3 x5 x6 th st ls H locs hP hS hl hf
      exact absurd hf (by rw [f_X3_lot_117]; exact nofun)
    | succ n ih =>
      intro x3 x5 x6 th st ls H locs hP hS hl hf
      rw [f_X3_lot_117] at hf
      refine lv_iload hx hb dX3_lot_117 (lv_at hl 2 rfl) ?_
      refine lv_if_lt (tgt := 153) hx hb dX3_lot_119 (by decide) (fun c1 => ?_) (fun c1 => ?_)
      · replace hf := it_t c1 hf
        refine lv_aload_n hx hb dX3_lot_153 rfl (lv_at hl 0 rfl) ?_
        refine lv_iload hx hb dX3_lot_154 (lv_at hl 3 rfl) ?_
        obtain ⟨v2, hv2, hf⟩ := ob_s hf
        refine mc_X3_X3_gives S hC hD hK hP hS hv2 hl.1 ⟨Nat.le_of_ble_eq_true rfl, Nat.le_of_ble_eq_true rfl⟩ (Nat.le_of_ble_eq_true rfl) ⟨Nat.zero_le _, Nat.zero_le _⟩ dX3_lot_156 (fun H locs _ hP hS => ?_)
        have hE := Option.some.inj hf
        subst hE
        exact gt_wi S hr hlocks trivial hP hS dX3_lot_159
      · replace hf := it_f c1 hf
        refine lv_iinc (v := (x6 + 1)) (lv' := [(6, .int (x6 + 1)), (0, .ref o), (3, .int x3), (5, .int x5)]) hx hb dX3_lot_122 hl (k := 3) rfl rfl (by decide) rfl (fun ls hl => ?_)
        refine lv_iload hx hb dX3_lot_125 (lv_at hl 3 rfl) ?_
        refine lv_iload_n hx hb dX3_lot_127 rfl (lv_at hl 2 rfl) ?_
        refine lv_iload hx hb dX3_lot_128 (lv_at hl 0 rfl) ?_
        refine lv_ishr hx hb dX3_lot_130 ?_
        refine lv_iconst hx hb dX3_lot_131 kc_i1 ?_
        refine lv_iand hx hb dX3_lot_132 ?_
        refine lv_iconst hx hb dX3_lot_133 kc_i1 ?_
        refine lv_icmp_ne (tgt := 146) hx hb dX3_lot_134 (by decide) (fun c3 => ?_) (fun c3 => ?_)
        · replace hf := it_f c3 hf
          refine lv_iconst hx hb dX3_lot_146 kc_i0 ?_
          refine lv_isub hx hb dX3_lot_147 ?_
          refine lv_istore (lv' := [(5, .int (x5 - 0)), (6, .int (x6 + 1)), (0, .ref o), (3, .int x3)]) hx hb dX3_lot_148 hl (by decide) rfl (fun ls hl => ?_)
          refine lv_goto (tgt := 117) hx hb dX3_lot_150 (by decide) ?_
          exact (ih) x3 (x5 - 0) (x6 + 1) th st ls H locs hP hS (lv_sub (l' := [(0, .ref o), (3, .int x3), (5, .int (x5 - 0)), (6, .int (x6 + 1))]) hl [2, 3, 0, 1] rfl) hf
        · replace hf := it_t c3 hf
          refine lv_aload_n hx hb dX3_lot_137 rfl (lv_at hl 1 rfl) ?_
          refine lv_iload hx hb dX3_lot_138 (lv_at hl 0 rfl) ?_
          obtain ⟨v4, hv4, hf⟩ := ob_s hf
          refine mc_X3_X3_weeksWaited S hC hK hP hv4 hl.1 ⟨Nat.le_of_ble_eq_true rfl, Nat.le_of_ble_eq_true rfl⟩ (Nat.le_of_ble_eq_true rfl) ⟨Nat.zero_le _, Nat.zero_le _⟩ dX3_lot_140 (fun _ => ?_)
          refine lv_goto (tgt := 147) hx hb dX3_lot_143 (by decide) ?_
          refine lv_isub hx hb dX3_lot_147 ?_
          refine lv_istore (lv' := [(5, .int (x5 - v4)), (6, .int (x6 + 1)), (0, .ref o), (3, .int x3)]) hx hb dX3_lot_148 hl (by decide) rfl (fun ls hl => ?_)
          refine lv_goto (tgt := 117) hx hb dX3_lot_150 (by decide) ?_
          exact (ih) x3 (x5 - v4) (x6 + 1) th st ls H locs hP hS (lv_sub (l' := [(0, .ref o), (3, .int x3), (5, .int (x5 - v4)), (6, .int (x6 + 1))]) hl [2, 3, 0, 1] rfl) hf
  have w43 : ∀ (n : Nat) , ∀ (x2 : Int32) (x3 : Int32) (x4 : Int32) (x5 : Int32) (th : Int32) (st : Int32) (ls : Array Slot) (H : Heap) (locs : List Loc), va_P D cl (mW mi cI cJ cB o ad th tp st fk fp ac si fr tt kd nu fa pl fo wd ci gr lm om nw rd aa kp ta nm rn gv gt rw rh lg lh ou) H → va_S (mA o ad) s.heap H locs → lv_has ls 7 [(0, .ref o), (2, .int x2), (3, .int x3), (4, .int x4), (5, .int x5)] → f_X3_lot_43 n nw x2 x3 x4 x5 th st = some out → W p l e (rM 6 133) s m ([.ref o, .int a0, .int a1] : List Value).toArray below meth c H locs 0 0 (MQ below (gQ D cl (some (.int out.1)) True (mW mi cI cJ cB o ad out.2.1 tp out.2.2 fk fp ac si fr tt kd nu fa pl fo wd ci gr lm om nw rd aa kp ta nm rn gv gt rw rh lg lh ou) (mA o ad)) ([.ref o, .int a0, .int a1] : List Value).toArray s 0 0 (mA o ad)) (F0 m 43 ls []) := by
    intro n
    induction n with
    | zero =>
      intro x2 x3 x4 x5 th st ls H locs hP hS hl hf
      exact absurd hf (by rw [f_X3_lot_43]; exact nofun)
    | succ n ih =>
      intro x2 x3 x4 x5 th st ls H locs hP hS hl hf
      rw [f_X3_lot_43] at hf
      refine lv_iload hx hb dX3_lot_43 (lv_at hl 4 rfl) ?_
      refine lv_aload_n hx hb dX3_lot_45 rfl (lv_at hl 0 rfl) ?_
      refine mg_1 S hC hK hP dX3_lot_46 ?_
      refine lv_sipush hx hb dX3_lot_49 kc_s231 ?_
      refine ma_1 S hC hK hP kv_231_390 kn_231 dX3_lot_52 ?_
      refine lv_icmp_ge (tgt := 87) hx hb dX3_lot_53 (by decide) (fun c1 => ?_) (fun c1 => ?_)
      · replace hf := it_t c1 hf
        refine lv_iload hx hb dX3_lot_87 (lv_at hl 3 rfl) ?_
        refine lv_if_ne (tgt := 98) hx hb dX3_lot_89 (by decide) (fun c2 => ?_) (fun c2 => ?_)
        · replace hf := it_f c2 hf
          refine lv_bipush hx hb dX3_lot_98 kc_b75 ?_
          refine lv_iload_n hx hb dX3_lot_100 rfl (lv_at hl 1 rfl) ?_
          refine lv_imul hx hb dX3_lot_101 ?_
          refine lv_bipush hx hb dX3_lot_102 kc_b74 ?_
          refine lv_iadd hx hb dX3_lot_104 ?_
          refine lv_ldcw hx hb hown (hts _ q2508) dX3_lot_105 ?_
          obtain ⟨g3, hf⟩ := gd_t hf
          refine lv_irem hx hb dX3_lot_108 (nz32_t g3) ?_
          refine lv_iload hx hb dX3_lot_109 (lv_at hl 3 rfl) ?_
          obtain ⟨g4, hf⟩ := gd_t hf
          refine lv_irem hx hb dX3_lot_111 (nz32_t g4) ?_
          refine lv_topi (fun x5 ex5 => ?_)
          replace hf := bd_e ex5 hf
          refine lv_istore (lv' := [(5, .int x5), (0, .ref o), (2, .int x2), (3, .int x3), (4, .int x4)]) hx hb dX3_lot_112 hl (by decide) rfl (fun ls hl => ?_)
          refine lv_iconst hx hb dX3_lot_114 kc_im1 ?_
          refine lv_istore (lv' := [(6, .int (-1)), (5, .int x5), (0, .ref o), (2, .int x2), (3, .int x3), (4, .int x4)]) hx hb dX3_lot_115 hl (by decide) rfl (fun ls hl => ?_)
          exact (w117 FU) x3 x5 (-1) th st ls H locs hP hS (lv_sub (l' := [(0, .ref o), (3, .int x3), (5, .int x5), (6, .int (-1))]) hl [2, 4, 1, 0] rfl) hf
        · replace hf := it_t c2 hf
          refine lv_aload_n hx hb dX3_lot_92 rfl (lv_at hl 0 rfl) ?_
          refine lv_iconst hx hb dX3_lot_93 kc_i5 ?_
          obtain ⟨v6, hv6, hf⟩ := ob_s hf
          refine mc_X3_X3_refuse S hC hD hK hP hS hv6 hl.1 ⟨Nat.le_of_ble_eq_true rfl, Nat.le_of_ble_eq_true rfl⟩ (Nat.le_of_ble_eq_true rfl) ⟨Nat.zero_le _, Nat.zero_le _⟩ dX3_lot_94 (fun H locs _ hP hS => ?_)
          have hE := Option.some.inj hf
          subst hE
          exact gt_wi S hr hlocks trivial hP hS dX3_lot_97
      · replace hf := it_f c1 hf
        refine lv_iload hx hb dX3_lot_56 (lv_at hl 3 rfl) ?_
        refine lv_iload_n hx hb dX3_lot_58 rfl (lv_at hl 2 rfl) ?_
        refine lv_iload hx hb dX3_lot_59 (lv_at hl 4 rfl) ?_
        refine lv_ishr hx hb dX3_lot_61 ?_
        refine lv_iconst hx hb dX3_lot_62 kc_i1 ?_
        refine lv_iand hx hb dX3_lot_63 ?_
        refine lv_iconst hx hb dX3_lot_64 kc_i1 ?_
        refine lv_icmp_ne (tgt := 77) hx hb dX3_lot_65 (by decide) (fun c7 => ?_) (fun c7 => ?_)
        · replace hf := it_f c7 hf
          refine lv_iconst hx hb dX3_lot_77 kc_i0 ?_
          refine lv_iadd hx hb dX3_lot_78 ?_
          refine lv_istore (lv' := [(4, .int (x4 + 0)), (0, .ref o), (2, .int x2), (3, .int x3), (5, .int x5)]) hx hb dX3_lot_79 hl (by decide) rfl (fun ls hl => ?_)
          refine lv_iinc (v := (x5 + 1)) (lv' := [(5, .int (x5 + 1)), (4, .int (x4 + 0)), (0, .ref o), (2, .int x2), (3, .int x3)]) hx hb dX3_lot_81 hl (k := 4) rfl rfl (by decide) rfl (fun ls hl => ?_)
          refine lv_goto (tgt := 43) hx hb dX3_lot_84 (by decide) ?_
          exact (ih) x2 x3 (x4 + 0) (x5 + 1) th st ls H locs hP hS (lv_sub (l' := [(0, .ref o), (2, .int x2), (3, .int x3), (4, .int (x4 + 0)), (5, .int (x5 + 1))]) hl [2, 3, 4, 1, 0] rfl) hf
        · replace hf := it_t c7 hf
          refine lv_aload_n hx hb dX3_lot_68 rfl (lv_at hl 0 rfl) ?_
          refine lv_iload hx hb dX3_lot_69 (lv_at hl 4 rfl) ?_
          obtain ⟨v8, hv8, hf⟩ := ob_s hf
          refine mc_X3_X3_weeksWaited S hC hK hP hv8 hl.1 ⟨Nat.le_of_ble_eq_true rfl, Nat.le_of_ble_eq_true rfl⟩ (Nat.le_of_ble_eq_true rfl) ⟨Nat.zero_le _, Nat.zero_le _⟩ dX3_lot_71 (fun _ => ?_)
          refine lv_goto (tgt := 78) hx hb dX3_lot_74 (by decide) ?_
          refine lv_iadd hx hb dX3_lot_78 ?_
          refine lv_istore (lv' := [(4, .int (x4 + v8)), (0, .ref o), (2, .int x2), (3, .int x3), (5, .int x5)]) hx hb dX3_lot_79 hl (by decide) rfl (fun ls hl => ?_)
          refine lv_iinc (v := (x5 + 1)) (lv' := [(5, .int (x5 + 1)), (4, .int (x4 + v8)), (0, .ref o), (2, .int x2), (3, .int x3)]) hx hb dX3_lot_81 hl (k := 4) rfl rfl (by decide) rfl (fun ls hl => ?_)
          refine lv_goto (tgt := 43) hx hb dX3_lot_84 (by decide) ?_
          exact (ih) x2 x3 (x4 + v8) (x5 + 1) th st ls H locs hP hS (lv_sub (l' := [(0, .ref o), (2, .int x2), (3, .int x3), (4, .int (x4 + v8)), (5, .int (x5 + 1))]) hl [2, 3, 4, 1, 0] rfl) hf
  suffices hg : ∀ (H : Heap) (locs : List Loc), va_P D cl (mW mi cI cJ cB o ad th tp st fk fp ac si fr tt kd nu fa pl fo wd ci gr lm om nw rd aa kp ta nm rn gv gt rw rh lg lh ou) H → va_S (mA o ad) s.heap H locs → W p l e (rM 6 133) s m ([.ref o, .int a0, .int a1] : List Value).toArray below meth c H locs 0 0 (MQ below (gQ D cl (some (.int out.1)) True (mW mi cI cJ cB o ad out.2.1 tp out.2.2 fk fp ac si fr tt kd nu fa pl fo wd ci gr lm om nw rd aa kp ta nm rn gv gt rw rh lg lh ou) (mA o ad)) ([.ref o, .int a0, .int a1] : List Value).toArray s 0 0 (mA o ad)) (F0 m 0 ls []) from hg s.heap [] hP va_S.rf
  clear hP
  intro H locs hP hS
  rw [f_X3_lot] at hf
  refine lv_iload_n hx hb dX3_lot_0 rfl (lv_at hl 2 rfl) ?_
  refine lv_iconst hx hb dX3_lot_1 kc_i0 ?_
  refine lv_ldcw hx hb hown (hts _ q2503) dX3_lot_2 ?_
  obtain ⟨v1, hv1, hf⟩ := ob_s hf
  refine mc_X3_X3_isFrom S hK hv1 hl.1 ⟨Nat.le_of_ble_eq_true rfl, Nat.le_of_ble_eq_true rfl⟩ (Nat.le_of_ble_eq_true rfl) ⟨Nat.zero_le _, Nat.zero_le _⟩ dX3_lot_5 (fun hnv1 => ?_)
  refine lv_if_ne (tgt := 17) hx hb dX3_lot_8 (by decide) (fun c2 => ?_) (fun c2 => ?_)
  · replace hf := it_f c2 hf
    refine lv_aload_n hx hb dX3_lot_17 rfl (lv_at hl 0 rfl) ?_
    refine lv_iload_n hx hb dX3_lot_18 rfl (lv_at hl 1 rfl) ?_
    obtain ⟨v3, hv3, hf⟩ := ob_s hf
    refine mc_X3_X3_isHome S hC hK hP hv3 hl.1 ⟨Nat.le_of_ble_eq_true rfl, Nat.le_of_ble_eq_true rfl⟩ (Nat.le_of_ble_eq_true rfl) ⟨Nat.zero_le _, Nat.zero_le _⟩ dX3_lot_19 (fun hnv3 => ?_)
    refine lv_if_ne (tgt := 31) hx hb dX3_lot_22 (by decide) (fun c4 => ?_) (fun c4 => ?_)
    · replace hf := it_f c4 hf
      refine lv_aload_n hx hb dX3_lot_31 rfl (lv_at hl 0 rfl) ?_
      refine lv_iload_n hx hb dX3_lot_32 rfl (lv_at hl 1 rfl) ?_
      obtain ⟨v5, hv5, hf⟩ := ob_s hf
      refine mc_X3_X3_allThatCould S hC hK hP hv5 hl.1 ⟨Nat.le_of_ble_eq_true rfl, Nat.le_of_ble_eq_true rfl⟩ (Nat.le_of_ble_eq_true rfl) ⟨Nat.zero_le _, Nat.zero_le _⟩ dX3_lot_33 (fun _ => ?_)
      refine lv_istore_n (i := 3) (lv' := [(3, .int v5), (0, .ref o), (1, .int a0), (2, .int a1)]) hx hb dX3_lot_36 rfl hl (by decide) rfl (fun ls hl => ?_)
      refine lv_iconst hx hb dX3_lot_37 kc_i0 ?_
      refine lv_istore (lv' := [(4, .int 0), (3, .int v5), (0, .ref o), (1, .int a0), (2, .int a1)]) hx hb dX3_lot_38 hl (by decide) rfl (fun ls hl => ?_)
      refine lv_iconst hx hb dX3_lot_40 kc_i0 ?_
      refine lv_istore (lv' := [(5, .int 0), (4, .int 0), (3, .int v5), (0, .ref o), (1, .int a0), (2, .int a1)]) hx hb dX3_lot_41 hl (by decide) rfl (fun ls hl => ?_)
      exact (w43 FU) a1 v5 0 0 th st ls H locs hP hS (lv_sub (l' := [(0, .ref o), (2, .int a1), (3, .int v5), (4, .int 0), (5, .int 0)]) hl [3, 5, 2, 1, 0] rfl) hf
    · replace hf := it_t c4 hf
      refine lv_aload_n hx hb dX3_lot_25 rfl (lv_at hl 0 rfl) ?_
      refine lv_iconst hx hb dX3_lot_26 kc_i2 ?_
      obtain ⟨v6, hv6, hf⟩ := ob_s hf
      refine mc_X3_X3_refuse S hC hD hK hP hS hv6 hl.1 ⟨Nat.le_of_ble_eq_true rfl, Nat.le_of_ble_eq_true rfl⟩ (Nat.le_of_ble_eq_true rfl) ⟨Nat.zero_le _, Nat.zero_le _⟩ dX3_lot_27 (fun H locs _ hP hS => ?_)
      have hE := Option.some.inj hf
      subst hE
      exact gt_wi S hr hlocks trivial hP hS dX3_lot_30
  · replace hf := it_t c2 hf
    refine lv_aload_n hx hb dX3_lot_11 rfl (lv_at hl 0 rfl) ?_
    refine lv_iconst hx hb dX3_lot_12 kc_i1 ?_
    obtain ⟨v7, hv7, hf⟩ := ob_s hf
    refine mc_X3_X3_refuse S hC hD hK hP hS hv7 hl.1 ⟨Nat.le_of_ble_eq_true rfl, Nat.le_of_ble_eq_true rfl⟩ (Nat.le_of_ble_eq_true rfl) ⟨Nat.zero_le _, Nat.zero_le _⟩ dX3_lot_13 (fun H locs _ hP hS => ?_)
    have hE := Option.some.inj hf
    subst hE
    exact gt_wi S hr hlocks trivial hP hS dX3_lot_16
theorem hd_X3_fits : yX3_fits.cls = RX3 ∧ yX3_fits.cls ≠ "java/lang/invoke/MethodHandle" ∧ yX3_fits.cls ≠ "java/lang/invoke/VarHandle" ∧ (parseMethodDescriptor yX3_fits.desc).map (fun d => d.parameters.length) = some 2 := by decide +kernel
set_option maxHeartbeats 4000000 in
set_option maxRecDepth 100000 in
theorem mm_X3_fits {a0 : Int32} {a1 : Int32} {out : Int32 × Int32 × Int32} (hC : mC cl tys mi cI cJ cB) (hD : mD o ad) (hf : f_X3_fits nw th st a0 a1 = some out) : Met l yX3_fits (ws_ yX3_fits cX3_fits 5 (some .int)) (rM 4 88) (gPc D cl tys [.ref o, .int a0, .int a1] (mW mi cI cJ cB o ad th tp st fk fp ac si fr tt kd nu fa pl fo wd ci gr lm om nw rd aa kp ta nm rn gv gt rw rh lg lh ou)) (gQ D cl (some (.int out.1)) True (mW mi cI cJ cB o ad out.2.1 tp out.2.2 fk fp ac si fr tt kd nu fa pl fo wd ci gr lm om nw rd aa kp ta nm rn gv gt rw rh lg lh ou) (mA o ad)) 0 0 (mA o ad) := by
  refine gGo (by decide +kernel) (Nat.le_of_ble_eq_true rfl) (fun p e s m below meth c ls S hr hlocks hK hP hl => ?_)
  have S : CallFix p m c cX3_fits 5 s _ lw_all RX3 := S
  obtain ⟨hx, hb, hml, hown, hts⟩ := id S
  have hl : lv_has ls 5 [(0, .ref o), (1, .int a0), (2, .int a1)] := hl
  have w34 : ∀ (n : Nat) , ∀ (x1 : Int32) (x2 : Int32) (x3 : Int32) (x4 : Int32) (th : Int32) (st : Int32) (ls : Array Slot) (H : Heap) (locs : List Loc), va_P D cl (mW mi cI cJ cB o ad th tp st fk fp ac si fr tt kd nu fa pl fo wd ci gr lm om nw rd aa kp ta nm rn gv gt rw rh lg lh ou) H → va_S (mA o ad) s.heap H locs → lv_has ls 5 [(0, .ref o), (1, .int x1), (2, .int x2), (3, .int x3), (4, .int x4)] → f_X3_fits_34 n nw x1 x2 x3 x4 th st = some out → W p l e (rM 4 88) s m ([.ref o, .int a0, .int a1] : List Value).toArray below meth c H locs 0 0 (MQ below (gQ D cl (some (.int out.1)) True (mW mi cI cJ cB o ad out.2.1 tp out.2.2 fk fp ac si fr tt kd nu fa pl fo wd ci gr lm om nw rd aa kp ta nm rn gv gt rw rh lg lh ou) (mA o ad)) ([.ref o, .int a0, .int a1] : List Value).toArray s 0 0 (mA o ad)) (F0 m 34 ls []) := by
    intro n
    induction n with
    | zero =>
      intro x1 x2 x3 x4 th st ls H locs hP hS hl hf
      exact absurd hf (by rw [f_X3_fits_34]; exact nofun)
    | succ n ih =>
      intro x1 x2 x3 x4 th st ls H locs hP hS hl hf
      rw [f_X3_fits_34] at hf
      refine lv_iload hx hb dX3_fits_34 (lv_at hl 4 rfl) ?_
      refine lv_aload_n hx hb dX3_fits_36 rfl (lv_at hl 0 rfl) ?_
      refine mg_1 S hC hK hP dX3_fits_37 ?_
      refine lv_sipush hx hb dX3_fits_40 kc_s230 ?_
      refine ma_1 S hC hK hP kv_230_390 kn_230 dX3_fits_43 ?_
      refine lv_icmp_ge (tgt := 105) hx hb dX3_fits_44 (by decide) (fun c1 => ?_) (fun c1 => ?_)
      · replace hf := it_t c1 hf
        refine lv_aload_n hx hb dX3_fits_105 rfl (lv_at hl 0 rfl) ?_
        refine lv_iload_n hx hb dX3_fits_106 rfl (lv_at hl 3 rfl) ?_
        obtain ⟨v2, hv2, hf⟩ := ob_s hf
        refine mc_X3_X3_gives S hC hD hK hP hS hv2 hl.1 ⟨Nat.le_of_ble_eq_true rfl, Nat.le_of_ble_eq_true rfl⟩ (Nat.le_of_ble_eq_true rfl) ⟨Nat.zero_le _, Nat.zero_le _⟩ dX3_fits_107 (fun H locs _ hP hS => ?_)
        have hE := Option.some.inj hf
        subst hE
        exact gt_wi S hr hlocks trivial hP hS dX3_fits_110
      · replace hf := it_f c1 hf
        refine lv_iload_n hx hb dX3_fits_47 rfl (lv_at hl 3 rfl) ?_
        refine lv_aload_n hx hb dX3_fits_48 rfl (lv_at hl 0 rfl) ?_
        refine lv_iload_n hx hb dX3_fits_49 rfl (lv_at hl 1 rfl) ?_
        refine lv_iload hx hb dX3_fits_50 (lv_at hl 4 rfl) ?_
        obtain ⟨v3, hv3, hf⟩ := ob_s hf
        refine mc_X3_X3_doesFit S hC hK hP hv3 hl.1 ⟨Nat.le_of_ble_eq_true rfl, Nat.le_of_ble_eq_true rfl⟩ (Nat.le_of_ble_eq_true rfl) ⟨Nat.zero_le _, Nat.zero_le _⟩ dX3_fits_52 (fun hnv3 => ?_)
        refine lv_if_eq (tgt := 96) hx hb dX3_fits_55 (by decide) (fun c4 => ?_) (fun c4 => ?_)
        · replace hf := it_t c4 hf
          refine lv_iconst hx hb dX3_fits_96 kc_i0 ?_
          refine lv_ior hx hb dX3_fits_97 ?_
          refine lv_istore_n (i := 3) (lv' := [(3, .int (x3 ||| 0)), (0, .ref o), (1, .int x1), (2, .int x2), (4, .int x4)]) hx hb dX3_fits_98 rfl hl (by decide) rfl (fun ls hl => ?_)
          refine lv_iinc (v := (x4 + 1)) (lv' := [(4, .int (x4 + 1)), (3, .int (x3 ||| 0)), (0, .ref o), (1, .int x1), (2, .int x2)]) hx hb dX3_fits_99 hl (k := 4) rfl rfl (by decide) rfl (fun ls hl => ?_)
          refine lv_goto (tgt := 34) hx hb dX3_fits_102 (by decide) ?_
          exact (ih) x1 x2 (x3 ||| 0) (x4 + 1) th st ls H locs hP hS (lv_sub (l' := [(0, .ref o), (1, .int x1), (2, .int x2), (3, .int (x3 ||| 0)), (4, .int (x4 + 1))]) hl [2, 3, 4, 1, 0] rfl) hf
        · replace hf := it_f c4 hf
          refine lv_iload_n hx hb dX3_fits_58 rfl (lv_at hl 2 rfl) ?_
          refine lv_if_eq (tgt := 89) hx hb dX3_fits_59 (by decide) (fun c5 => ?_) (fun c5 => ?_)
          · replace hf := it_t c5 hf
            refine lv_iconst hx hb dX3_fits_89 kc_i1 ?_
            refine lv_iload hx hb dX3_fits_90 (lv_at hl 4 rfl) ?_
            refine lv_ishl hx hb dX3_fits_92 ?_
            refine lv_goto (tgt := 97) hx hb dX3_fits_93 (by decide) ?_
            refine lv_ior hx hb dX3_fits_97 ?_
            refine lv_istore_n (i := 3) (lv' := [(3, .int (x3 ||| (1 <<< (x4 &&& 31)))), (0, .ref o), (1, .int x1), (2, .int x2), (4, .int x4)]) hx hb dX3_fits_98 rfl hl (by decide) rfl (fun ls hl => ?_)
            refine lv_iinc (v := (x4 + 1)) (lv' := [(4, .int (x4 + 1)), (3, .int (x3 ||| (1 <<< (x4 &&& 31)))), (0, .ref o), (1, .int x1), (2, .int x2)]) hx hb dX3_fits_99 hl (k := 4) rfl rfl (by decide) rfl (fun ls hl => ?_)
            refine lv_goto (tgt := 34) hx hb dX3_fits_102 (by decide) ?_
            exact (ih) x1 x2 (x3 ||| (1 <<< (x4 &&& 31))) (x4 + 1) th st ls H locs hP hS (lv_sub (l' := [(0, .ref o), (1, .int x1), (2, .int x2), (3, .int (x3 ||| (1 <<< (x4 &&& 31)))), (4, .int (x4 + 1))]) hl [2, 3, 4, 1, 0] rfl) hf
          · replace hf := it_f c5 hf
            refine lv_iload_n hx hb dX3_fits_62 rfl (lv_at hl 2 rfl) ?_
            refine lv_iconst hx hb dX3_fits_63 kc_i1 ?_
            refine lv_icmp_ne (tgt := 79) hx hb dX3_fits_64 (by decide) (fun c6 => ?_) (fun c6 => ?_)
            · replace hf := it_f c6 hf
              refine lv_aload_n hx hb dX3_fits_79 rfl (lv_at hl 0 rfl) ?_
              refine lv_iload_n hx hb dX3_fits_80 rfl (lv_at hl 1 rfl) ?_
              refine lv_iload hx hb dX3_fits_81 (lv_at hl 4 rfl) ?_
              obtain ⟨v7, hv7, hf⟩ := ob_s hf
              refine mc_X3_X3_wouldTake S hC hK hP hv7 hl.1 ⟨Nat.le_of_ble_eq_true rfl, Nat.le_of_ble_eq_true rfl⟩ (Nat.le_of_ble_eq_true rfl) ⟨Nat.zero_le _, Nat.zero_le _⟩ dX3_fits_83 (fun hnv7 => ?_)
              refine lv_if_eq (tgt := 96) hx hb dX3_fits_86 (by decide) (fun c8 => ?_) (fun c8 => ?_)
              · replace hf := it_t c8 hf
                refine lv_iconst hx hb dX3_fits_96 kc_i0 ?_
                refine lv_ior hx hb dX3_fits_97 ?_
                refine lv_istore_n (i := 3) (lv' := [(3, .int (x3 ||| 0)), (0, .ref o), (1, .int x1), (2, .int x2), (4, .int x4)]) hx hb dX3_fits_98 rfl hl (by decide) rfl (fun ls hl => ?_)
                refine lv_iinc (v := (x4 + 1)) (lv' := [(4, .int (x4 + 1)), (3, .int (x3 ||| 0)), (0, .ref o), (1, .int x1), (2, .int x2)]) hx hb dX3_fits_99 hl (k := 4) rfl rfl (by decide) rfl (fun ls hl => ?_)
                refine lv_goto (tgt := 34) hx hb dX3_fits_102 (by decide) ?_
                exact (ih) x1 x2 (x3 ||| 0) (x4 + 1) th st ls H locs hP hS (lv_sub (l' := [(0, .ref o), (1, .int x1), (2, .int x2), (3, .int (x3 ||| 0)), (4, .int (x4 + 1))]) hl [2, 3, 4, 1, 0] rfl) hf
              · replace hf := it_f c8 hf
                refine lv_iconst hx hb dX3_fits_89 kc_i1 ?_
                refine lv_iload hx hb dX3_fits_90 (lv_at hl 4 rfl) ?_
                refine lv_ishl hx hb dX3_fits_92 ?_
                refine lv_goto (tgt := 97) hx hb dX3_fits_93 (by decide) ?_
                refine lv_ior hx hb dX3_fits_97 ?_
                refine lv_istore_n (i := 3) (lv' := [(3, .int (x3 ||| (1 <<< (x4 &&& 31)))), (0, .ref o), (1, .int x1), (2, .int x2), (4, .int x4)]) hx hb dX3_fits_98 rfl hl (by decide) rfl (fun ls hl => ?_)
                refine lv_iinc (v := (x4 + 1)) (lv' := [(4, .int (x4 + 1)), (3, .int (x3 ||| (1 <<< (x4 &&& 31)))), (0, .ref o), (1, .int x1), (2, .int x2)]) hx hb dX3_fits_99 hl (k := 4) rfl rfl (by decide) rfl (fun ls hl => ?_)
                refine lv_goto (tgt := 34) hx hb dX3_fits_102 (by decide) ?_
                exact (ih) x1 x2 (x3 ||| (1 <<< (x4 &&& 31))) (x4 + 1) th st ls H locs hP hS (lv_sub (l' := [(0, .ref o), (1, .int x1), (2, .int x2), (3, .int (x3 ||| (1 <<< (x4 &&& 31)))), (4, .int (x4 + 1))]) hl [2, 3, 4, 1, 0] rfl) hf
            · replace hf := it_t c6 hf
              refine lv_aload_n hx hb dX3_fits_67 rfl (lv_at hl 0 rfl) ?_
              refine lv_iload hx hb dX3_fits_68 (lv_at hl 4 rfl) ?_
              obtain ⟨v9, hv9, hf⟩ := ob_s hf
              refine mc_X3_X3_isFree S hC hK hP hv9 hl.1 ⟨Nat.le_of_ble_eq_true rfl, Nat.le_of_ble_eq_true rfl⟩ (Nat.le_of_ble_eq_true rfl) ⟨Nat.zero_le _, Nat.zero_le _⟩ dX3_fits_70 (fun hnv9 => ?_)
              refine lv_if_eq (tgt := 96) hx hb dX3_fits_73 (by decide) (fun c10 => ?_) (fun c10 => ?_)
              · replace hf := it_t c10 hf
                refine lv_iconst hx hb dX3_fits_96 kc_i0 ?_
                refine lv_ior hx hb dX3_fits_97 ?_
                refine lv_istore_n (i := 3) (lv' := [(3, .int (x3 ||| 0)), (0, .ref o), (1, .int x1), (2, .int x2), (4, .int x4)]) hx hb dX3_fits_98 rfl hl (by decide) rfl (fun ls hl => ?_)
                refine lv_iinc (v := (x4 + 1)) (lv' := [(4, .int (x4 + 1)), (3, .int (x3 ||| 0)), (0, .ref o), (1, .int x1), (2, .int x2)]) hx hb dX3_fits_99 hl (k := 4) rfl rfl (by decide) rfl (fun ls hl => ?_)
                refine lv_goto (tgt := 34) hx hb dX3_fits_102 (by decide) ?_
                exact (ih) x1 x2 (x3 ||| 0) (x4 + 1) th st ls H locs hP hS (lv_sub (l' := [(0, .ref o), (1, .int x1), (2, .int x2), (3, .int (x3 ||| 0)), (4, .int (x4 + 1))]) hl [2, 3, 4, 1, 0] rfl) hf
              · replace hf := it_f c10 hf
                refine lv_goto (tgt := 89) hx hb dX3_fits_76 (by decide) ?_
                refine lv_iconst hx hb dX3_fits_89 kc_i1 ?_
                refine lv_iload hx hb dX3_fits_90 (lv_at hl 4 rfl) ?_
                refine lv_ishl hx hb dX3_fits_92 ?_
                refine lv_goto (tgt := 97) hx hb dX3_fits_93 (by decide) ?_
                refine lv_ior hx hb dX3_fits_97 ?_
                refine lv_istore_n (i := 3) (lv' := [(3, .int (x3 ||| (1 <<< (x4 &&& 31)))), (0, .ref o), (1, .int x1), (2, .int x2), (4, .int x4)]) hx hb dX3_fits_98 rfl hl (by decide) rfl (fun ls hl => ?_)
                refine lv_iinc (v := (x4 + 1)) (lv' := [(4, .int (x4 + 1)), (3, .int (x3 ||| (1 <<< (x4 &&& 31)))), (0, .ref o), (1, .int x1), (2, .int x2)]) hx hb dX3_fits_99 hl (k := 4) rfl rfl (by decide) rfl (fun ls hl => ?_)
                refine lv_goto (tgt := 34) hx hb dX3_fits_102 (by decide) ?_
                exact (ih) x1 x2 (x3 ||| (1 <<< (x4 &&& 31))) (x4 + 1) th st ls H locs hP hS (lv_sub (l' := [(0, .ref o), (1, .int x1), (2, .int x2), (3, .int (x3 ||| (1 <<< (x4 &&& 31)))), (4, .int (x4 + 1))]) hl [2, 3, 4, 1, 0] rfl) hf
  suffices hg : ∀ (H : Heap) (locs : List Loc), va_P D cl (mW mi cI cJ cB o ad th tp st fk fp ac si fr tt kd nu fa pl fo wd ci gr lm om nw rd aa kp ta nm rn gv gt rw rh lg lh ou) H → va_S (mA o ad) s.heap H locs → W p l e (rM 4 88) s m ([.ref o, .int a0, .int a1] : List Value).toArray below meth c H locs 0 0 (MQ below (gQ D cl (some (.int out.1)) True (mW mi cI cJ cB o ad out.2.1 tp out.2.2 fk fp ac si fr tt kd nu fa pl fo wd ci gr lm om nw rd aa kp ta nm rn gv gt rw rh lg lh ou) (mA o ad)) ([.ref o, .int a0, .int a1] : List Value).toArray s 0 0 (mA o ad)) (F0 m 0 ls []) from hg s.heap [] hP va_S.rf
  clear hP
  intro H locs hP hS
  rw [f_X3_fits] at hf
  refine lv_iload_n hx hb dX3_fits_0 rfl (lv_at hl 2 rfl) ?_
  refine lv_iconst hx hb dX3_fits_1 kc_i0 ?_
  refine lv_iconst hx hb dX3_fits_2 kc_i2 ?_
  obtain ⟨v1, hv1, hf⟩ := ob_s hf
  refine mc_X3_X3_isFrom S hK hv1 hl.1 ⟨Nat.le_of_ble_eq_true rfl, Nat.le_of_ble_eq_true rfl⟩ (Nat.le_of_ble_eq_true rfl) ⟨Nat.zero_le _, Nat.zero_le _⟩ dX3_fits_3 (fun hnv1 => ?_)
  refine lv_if_ne (tgt := 15) hx hb dX3_fits_6 (by decide) (fun c2 => ?_) (fun c2 => ?_)
  · replace hf := it_f c2 hf
    refine lv_aload_n hx hb dX3_fits_15 rfl (lv_at hl 0 rfl) ?_
    refine lv_iload_n hx hb dX3_fits_16 rfl (lv_at hl 1 rfl) ?_
    obtain ⟨v3, hv3, hf⟩ := ob_s hf
    refine mc_X3_X3_isHouse S hC hK hP hv3 hl.1 ⟨Nat.le_of_ble_eq_true rfl, Nat.le_of_ble_eq_true rfl⟩ (Nat.le_of_ble_eq_true rfl) ⟨Nat.zero_le _, Nat.zero_le _⟩ dX3_fits_17 (fun hnv3 => ?_)
    refine lv_if_ne (tgt := 29) hx hb dX3_fits_20 (by decide) (fun c4 => ?_) (fun c4 => ?_)
    · replace hf := it_f c4 hf
      refine lv_iconst hx hb dX3_fits_29 kc_i0 ?_
      refine lv_istore_n (i := 3) (lv' := [(3, .int 0), (0, .ref o), (1, .int a0), (2, .int a1)]) hx hb dX3_fits_30 rfl hl (by decide) rfl (fun ls hl => ?_)
      refine lv_iconst hx hb dX3_fits_31 kc_i0 ?_
      refine lv_istore (lv' := [(4, .int 0), (3, .int 0), (0, .ref o), (1, .int a0), (2, .int a1)]) hx hb dX3_fits_32 hl (by decide) rfl (fun ls hl => ?_)
      exact (w34 FU) a0 a1 0 0 th st ls H locs hP hS (lv_sub (l' := [(0, .ref o), (1, .int a0), (2, .int a1), (3, .int 0), (4, .int 0)]) hl [2, 3, 4, 1, 0] rfl) hf
    · replace hf := it_t c4 hf
      refine lv_aload_n hx hb dX3_fits_23 rfl (lv_at hl 0 rfl) ?_
      refine lv_iconst hx hb dX3_fits_24 kc_i2 ?_
      obtain ⟨v5, hv5, hf⟩ := ob_s hf
      refine mc_X3_X3_refuse S hC hD hK hP hS hv5 hl.1 ⟨Nat.le_of_ble_eq_true rfl, Nat.le_of_ble_eq_true rfl⟩ (Nat.le_of_ble_eq_true rfl) ⟨Nat.zero_le _, Nat.zero_le _⟩ dX3_fits_25 (fun H locs _ hP hS => ?_)
      have hE := Option.some.inj hf
      subst hE
      exact gt_wi S hr hlocks trivial hP hS dX3_fits_28
  · replace hf := it_t c2 hf
    refine lv_aload_n hx hb dX3_fits_9 rfl (lv_at hl 0 rfl) ?_
    refine lv_iconst hx hb dX3_fits_10 kc_i1 ?_
    obtain ⟨v6, hv6, hf⟩ := ob_s hf
    refine mc_X3_X3_refuse S hC hD hK hP hS hv6 hl.1 ⟨Nat.le_of_ble_eq_true rfl, Nat.le_of_ble_eq_true rfl⟩ (Nat.le_of_ble_eq_true rfl) ⟨Nat.zero_le _, Nat.zero_le _⟩ dX3_fits_11 (fun H locs _ hP hS => ?_)
    have hE := Option.some.inj hf
    subst hE
    exact gt_wi S hr hlocks trivial hP hS dX3_fits_14
theorem hd_X3_lackOf : yX3_lackOf.cls = RX3 ∧ yX3_lackOf.cls ≠ "java/lang/invoke/MethodHandle" ∧ yX3_lackOf.cls ≠ "java/lang/invoke/VarHandle" ∧ (parseMethodDescriptor yX3_lackOf.desc).map (fun d => d.parameters.length) = some 1 := by decide +kernel
set_option maxHeartbeats 4000000 in
set_option maxRecDepth 100000 in
theorem mm_X3_lackOf {a0 : Int32} {out : Int32} (hC : mC cl tys mi cI cJ cB) (hf : f_X3_lackOf nw a0 = some out) : Met l yX3_lackOf (ws_ yX3_lackOf cX3_lackOf 4 (some .int)) (rM 3 64) (gPc D cl tys [.ref o, .int a0] (mW mi cI cJ cB o ad th tp st fk fp ac si fr tt kd nu fa pl fo wd ci gr lm om nw rd aa kp ta nm rn gv gt rw rh lg lh ou)) (gR (some (.int out)) True) 0 0 (fun _ => False) := by
  refine gGo (by decide +kernel) (Nat.le_of_ble_eq_true rfl) (fun p e s m below meth c ls S hr hlocks hK hP hl => ?_)
  have S : CallFix p m c cX3_lackOf 4 s _ lw_all RX3 := S
  obtain ⟨hx, hb, hml, hown, hts⟩ := id S
  have hl : lv_has ls 4 [(0, .ref o), (1, .int a0)] := hl
  have w50 : ∀ (n : Nat) , ∀ (x1 : Int32) (x2 : Int32) (x3 : Int32) (ls : Array Slot), lv_has ls 4 [(0, .ref o), (1, .int x1), (2, .int x2), (3, .int x3)] → f_X3_lackOf_50 n nw x1 x2 x3 = some out → W p l e (rM 3 64) s m ([.ref o, .int a0] : List Value).toArray below meth c s.heap [] 0 0 (MQ below (gR (some (.int out)) True) ([.ref o, .int a0] : List Value).toArray s 0 0 (fun _ => False)) (F0 m 50 ls []) := by
    intro n
    induction n with
    | zero =>
      intro x1 x2 x3 ls hl hf
      exact absurd hf (by rw [f_X3_lackOf_50]; exact nofun)
    | succ n ih =>
      intro x1 x2 x3 ls hl hf
      rw [f_X3_lackOf_50] at hf
      refine lv_iload_n hx hb dX3_lackOf_50 rfl (lv_at hl 3 rfl) ?_
      refine lv_aload_n hx hb dX3_lackOf_51 rfl (lv_at hl 0 rfl) ?_
      refine mg_1 S hC hK hP dX3_lackOf_52 ?_
      refine lv_sipush hx hb dX3_lackOf_55 kc_s230 ?_
      refine ma_1 S hC hK hP kv_230_390 kn_230 dX3_lackOf_58 ?_
      refine lv_icmp_ge (tgt := 94) hx hb dX3_lackOf_59 (by decide) (fun c1 => ?_) (fun c1 => ?_)
      · replace hf := it_t c1 hf
        refine lv_iload_n hx hb dX3_lackOf_94 rfl (lv_at hl 2 rfl) ?_
        have hE := Option.some.inj hf
        subst hE
        exact gt_ri S hr hlocks trivial dX3_lackOf_95
      · replace hf := it_f c1 hf
        refine lv_iload_n hx hb dX3_lackOf_62 rfl (lv_at hl 2 rfl) ?_
        refine lv_aload_n hx hb dX3_lackOf_63 rfl (lv_at hl 0 rfl) ?_
        refine lv_iload_n hx hb dX3_lackOf_64 rfl (lv_at hl 3 rfl) ?_
        obtain ⟨v2, hv2, hf⟩ := ob_s hf
        refine mc_X3_X3_isFree S hC hK hP hv2 hl.1 ⟨Nat.le_of_ble_eq_true rfl, Nat.le_of_ble_eq_true rfl⟩ (Nat.le_of_ble_eq_true rfl) ⟨Nat.zero_le _, Nat.zero_le _⟩ dX3_lackOf_65 (fun hnv2 => ?_)
        refine lv_if_eq (tgt := 85) hx hb dX3_lackOf_68 (by decide) (fun c3 => ?_) (fun c3 => ?_)
        · replace hf := it_t c3 hf
          refine lv_iconst hx hb dX3_lackOf_85 kc_i0 ?_
          refine lv_isub hx hb dX3_lackOf_86 ?_
          refine lv_istore_n (i := 2) (lv' := [(2, .int (x2 - 0)), (0, .ref o), (1, .int x1), (3, .int x3)]) hx hb dX3_lackOf_87 rfl hl (by decide) rfl (fun ls hl => ?_)
          refine lv_iinc (v := (x3 + 1)) (lv' := [(3, .int (x3 + 1)), (2, .int (x2 - 0)), (0, .ref o), (1, .int x1)]) hx hb dX3_lackOf_88 hl (k := 3) rfl rfl (by decide) rfl (fun ls hl => ?_)
          refine lv_goto (tgt := 50) hx hb dX3_lackOf_91 (by decide) ?_
          exact (ih) x1 (x2 - 0) (x3 + 1) ls (lv_sub (l' := [(0, .ref o), (1, .int x1), (2, .int (x2 - 0)), (3, .int (x3 + 1))]) hl [2, 3, 1, 0] rfl) hf
        · replace hf := it_f c3 hf
          refine lv_aload_n hx hb dX3_lackOf_71 rfl (lv_at hl 0 rfl) ?_
          refine lv_iload_n hx hb dX3_lackOf_72 rfl (lv_at hl 3 rfl) ?_
          refine lv_iconst hx hb dX3_lackOf_73 kc_i1 ?_
          obtain ⟨v4, hv4, hf⟩ := ob_s hf
          refine mc_X3_X3_home0 S hC hK hP hv4 hl.1 ⟨Nat.le_of_ble_eq_true rfl, Nat.le_of_ble_eq_true rfl⟩ (Nat.le_of_ble_eq_true rfl) ⟨Nat.zero_le _, Nat.zero_le _⟩ dX3_lackOf_74 (fun _ => ?_)
          refine lv_iload_n hx hb dX3_lackOf_77 rfl (lv_at hl 1 rfl) ?_
          refine lv_icmp_ne (tgt := 85) hx hb dX3_lackOf_78 (by decide) (fun c5 => ?_) (fun c5 => ?_)
          · replace hf := it_f c5 hf
            refine lv_iconst hx hb dX3_lackOf_85 kc_i0 ?_
            refine lv_isub hx hb dX3_lackOf_86 ?_
            refine lv_istore_n (i := 2) (lv' := [(2, .int (x2 - 0)), (0, .ref o), (1, .int x1), (3, .int x3)]) hx hb dX3_lackOf_87 rfl hl (by decide) rfl (fun ls hl => ?_)
            refine lv_iinc (v := (x3 + 1)) (lv' := [(3, .int (x3 + 1)), (2, .int (x2 - 0)), (0, .ref o), (1, .int x1)]) hx hb dX3_lackOf_88 hl (k := 3) rfl rfl (by decide) rfl (fun ls hl => ?_)
            refine lv_goto (tgt := 50) hx hb dX3_lackOf_91 (by decide) ?_
            exact (ih) x1 (x2 - 0) (x3 + 1) ls (lv_sub (l' := [(0, .ref o), (1, .int x1), (2, .int (x2 - 0)), (3, .int (x3 + 1))]) hl [2, 3, 1, 0] rfl) hf
          · replace hf := it_t c5 hf
            refine lv_iconst hx hb dX3_lackOf_81 kc_i1 ?_
            refine lv_goto (tgt := 86) hx hb dX3_lackOf_82 (by decide) ?_
            refine lv_isub hx hb dX3_lackOf_86 ?_
            refine lv_istore_n (i := 2) (lv' := [(2, .int (x2 - 1)), (0, .ref o), (1, .int x1), (3, .int x3)]) hx hb dX3_lackOf_87 rfl hl (by decide) rfl (fun ls hl => ?_)
            refine lv_iinc (v := (x3 + 1)) (lv' := [(3, .int (x3 + 1)), (2, .int (x2 - 1)), (0, .ref o), (1, .int x1)]) hx hb dX3_lackOf_88 hl (k := 3) rfl rfl (by decide) rfl (fun ls hl => ?_)
            refine lv_goto (tgt := 50) hx hb dX3_lackOf_91 (by decide) ?_
            exact (ih) x1 (x2 - 1) (x3 + 1) ls (lv_sub (l' := [(0, .ref o), (1, .int x1), (2, .int (x2 - 1)), (3, .int (x3 + 1))]) hl [2, 3, 1, 0] rfl) hf
  have w4 : ∀ (n : Nat) , ∀ (x1 : Int32) (x2 : Int32) (x3 : Int32) (ls : Array Slot), lv_has ls 4 [(0, .ref o), (1, .int x1), (2, .int x2), (3, .int x3)] → f_X3_lackOf_4 n nw x1 x2 x3 = some out → W p l e (rM 3 64) s m ([.ref o, .int a0] : List Value).toArray below meth c s.heap [] 0 0 (MQ below (gR (some (.int out)) True) ([.ref o, .int a0] : List Value).toArray s 0 0 (fun _ => False)) (F0 m 4 ls []) := by
    intro n
    induction n with
    | zero =>
      intro x1 x2 x3 ls hl hf
      exact absurd hf (by rw [f_X3_lackOf_4]; exact nofun)
    | succ n ih =>
      intro x1 x2 x3 ls hl hf
      rw [f_X3_lackOf_4] at hf
      refine lv_iload_n hx hb dX3_lackOf_4 rfl (lv_at hl 3 rfl) ?_
      refine lv_aload_n hx hb dX3_lackOf_5 rfl (lv_at hl 0 rfl) ?_
      refine mg_1 S hC hK hP dX3_lackOf_6 ?_
      refine lv_sipush hx hb dX3_lackOf_9 kc_s231 ?_
      refine ma_1 S hC hK hP kv_231_390 kn_231 dX3_lackOf_12 ?_
      refine lv_icmp_ge (tgt := 48) hx hb dX3_lackOf_13 (by decide) (fun c1 => ?_) (fun c1 => ?_)
      · replace hf := it_t c1 hf
        refine lv_iconst hx hb dX3_lackOf_48 kc_i0 ?_
        refine lv_istore_n (i := 3) (lv' := [(3, .int 0), (0, .ref o), (1, .int x1), (2, .int x2)]) hx hb dX3_lackOf_49 rfl hl (by decide) rfl (fun ls hl => ?_)
        exact (w50 FU) x1 x2 0 ls (lv_sub (l' := [(0, .ref o), (1, .int x1), (2, .int x2), (3, .int 0)]) hl [1, 2, 3, 0] rfl) hf
      · replace hf := it_f c1 hf
        refine lv_iload_n hx hb dX3_lackOf_16 rfl (lv_at hl 2 rfl) ?_
        refine lv_aload_n hx hb dX3_lackOf_17 rfl (lv_at hl 0 rfl) ?_
        refine lv_iload_n hx hb dX3_lackOf_18 rfl (lv_at hl 3 rfl) ?_
        obtain ⟨v2, hv2, hf⟩ := ob_s hf
        refine mc_X3_X3_isIn S hC hK hP hv2 hl.1 ⟨Nat.le_of_ble_eq_true rfl, Nat.le_of_ble_eq_true rfl⟩ (Nat.le_of_ble_eq_true rfl) ⟨Nat.zero_le _, Nat.zero_le _⟩ dX3_lackOf_19 (fun hnv2 => ?_)
        refine lv_if_eq (tgt := 39) hx hb dX3_lackOf_22 (by decide) (fun c3 => ?_) (fun c3 => ?_)
        · replace hf := it_t c3 hf
          refine lv_iconst hx hb dX3_lackOf_39 kc_i0 ?_
          refine lv_iadd hx hb dX3_lackOf_40 ?_
          refine lv_istore_n (i := 2) (lv' := [(2, .int (x2 + 0)), (0, .ref o), (1, .int x1), (3, .int x3)]) hx hb dX3_lackOf_41 rfl hl (by decide) rfl (fun ls hl => ?_)
          refine lv_iinc (v := (x3 + 1)) (lv' := [(3, .int (x3 + 1)), (2, .int (x2 + 0)), (0, .ref o), (1, .int x1)]) hx hb dX3_lackOf_42 hl (k := 3) rfl rfl (by decide) rfl (fun ls hl => ?_)
          refine lv_goto (tgt := 4) hx hb dX3_lackOf_45 (by decide) ?_
          exact (ih) x1 (x2 + 0) (x3 + 1) ls (lv_sub (l' := [(0, .ref o), (1, .int x1), (2, .int (x2 + 0)), (3, .int (x3 + 1))]) hl [2, 3, 1, 0] rfl) hf
        · replace hf := it_f c3 hf
          refine lv_aload_n hx hb dX3_lackOf_25 rfl (lv_at hl 0 rfl) ?_
          refine lv_iload_n hx hb dX3_lackOf_26 rfl (lv_at hl 3 rfl) ?_
          refine lv_iconst hx hb dX3_lackOf_27 kc_i2 ?_
          obtain ⟨v4, hv4, hf⟩ := ob_s hf
          refine mc_X3_X3_of S hC hK hP hv4 hl.1 ⟨Nat.le_of_ble_eq_true rfl, Nat.le_of_ble_eq_true rfl⟩ (Nat.le_of_ble_eq_true rfl) ⟨Nat.zero_le _, Nat.zero_le _⟩ dX3_lackOf_28 (fun _ => ?_)
          refine lv_iload_n hx hb dX3_lackOf_31 rfl (lv_at hl 1 rfl) ?_
          refine lv_icmp_ne (tgt := 39) hx hb dX3_lackOf_32 (by decide) (fun c5 => ?_) (fun c5 => ?_)
          · replace hf := it_f c5 hf
            refine lv_iconst hx hb dX3_lackOf_39 kc_i0 ?_
            refine lv_iadd hx hb dX3_lackOf_40 ?_
            refine lv_istore_n (i := 2) (lv' := [(2, .int (x2 + 0)), (0, .ref o), (1, .int x1), (3, .int x3)]) hx hb dX3_lackOf_41 rfl hl (by decide) rfl (fun ls hl => ?_)
            refine lv_iinc (v := (x3 + 1)) (lv' := [(3, .int (x3 + 1)), (2, .int (x2 + 0)), (0, .ref o), (1, .int x1)]) hx hb dX3_lackOf_42 hl (k := 3) rfl rfl (by decide) rfl (fun ls hl => ?_)
            refine lv_goto (tgt := 4) hx hb dX3_lackOf_45 (by decide) ?_
            exact (ih) x1 (x2 + 0) (x3 + 1) ls (lv_sub (l' := [(0, .ref o), (1, .int x1), (2, .int (x2 + 0)), (3, .int (x3 + 1))]) hl [2, 3, 1, 0] rfl) hf
          · replace hf := it_t c5 hf
            refine lv_iconst hx hb dX3_lackOf_35 kc_i1 ?_
            refine lv_goto (tgt := 40) hx hb dX3_lackOf_36 (by decide) ?_
            refine lv_iadd hx hb dX3_lackOf_40 ?_
            refine lv_istore_n (i := 2) (lv' := [(2, .int (x2 + 1)), (0, .ref o), (1, .int x1), (3, .int x3)]) hx hb dX3_lackOf_41 rfl hl (by decide) rfl (fun ls hl => ?_)
            refine lv_iinc (v := (x3 + 1)) (lv' := [(3, .int (x3 + 1)), (2, .int (x2 + 1)), (0, .ref o), (1, .int x1)]) hx hb dX3_lackOf_42 hl (k := 3) rfl rfl (by decide) rfl (fun ls hl => ?_)
            refine lv_goto (tgt := 4) hx hb dX3_lackOf_45 (by decide) ?_
            exact (ih) x1 (x2 + 1) (x3 + 1) ls (lv_sub (l' := [(0, .ref o), (1, .int x1), (2, .int (x2 + 1)), (3, .int (x3 + 1))]) hl [2, 3, 1, 0] rfl) hf
  rw [f_X3_lackOf] at hf
  refine lv_iconst hx hb dX3_lackOf_0 kc_i0 ?_
  refine lv_istore_n (i := 2) (lv' := [(2, .int 0), (0, .ref o), (1, .int a0)]) hx hb dX3_lackOf_1 rfl hl (by decide) rfl (fun ls hl => ?_)
  refine lv_iconst hx hb dX3_lackOf_2 kc_i0 ?_
  refine lv_istore_n (i := 3) (lv' := [(3, .int 0), (2, .int 0), (0, .ref o), (1, .int a0)]) hx hb dX3_lackOf_3 rfl hl (by decide) rfl (fun ls hl => ?_)
  exact (w4 FU) a0 0 0 ls (lv_sub (l' := [(0, .ref o), (1, .int a0), (2, .int 0), (3, .int 0)]) hl [2, 3, 1, 0] rfl) hf
set_option maxRecDepth 100000 in
theorem mc_X3_X3_lackOf {a0 : Int32} {out : Int32} (S : CallFix p m c cc nL s args lw_all RX3) (hC : mC cl tys mi cI cJ cB) (hK : va_K D cl tys s) (hP : va_P D cl (mW mi cI cJ cB o ad th tp st fk fp ac si fr tt kd nu fa pl fo wd ci gr lm om nw rd aa kp ta nm rn gv gt rw rh lg lh ou) H) (hf : f_X3_lackOf nw a0 = some out) (hsz : ls.size = nL) (hR : 3 + 1 ≤ R.frames ∧ 8 + (4 + 11) + 64 ≤ R.locals) (hW : (rest.map fun v => v.category).sum ≤ 8) (hcs : cells ≤ R.cells ∧ slots ≤ R.slots) (hdg : decode cc pc = .ok (.invokevirtual 357, 3)) (kk : True → W p l e R s m args below meth c H locs cells slots Q (F0 m (pc + 3) ls (.int out :: rest))) : W p l e R s m args below meth c H locs cells slots Q (F0 m pc ls (.int a0 :: .ref o :: rest)) :=
  gc_Vr (As := [.int a0]) S (mm_X3_lackOf hC hf) (cwV 1 S.2.2.2.2 (lw_V q2517 q2519 qs159 q189 q2520) rfl rfl rfl hd_X3_lackOf hR) (gPreV hK hP hC.1 (q0 := 0) rfl) rfl hsz rfl hW hdg hcs kk
theorem hd_X3_ward : yX3_ward.cls = RX3 ∧ yX3_ward.cls ≠ "java/lang/invoke/MethodHandle" ∧ yX3_ward.cls ≠ "java/lang/invoke/VarHandle" ∧ (parseMethodDescriptor yX3_ward.desc).map (fun d => d.parameters.length) = some 1 := by decide +kernel
set_option maxHeartbeats 4000000 in
set_option maxRecDepth 100000 in
theorem mm_X3_ward {a0 : Int32} {out : Int32 × Int32 × Int32} (hC : mC cl tys mi cI cJ cB) (hD : mD o ad) (hf : f_X3_ward nw th st a0 = some out) : Met l yX3_ward (ws_ yX3_ward cX3_ward 5 (some .int)) (rM 4 87) (gPc D cl tys [.ref o, .int a0] (mW mi cI cJ cB o ad th tp st fk fp ac si fr tt kd nu fa pl fo wd ci gr lm om nw rd aa kp ta nm rn gv gt rw rh lg lh ou)) (gQ D cl (some (.int out.1)) True (mW mi cI cJ cB o ad out.2.1 tp out.2.2 fk fp ac si fr tt kd nu fa pl fo wd ci gr lm om nw rd aa kp ta nm rn gv gt rw rh lg lh ou) (mA o ad)) 0 0 (mA o ad) := by
  refine gGo (by decide +kernel) (Nat.le_of_ble_eq_true rfl) (fun p e s m below meth c ls S hr hlocks hK hP hl => ?_)
  have S : CallFix p m c cX3_ward 5 s _ lw_all RX3 := S
  obtain ⟨hx, hb, hml, hown, hts⟩ := id S
  have hl : lv_has ls 5 [(0, .ref o), (1, .int a0)] := hl
  have w103 : ∀ (y1 : Int32) (th : Int32) (st : Int32) (ls : Array Slot) (H : Heap) (locs : List Loc), va_P D cl (mW mi cI cJ cB o ad th tp st fk fp ac si fr tt kd nu fa pl fo wd ci gr lm om nw rd aa kp ta nm rn gv gt rw rh lg lh ou) H → va_S (mA o ad) s.heap H locs → lv_has ls 5 [] → f_X3_ward_103 nw y1 th st = some out → W p l e (rM 4 87) s m ([.ref o, .int a0] : List Value).toArray below meth c H locs 0 0 (MQ below (gQ D cl (some (.int out.1)) True (mW mi cI cJ cB o ad out.2.1 tp out.2.2 fk fp ac si fr tt kd nu fa pl fo wd ci gr lm om nw rd aa kp ta nm rn gv gt rw rh lg lh ou) (mA o ad)) ([.ref o, .int a0] : List Value).toArray s 0 0 (mA o ad)) (F0 m 103 ls [.int y1, .ref o]) := by
    intro y1 th st ls H locs hP hS hl hf
    rw [f_X3_ward_103] at hf
    obtain ⟨v1, hv1, hf⟩ := ob_s hf
    refine mc_X3_X3_gives S hC hD hK hP hS hv1 hl.1 ⟨Nat.le_of_ble_eq_true rfl, Nat.le_of_ble_eq_true rfl⟩ (Nat.le_of_ble_eq_true rfl) ⟨Nat.zero_le _, Nat.zero_le _⟩ dX3_ward_103 (fun H locs _ hP hS => ?_)
    have hE := Option.some.inj hf
    subst hE
    exact gt_wi S hr hlocks trivial hP hS dX3_ward_106
  have w21 : ∀ (n : Nat) , ∀ (x1 : Int32) (x2 : Int32) (x3 : Int32) (th : Int32) (st : Int32) (ls : Array Slot) (H : Heap) (locs : List Loc), va_P D cl (mW mi cI cJ cB o ad th tp st fk fp ac si fr tt kd nu fa pl fo wd ci gr lm om nw rd aa kp ta nm rn gv gt rw rh lg lh ou) H → va_S (mA o ad) s.heap H locs → lv_has ls 5 [(0, .ref o), (1, .int x1), (2, .int x2), (3, .int x3)] → f_X3_ward_21 n nw x1 x2 x3 th st = some out → W p l e (rM 4 87) s m ([.ref o, .int a0] : List Value).toArray below meth c H locs 0 0 (MQ below (gQ D cl (some (.int out.1)) True (mW mi cI cJ cB o ad out.2.1 tp out.2.2 fk fp ac si fr tt kd nu fa pl fo wd ci gr lm om nw rd aa kp ta nm rn gv gt rw rh lg lh ou) (mA o ad)) ([.ref o, .int a0] : List Value).toArray s 0 0 (mA o ad)) (F0 m 21 ls []) := by
    intro n
    induction n with
    | zero =>
      intro x1 x2 x3 th st ls H locs hP hS hl hf
      exact absurd hf (by rw [f_X3_ward_21]; exact nofun)
    | succ n ih =>
      intro x1 x2 x3 th st ls H locs hP hS hl hf
      rw [f_X3_ward_21] at hf
      refine lv_iload_n hx hb dX3_ward_21 rfl (lv_at hl 3 rfl) ?_
      refine lv_aload_n hx hb dX3_ward_22 rfl (lv_at hl 0 rfl) ?_
      refine mg_1 S hC hK hP dX3_ward_23 ?_
      refine lv_sipush hx hb dX3_ward_26 kc_s230 ?_
      refine ma_1 S hC hK hP kv_230_390 kn_230 dX3_ward_29 ?_
      refine lv_icmp_ge (tgt := 89) hx hb dX3_ward_30 (by decide) (fun c1 => ?_) (fun c1 => ?_)
      · replace hf := it_t c1 hf
        refine lv_aload_n hx hb dX3_ward_89 rfl (lv_at hl 0 rfl) ?_
        refine lv_iload_n hx hb dX3_ward_90 rfl (lv_at hl 1 rfl) ?_
        refine lv_if_eq (tgt := 102) hx hb dX3_ward_91 (by decide) (fun c2 => ?_) (fun c2 => ?_)
        · replace hf := it_t c2 hf
          refine lv_iload_n hx hb dX3_ward_102 rfl (lv_at hl 2 rfl) ?_
          exact (w103) x2 th st ls H locs hP hS (lv_sub (l' := []) hl [] rfl) hf
        · replace hf := it_f c2 hf
          refine lv_aload_n hx hb dX3_ward_94 rfl (lv_at hl 0 rfl) ?_
          refine lv_iload_n hx hb dX3_ward_95 rfl (lv_at hl 2 rfl) ?_
          obtain ⟨v3, hv3, hf⟩ := ob_s hf
          refine mc_X3_X3_lackOf S hC hK hP hv3 hl.1 ⟨Nat.le_of_ble_eq_true rfl, Nat.le_of_ble_eq_true rfl⟩ (Nat.le_of_ble_eq_true rfl) ⟨Nat.zero_le _, Nat.zero_le _⟩ dX3_ward_96 (fun _ => ?_)
          refine lv_goto (tgt := 103) hx hb dX3_ward_99 (by decide) ?_
          exact (w103) v3 th st ls H locs hP hS (lv_sub (l' := []) hl [] rfl) hf
      · replace hf := it_f c1 hf
        refine lv_aload_n hx hb dX3_ward_33 rfl (lv_at hl 0 rfl) ?_
        refine lv_iload_n hx hb dX3_ward_34 rfl (lv_at hl 3 rfl) ?_
        refine lv_iconst hx hb dX3_ward_35 kc_i1 ?_
        obtain ⟨v4, hv4, hf⟩ := ob_s hf
        refine mc_X3_X3_home0 S hC hK hP hv4 hl.1 ⟨Nat.le_of_ble_eq_true rfl, Nat.le_of_ble_eq_true rfl⟩ (Nat.le_of_ble_eq_true rfl) ⟨Nat.zero_le _, Nat.zero_le _⟩ dX3_ward_36 (fun _ => ?_)
        refine lv_istore (lv' := [(4, .int v4), (0, .ref o), (1, .int x1), (2, .int x2), (3, .int x3)]) hx hb dX3_ward_39 hl (by decide) rfl (fun ls hl => ?_)
        refine lv_iload_n hx hb dX3_ward_41 rfl (lv_at hl 3 rfl) ?_
        refine lv_iconst hx hb dX3_ward_42 kc_im1 ?_
        refine lv_icmp_eq (tgt := 80) hx hb dX3_ward_43 (by decide) (fun c5 => ?_) (fun c5 => ?_)
        · replace hf := it_t c5 hf
          refine lv_iload hx hb dX3_ward_80 (lv_at hl 0 rfl) ?_
          refine lv_istore_n (i := 2) (lv' := [(2, .int v4), (4, .int v4), (0, .ref o), (1, .int x1), (3, .int x3)]) hx hb dX3_ward_82 rfl hl (by decide) rfl (fun ls hl => ?_)
          refine lv_iinc (v := (x3 + 1)) (lv' := [(3, .int (x3 + 1)), (2, .int v4), (4, .int v4), (0, .ref o), (1, .int x1)]) hx hb dX3_ward_83 hl (k := 4) rfl rfl (by decide) rfl (fun ls hl => ?_)
          refine lv_goto (tgt := 21) hx hb dX3_ward_86 (by decide) ?_
          exact (ih) x1 v4 (x3 + 1) th st ls H locs hP hS (lv_sub (l' := [(0, .ref o), (1, .int x1), (2, .int v4), (3, .int (x3 + 1))]) hl [3, 4, 1, 0] rfl) hf
        · replace hf := it_f c5 hf
          refine lv_aload_n hx hb dX3_ward_46 rfl (lv_at hl 1 rfl) ?_
          refine lv_iload hx hb dX3_ward_47 (lv_at hl 0 rfl) ?_
          obtain ⟨v6, hv6, hf⟩ := ob_s hf
          refine mc_X3_X3_lackOf S hC hK hP hv6 hl.1 ⟨Nat.le_of_ble_eq_true rfl, Nat.le_of_ble_eq_true rfl⟩ (Nat.le_of_ble_eq_true rfl) ⟨Nat.zero_le _, Nat.zero_le _⟩ dX3_ward_49 (fun _ => ?_)
          refine lv_aload_n hx hb dX3_ward_52 rfl (lv_at hl 1 rfl) ?_
          refine lv_iload_n hx hb dX3_ward_53 rfl (lv_at hl 3 rfl) ?_
          obtain ⟨v7, hv7, hf⟩ := ob_s hf
          refine mc_X3_X3_lackOf S hC hK hP hv7 hl.1 ⟨Nat.le_of_ble_eq_true rfl, Nat.le_of_ble_eq_true rfl⟩ (Nat.le_of_ble_eq_true rfl) ⟨Nat.zero_le _, Nat.zero_le _⟩ dX3_ward_54 (fun _ => ?_)
          refine lv_icmp_gt (tgt := 80) hx hb dX3_ward_57 (by decide) (fun c8 => ?_) (fun c8 => ?_)
          · replace hf := it_t c8 hf
            refine lv_iload hx hb dX3_ward_80 (lv_at hl 0 rfl) ?_
            refine lv_istore_n (i := 2) (lv' := [(2, .int v4), (4, .int v4), (0, .ref o), (1, .int x1), (3, .int x3)]) hx hb dX3_ward_82 rfl hl (by decide) rfl (fun ls hl => ?_)
            refine lv_iinc (v := (x3 + 1)) (lv' := [(3, .int (x3 + 1)), (2, .int v4), (4, .int v4), (0, .ref o), (1, .int x1)]) hx hb dX3_ward_83 hl (k := 4) rfl rfl (by decide) rfl (fun ls hl => ?_)
            refine lv_goto (tgt := 21) hx hb dX3_ward_86 (by decide) ?_
            exact (ih) x1 v4 (x3 + 1) th st ls H locs hP hS (lv_sub (l' := [(0, .ref o), (1, .int x1), (2, .int v4), (3, .int (x3 + 1))]) hl [3, 4, 1, 0] rfl) hf
          · replace hf := it_f c8 hf
            refine lv_aload_n hx hb dX3_ward_60 rfl (lv_at hl 1 rfl) ?_
            refine lv_iload hx hb dX3_ward_61 (lv_at hl 0 rfl) ?_
            obtain ⟨v9, hv9, hf⟩ := ob_s hf
            refine mc_X3_X3_lackOf S hC hK hP hv9 hl.1 ⟨Nat.le_of_ble_eq_true rfl, Nat.le_of_ble_eq_true rfl⟩ (Nat.le_of_ble_eq_true rfl) ⟨Nat.zero_le _, Nat.zero_le _⟩ dX3_ward_63 (fun _ => ?_)
            refine lv_aload_n hx hb dX3_ward_66 rfl (lv_at hl 1 rfl) ?_
            refine lv_iload_n hx hb dX3_ward_67 rfl (lv_at hl 3 rfl) ?_
            obtain ⟨v10, hv10, hf⟩ := ob_s hf
            refine mc_X3_X3_lackOf S hC hK hP hv10 hl.1 ⟨Nat.le_of_ble_eq_true rfl, Nat.le_of_ble_eq_true rfl⟩ (Nat.le_of_ble_eq_true rfl) ⟨Nat.zero_le _, Nat.zero_le _⟩ dX3_ward_68 (fun _ => ?_)
            refine lv_icmp_ne (tgt := 83) hx hb dX3_ward_71 (by decide) (fun c11 => ?_) (fun c11 => ?_)
            · replace hf := it_f c11 hf
              refine lv_iinc (v := (x3 + 1)) (lv' := [(3, .int (x3 + 1)), (4, .int v4), (0, .ref o), (1, .int x1), (2, .int x2)]) hx hb dX3_ward_83 hl (k := 4) rfl rfl (by decide) rfl (fun ls hl => ?_)
              refine lv_goto (tgt := 21) hx hb dX3_ward_86 (by decide) ?_
              exact (ih) x1 x2 (x3 + 1) th st ls H locs hP hS (lv_sub (l' := [(0, .ref o), (1, .int x1), (2, .int x2), (3, .int (x3 + 1))]) hl [2, 3, 4, 0] rfl) hf
            · replace hf := it_t c11 hf
              refine lv_iload hx hb dX3_ward_74 (lv_at hl 0 rfl) ?_
              refine lv_iload_n hx hb dX3_ward_76 rfl (lv_at hl 3 rfl) ?_
              refine lv_icmp_ge (tgt := 83) hx hb dX3_ward_77 (by decide) (fun c12 => ?_) (fun c12 => ?_)
              · replace hf := it_t c12 hf
                refine lv_iinc (v := (x3 + 1)) (lv' := [(3, .int (x3 + 1)), (4, .int v4), (0, .ref o), (1, .int x1), (2, .int x2)]) hx hb dX3_ward_83 hl (k := 4) rfl rfl (by decide) rfl (fun ls hl => ?_)
                refine lv_goto (tgt := 21) hx hb dX3_ward_86 (by decide) ?_
                exact (ih) x1 x2 (x3 + 1) th st ls H locs hP hS (lv_sub (l' := [(0, .ref o), (1, .int x1), (2, .int x2), (3, .int (x3 + 1))]) hl [2, 3, 4, 0] rfl) hf
              · replace hf := it_f c12 hf
                refine lv_iload hx hb dX3_ward_80 (lv_at hl 0 rfl) ?_
                refine lv_istore_n (i := 2) (lv' := [(2, .int v4), (4, .int v4), (0, .ref o), (1, .int x1), (3, .int x3)]) hx hb dX3_ward_82 rfl hl (by decide) rfl (fun ls hl => ?_)
                refine lv_iinc (v := (x3 + 1)) (lv' := [(3, .int (x3 + 1)), (2, .int v4), (4, .int v4), (0, .ref o), (1, .int x1)]) hx hb dX3_ward_83 hl (k := 4) rfl rfl (by decide) rfl (fun ls hl => ?_)
                refine lv_goto (tgt := 21) hx hb dX3_ward_86 (by decide) ?_
                exact (ih) x1 v4 (x3 + 1) th st ls H locs hP hS (lv_sub (l' := [(0, .ref o), (1, .int x1), (2, .int v4), (3, .int (x3 + 1))]) hl [3, 4, 1, 0] rfl) hf
  suffices hg : ∀ (H : Heap) (locs : List Loc), va_P D cl (mW mi cI cJ cB o ad th tp st fk fp ac si fr tt kd nu fa pl fo wd ci gr lm om nw rd aa kp ta nm rn gv gt rw rh lg lh ou) H → va_S (mA o ad) s.heap H locs → W p l e (rM 4 87) s m ([.ref o, .int a0] : List Value).toArray below meth c H locs 0 0 (MQ below (gQ D cl (some (.int out.1)) True (mW mi cI cJ cB o ad out.2.1 tp out.2.2 fk fp ac si fr tt kd nu fa pl fo wd ci gr lm om nw rd aa kp ta nm rn gv gt rw rh lg lh ou) (mA o ad)) ([.ref o, .int a0] : List Value).toArray s 0 0 (mA o ad)) (F0 m 0 ls []) from hg s.heap [] hP va_S.rf
  clear hP
  intro H locs hP hS
  rw [f_X3_ward] at hf
  refine lv_aload_n hx hb dX3_ward_0 rfl (lv_at hl 0 rfl) ?_
  refine mg_1 S hC hK hP dX3_ward_1 ?_
  refine lv_sipush hx hb dX3_ward_4 kc_s230 ?_
  refine ma_1 S hC hK hP kv_230_390 kn_230 dX3_ward_7 ?_
  refine lv_if_ne (tgt := 17) hx hb dX3_ward_8 (by decide) (fun c1 => ?_) (fun c1 => ?_)
  · replace hf := it_f c1 hf
    refine lv_iconst hx hb dX3_ward_17 kc_im1 ?_
    refine lv_istore_n (i := 2) (lv' := [(2, .int (-1)), (0, .ref o), (1, .int a0)]) hx hb dX3_ward_18 rfl hl (by decide) rfl (fun ls hl => ?_)
    refine lv_iconst hx hb dX3_ward_19 kc_i0 ?_
    refine lv_istore_n (i := 3) (lv' := [(3, .int 0), (2, .int (-1)), (0, .ref o), (1, .int a0)]) hx hb dX3_ward_20 rfl hl (by decide) rfl (fun ls hl => ?_)
    exact (w21 FU) a0 (-1) 0 th st ls H locs hP hS (lv_sub (l' := [(0, .ref o), (1, .int a0), (2, .int (-1)), (3, .int 0)]) hl [2, 3, 1, 0] rfl) hf
  · replace hf := it_t c1 hf
    refine lv_aload_n hx hb dX3_ward_11 rfl (lv_at hl 0 rfl) ?_
    refine lv_iconst hx hb dX3_ward_12 kc_i5 ?_
    obtain ⟨v2, hv2, hf⟩ := ob_s hf
    refine mc_X3_X3_refuse S hC hD hK hP hS hv2 hl.1 ⟨Nat.le_of_ble_eq_true rfl, Nat.le_of_ble_eq_true rfl⟩ (Nat.le_of_ble_eq_true rfl) ⟨Nat.zero_le _, Nat.zero_le _⟩ dX3_ward_13 (fun H locs _ hP hS => ?_)
    have hE := Option.some.inj hf
    subst hE
    exact gt_wi S hr hlocks trivial hP hS dX3_ward_16
theorem hd_X3_isRather : yX3_isRather.cls = RX3 ∧ yX3_isRather.cls ≠ "java/lang/invoke/MethodHandle" ∧ yX3_isRather.cls ≠ "java/lang/invoke/VarHandle" ∧ (parseMethodDescriptor yX3_isRather.desc).map (fun d => d.parameters.length) = some 2 := by decide +kernel
set_option maxHeartbeats 4000000 in
set_option maxRecDepth 100000 in
theorem mm_X3_isRather {a0 : Int32} {a1 : Int32} {out : Int32} (hC : mC cl tys mi cI cJ cB) (hf : f_X3_isRather nw a0 a1 = some out) : Met l yX3_isRather (ws_ yX3_isRather cX3_isRather 5 (some .boolean)) (rM 3 66) (gPc D cl tys [.ref o, .int a0, .int a1] (mW mi cI cJ cB o ad th tp st fk fp ac si fr tt kd nu fa pl fo wd ci gr lm om nw rd aa kp ta nm rn gv gt rw rh lg lh ou)) (gR (some (.int out)) (narrow .boolean (.int out) = .int out)) 0 0 (fun _ => False) := by
  refine gGo (by decide +kernel) (Nat.le_of_ble_eq_true rfl) (fun p e s m below meth c ls S hr hlocks hK hP hl => ?_)
  have S : CallFix p m c cX3_isRather 5 s _ lw_all RX3 := S
  obtain ⟨hx, hb, hml, hown, hts⟩ := id S
  have hl : lv_has ls 5 [(0, .ref o), (1, .int a0), (2, .int a1)] := hl
  rw [f_X3_isRather] at hf
  refine lv_aload_n hx hb dX3_isRather_0 rfl (lv_at hl 0 rfl) ?_
  refine lv_iload_n hx hb dX3_isRather_1 rfl (lv_at hl 1 rfl) ?_
  refine lv_iload_n hx hb dX3_isRather_2 rfl (lv_at hl 2 rfl) ?_
  obtain ⟨v1, hv1, hf⟩ := ob_s hf
  refine mc_X3_X3_wishOf S hC hK hP hv1 hl.1 ⟨Nat.le_of_ble_eq_true rfl, Nat.le_of_ble_eq_true rfl⟩ (Nat.le_of_ble_eq_true rfl) ⟨Nat.zero_le _, Nat.zero_le _⟩ dX3_isRather_3 (fun _ => ?_)
  refine lv_istore_n (i := 3) (lv' := [(3, .int v1), (0, .ref o), (1, .int a0), (2, .int a1)]) hx hb dX3_isRather_6 rfl hl (by decide) rfl (fun ls hl => ?_)
  refine lv_aload_n hx hb dX3_isRather_7 rfl (lv_at hl 1 rfl) ?_
  refine lv_iload_n hx hb dX3_isRather_8 rfl (lv_at hl 2 rfl) ?_
  refine lv_aload_n hx hb dX3_isRather_9 rfl (lv_at hl 1 rfl) ?_
  refine lv_iload_n hx hb dX3_isRather_10 rfl (lv_at hl 2 rfl) ?_
  refine lv_iconst hx hb dX3_isRather_11 kc_i4 ?_
  obtain ⟨v2, hv2, hf⟩ := ob_s hf
  refine mc_X3_X3_of S hC hK hP hv2 hl.1 ⟨Nat.le_of_ble_eq_true rfl, Nat.le_of_ble_eq_true rfl⟩ (Nat.le_of_ble_eq_true rfl) ⟨Nat.zero_le _, Nat.zero_le _⟩ dX3_isRather_12 (fun _ => ?_)
  obtain ⟨v3, hv3, hf⟩ := ob_s hf
  refine mc_X3_X3_wishOf S hC hK hP hv3 hl.1 ⟨Nat.le_of_ble_eq_true rfl, Nat.le_of_ble_eq_true rfl⟩ (Nat.le_of_ble_eq_true rfl) ⟨Nat.zero_le _, Nat.zero_le _⟩ dX3_isRather_15 (fun _ => ?_)
  refine lv_istore (lv' := [(4, .int v3), (3, .int v1), (0, .ref o), (1, .int a0), (2, .int a1)]) hx hb dX3_isRather_18 hl (by decide) rfl (fun ls hl => ?_)
  refine lv_iload_n hx hb dX3_isRather_20 rfl (lv_at hl 1 rfl) ?_
  refine lv_iconst hx hb dX3_isRather_21 kc_im1 ?_
  refine lv_icmp_eq (tgt := 50) hx hb dX3_isRather_22 (by decide) (fun c4 => ?_) (fun c4 => ?_)
  · replace hf := it_t c4 hf
    refine lv_iconst hx hb dX3_isRather_50 kc_i0 ?_
    have hE := Option.some.inj hf
    subst hE
    exact gt_rz S hr hlocks nb0 dX3_isRather_51
  · replace hf := it_f c4 hf
    refine lv_aload_n hx hb dX3_isRather_25 rfl (lv_at hl 2 rfl) ?_
    refine lv_iload_n hx hb dX3_isRather_26 rfl (lv_at hl 3 rfl) ?_
    refine lv_iload_n hx hb dX3_isRather_27 rfl (lv_at hl 4 rfl) ?_
    obtain ⟨v5, hv5, hf⟩ := ob_s hf
    refine mc_X3_X3_doesFit S hC hK hP hv5 hl.1 ⟨Nat.le_of_ble_eq_true rfl, Nat.le_of_ble_eq_true rfl⟩ (Nat.le_of_ble_eq_true rfl) ⟨Nat.zero_le _, Nat.zero_le _⟩ dX3_isRather_28 (fun hnv5 => ?_)
    refine lv_if_eq (tgt := 50) hx hb dX3_isRather_31 (by decide) (fun c6 => ?_) (fun c6 => ?_)
    · replace hf := it_t c6 hf
      refine lv_iconst hx hb dX3_isRather_50 kc_i0 ?_
      have hE := Option.some.inj hf
      subst hE
      exact gt_rz S hr hlocks nb0 dX3_isRather_51
    · replace hf := it_f c6 hf
      refine lv_iload hx hb dX3_isRather_34 (lv_at hl 0 rfl) ?_
      refine lv_iconst hx hb dX3_isRather_36 kc_im1 ?_
      refine lv_icmp_eq (tgt := 46) hx hb dX3_isRather_37 (by decide) (fun c7 => ?_) (fun c7 => ?_)
      · replace hf := it_t c7 hf
        refine lv_iconst hx hb dX3_isRather_46 kc_i1 ?_
        refine lv_goto (tgt := 51) hx hb dX3_isRather_47 (by decide) ?_
        have hE := Option.some.inj hf
        subst hE
        exact gt_rz S hr hlocks nb1 dX3_isRather_51
      · replace hf := it_f c7 hf
        refine lv_iload_n hx hb dX3_isRather_40 rfl (lv_at hl 1 rfl) ?_
        refine lv_iload hx hb dX3_isRather_41 (lv_at hl 0 rfl) ?_
        refine lv_icmp_ge (tgt := 50) hx hb dX3_isRather_43 (by decide) (fun c8 => ?_) (fun c8 => ?_)
        · replace hf := it_t c8 hf
          refine lv_iconst hx hb dX3_isRather_50 kc_i0 ?_
          have hE := Option.some.inj hf
          subst hE
          exact gt_rz S hr hlocks nb0 dX3_isRather_51
        · replace hf := it_f c8 hf
          refine lv_iconst hx hb dX3_isRather_46 kc_i1 ?_
          refine lv_goto (tgt := 51) hx hb dX3_isRather_47 (by decide) ?_
          have hE := Option.some.inj hf
          subst hE
          exact gt_rz S hr hlocks nb1 dX3_isRather_51
set_option maxRecDepth 100000 in
theorem mc_X3_X3_isRather {a0 : Int32} {a1 : Int32} {out : Int32} (S : CallFix p m c cc nL s args lw_all RX3) (hC : mC cl tys mi cI cJ cB) (hK : va_K D cl tys s) (hP : va_P D cl (mW mi cI cJ cB o ad th tp st fk fp ac si fr tt kd nu fa pl fo wd ci gr lm om nw rd aa kp ta nm rn gv gt rw rh lg lh ou) H) (hf : f_X3_isRather nw a0 a1 = some out) (hsz : ls.size = nL) (hR : 3 + 1 ≤ R.frames ∧ 8 + (5 + 11) + 66 ≤ R.locals) (hW : (rest.map fun v => v.category).sum ≤ 8) (hcs : cells ≤ R.cells ∧ slots ≤ R.slots) (hdg : decode cc pc = .ok (.invokevirtual 360, 3)) (kk : (narrow .boolean (.int out) = .int out) → W p l e R s m args below meth c H locs cells slots Q (F0 m (pc + 3) ls (.int out :: rest))) : W p l e R s m args below meth c H locs cells slots Q (F0 m pc ls (.int a1 :: .int a0 :: .ref o :: rest)) :=
  gc_Vr (As := [.int a0, .int a1]) S (mm_X3_isRather hC hf) (cwV 2 S.2.2.2.2 (lw_V q2525 q2527 qs160 q189 q2528) rfl rfl rfl hd_X3_isRather hR) (gPreV hK hP hC.1 (q0 := 0) rfl) rfl hsz rfl hW hdg hcs kk
theorem hd_X3_envy : yX3_envy.cls = RX3 ∧ yX3_envy.cls ≠ "java/lang/invoke/MethodHandle" ∧ yX3_envy.cls ≠ "java/lang/invoke/VarHandle" ∧ (parseMethodDescriptor yX3_envy.desc).map (fun d => d.parameters.length) = some 1 := by decide +kernel
set_option maxHeartbeats 4000000 in
set_option maxRecDepth 100000 in
theorem mm_X3_envy {a0 : Int32} {out : Int32 × Int32 × Int32} (hC : mC cl tys mi cI cJ cB) (hD : mD o ad) (hf : f_X3_envy nw th st a0 = some out) : Met l yX3_envy (ws_ yX3_envy cX3_envy 6 (some .int)) (rM 4 90) (gPc D cl tys [.ref o, .int a0] (mW mi cI cJ cB o ad th tp st fk fp ac si fr tt kd nu fa pl fo wd ci gr lm om nw rd aa kp ta nm rn gv gt rw rh lg lh ou)) (gQ D cl (some (.int out.1)) True (mW mi cI cJ cB o ad out.2.1 tp out.2.2 fk fp ac si fr tt kd nu fa pl fo wd ci gr lm om nw rd aa kp ta nm rn gv gt rw rh lg lh ou) (mA o ad)) 0 0 (mA o ad) := by
  refine gGo (by decide +kernel) (Nat.le_of_ble_eq_true rfl) (fun p e s m below meth c ls S hr hlocks hK hP hl => ?_)
  have S : CallFix p m c cX3_envy 6 s _ lw_all RX3 := S
  obtain ⟨hx, hb, hml, hown, hts⟩ := id S
  have hl : lv_has ls 6 [(0, .ref o), (1, .int a0)] := hl
  have w41 : ∀ (n : Nat) (k22 : Int32 → Int32 → Int32 → Int32 → Int32 → Int32 → Option (Int32 × Int32 × Int32)), (∀ (b0 : Int32) (b1 : Int32) (b2 : Int32) (b3 : Int32) (b4 : Int32) (b5 : Int32) (ls : Array Slot) (H : Heap) (locs : List Loc), va_P D cl (mW mi cI cJ cB o ad b4 tp b5 fk fp ac si fr tt kd nu fa pl fo wd ci gr lm om nw rd aa kp ta nm rn gv gt rw rh lg lh ou) H → va_S (mA o ad) s.heap H locs → lv_has ls 6 [(0, .ref o), (1, .int b0), (2, .int b1), (3, .int b2), (4, .int b3)] → k22 b0 b1 b2 b3 b4 b5 = some out → W p l e (rM 4 90) s m ([.ref o, .int a0] : List Value).toArray below meth c H locs 0 0 (MQ below (gQ D cl (some (.int out.1)) True (mW mi cI cJ cB o ad out.2.1 tp out.2.2 fk fp ac si fr tt kd nu fa pl fo wd ci gr lm om nw rd aa kp ta nm rn gv gt rw rh lg lh ou) (mA o ad)) ([.ref o, .int a0] : List Value).toArray s 0 0 (mA o ad)) (F0 m 22 ls [])) → ∀ (x1 : Int32) (x2 : Int32) (x3 : Int32) (x4 : Int32) (x5 : Int32) (th : Int32) (st : Int32) (ls : Array Slot) (H : Heap) (locs : List Loc), va_P D cl (mW mi cI cJ cB o ad th tp st fk fp ac si fr tt kd nu fa pl fo wd ci gr lm om nw rd aa kp ta nm rn gv gt rw rh lg lh ou) H → va_S (mA o ad) s.heap H locs → lv_has ls 6 [(0, .ref o), (1, .int x1), (2, .int x2), (3, .int x3), (4, .int x4), (5, .int x5)] → f_X3_envy_41 n k22 nw x1 x2 x3 x4 x5 th st = some out → W p l e (rM 4 90) s m ([.ref o, .int a0] : List Value).toArray below meth c H locs 0 0 (MQ below (gQ D cl (some (.int out.1)) True (mW mi cI cJ cB o ad out.2.1 tp out.2.2 fk fp ac si fr tt kd nu fa pl fo wd ci gr lm om nw rd aa kp ta nm rn gv gt rw rh lg lh ou) (mA o ad)) ([.ref o, .int a0] : List Value).toArray s 0 0 (mA o ad)) (F0 m 41 ls []) := by
    intro n
    induction n with
    | zero =>
      intro k22 hk22 x1 x2 x3 x4 x5 th st ls H locs hP hS hl hf
      exact absurd hf (by rw [f_X3_envy_41]; exact nofun)
    | succ n ih =>
      intro k22 hk22 x1 x2 x3 x4 x5 th st ls H locs hP hS hl hf
      rw [f_X3_envy_41] at hf
      refine lv_iload hx hb dX3_envy_41 (lv_at hl 5 rfl) ?_
      refine lv_aload_n hx hb dX3_envy_43 rfl (lv_at hl 0 rfl) ?_
      refine mg_1 S hC hK hP dX3_envy_44 ?_
      refine lv_sipush hx hb dX3_envy_47 kc_s231 ?_
      refine ma_1 S hC hK hP kv_231_390 kn_231 dX3_envy_50 ?_
      refine lv_icmp_ge (tgt := 137) hx hb dX3_envy_51 (by decide) (fun c1 => ?_) (fun c1 => ?_)
      · replace hf := it_t c1 hf
        refine lv_iinc (v := (x4 + 1)) (lv' := [(4, .int (x4 + 1)), (0, .ref o), (1, .int x1), (2, .int x2), (3, .int x3), (5, .int x5)]) hx hb dX3_envy_137 hl (k := 4) rfl rfl (by decide) rfl (fun ls hl => ?_)
        refine lv_goto (tgt := 22) hx hb dX3_envy_140 (by decide) ?_
        exact hk22 x1 x2 x3 (x4 + 1) th st ls H locs hP hS (lv_sub (l' := [(0, .ref o), (1, .int x1), (2, .int x2), (3, .int x3), (4, .int (x4 + 1))]) hl [1, 2, 3, 4, 0] rfl) hf
      · replace hf := it_f c1 hf
        refine lv_aload_n hx hb dX3_envy_54 rfl (lv_at hl 0 rfl) ?_
        refine lv_iload hx hb dX3_envy_55 (lv_at hl 4 rfl) ?_
        refine lv_iconst hx hb dX3_envy_57 kc_i4 ?_
        obtain ⟨v2, hv2, hf⟩ := ob_s hf
        refine mc_X3_X3_of S hC hK hP hv2 hl.1 ⟨Nat.le_of_ble_eq_true rfl, Nat.le_of_ble_eq_true rfl⟩ (Nat.le_of_ble_eq_true rfl) ⟨Nat.zero_le _, Nat.zero_le _⟩ dX3_envy_58 (fun _ => ?_)
        refine lv_iconst hx hb dX3_envy_61 kc_im1 ?_
        refine lv_icmp_eq (tgt := 131) hx hb dX3_envy_62 (by decide) (fun c3 => ?_) (fun c3 => ?_)
        · replace hf := it_t c3 hf
          refine lv_iinc (v := (x5 + 1)) (lv' := [(5, .int (x5 + 1)), (0, .ref o), (1, .int x1), (2, .int x2), (3, .int x3), (4, .int x4)]) hx hb dX3_envy_131 hl (k := 5) rfl rfl (by decide) rfl (fun ls hl => ?_)
          refine lv_goto (tgt := 41) hx hb dX3_envy_134 (by decide) ?_
          exact (ih k22 hk22) x1 x2 x3 x4 (x5 + 1) th st ls H locs hP hS (lv_sub (l' := [(0, .ref o), (1, .int x1), (2, .int x2), (3, .int x3), (4, .int x4), (5, .int (x5 + 1))]) hl [1, 2, 3, 4, 5, 0] rfl) hf
        · replace hf := it_f c3 hf
          refine lv_aload_n hx hb dX3_envy_65 rfl (lv_at hl 0 rfl) ?_
          refine lv_iload hx hb dX3_envy_66 (lv_at hl 5 rfl) ?_
          refine lv_iconst hx hb dX3_envy_68 kc_i4 ?_
          obtain ⟨v4, hv4, hf⟩ := ob_s hf
          refine mc_X3_X3_of S hC hK hP hv4 hl.1 ⟨Nat.le_of_ble_eq_true rfl, Nat.le_of_ble_eq_true rfl⟩ (Nat.le_of_ble_eq_true rfl) ⟨Nat.zero_le _, Nat.zero_le _⟩ dX3_envy_69 (fun _ => ?_)
          refine lv_iconst hx hb dX3_envy_72 kc_im1 ?_
          refine lv_icmp_eq (tgt := 131) hx hb dX3_envy_73 (by decide) (fun c5 => ?_) (fun c5 => ?_)
          · replace hf := it_t c5 hf
            refine lv_iinc (v := (x5 + 1)) (lv' := [(5, .int (x5 + 1)), (0, .ref o), (1, .int x1), (2, .int x2), (3, .int x3), (4, .int x4)]) hx hb dX3_envy_131 hl (k := 5) rfl rfl (by decide) rfl (fun ls hl => ?_)
            refine lv_goto (tgt := 41) hx hb dX3_envy_134 (by decide) ?_
            exact (ih k22 hk22) x1 x2 x3 x4 (x5 + 1) th st ls H locs hP hS (lv_sub (l' := [(0, .ref o), (1, .int x1), (2, .int x2), (3, .int x3), (4, .int x4), (5, .int (x5 + 1))]) hl [1, 2, 3, 4, 5, 0] rfl) hf
          · replace hf := it_f c5 hf
            refine lv_aload_n hx hb dX3_envy_76 rfl (lv_at hl 0 rfl) ?_
            refine lv_iload hx hb dX3_envy_77 (lv_at hl 4 rfl) ?_
            refine lv_aload_n hx hb dX3_envy_79 rfl (lv_at hl 0 rfl) ?_
            refine lv_iload hx hb dX3_envy_80 (lv_at hl 5 rfl) ?_
            refine lv_iconst hx hb dX3_envy_82 kc_i4 ?_
            obtain ⟨v6, hv6, hf⟩ := ob_s hf
            refine mc_X3_X3_of S hC hK hP hv6 hl.1 ⟨Nat.le_of_ble_eq_true rfl, Nat.le_of_ble_eq_true rfl⟩ (Nat.le_of_ble_eq_true rfl) ⟨Nat.zero_le _, Nat.zero_le _⟩ dX3_envy_83 (fun _ => ?_)
            obtain ⟨v7, hv7, hf⟩ := ob_s hf
            refine mc_X3_X3_isRather S hC hK hP hv7 hl.1 ⟨Nat.le_of_ble_eq_true rfl, Nat.le_of_ble_eq_true rfl⟩ (Nat.le_of_ble_eq_true rfl) ⟨Nat.zero_le _, Nat.zero_le _⟩ dX3_envy_86 (fun hnv7 => ?_)
            refine lv_if_eq (tgt := 131) hx hb dX3_envy_89 (by decide) (fun c8 => ?_) (fun c8 => ?_)
            · replace hf := it_t c8 hf
              refine lv_iinc (v := (x5 + 1)) (lv' := [(5, .int (x5 + 1)), (0, .ref o), (1, .int x1), (2, .int x2), (3, .int x3), (4, .int x4)]) hx hb dX3_envy_131 hl (k := 5) rfl rfl (by decide) rfl (fun ls hl => ?_)
              refine lv_goto (tgt := 41) hx hb dX3_envy_134 (by decide) ?_
              exact (ih k22 hk22) x1 x2 x3 x4 (x5 + 1) th st ls H locs hP hS (lv_sub (l' := [(0, .ref o), (1, .int x1), (2, .int x2), (3, .int x3), (4, .int x4), (5, .int (x5 + 1))]) hl [1, 2, 3, 4, 5, 0] rfl) hf
            · replace hf := it_f c8 hf
              refine lv_aload_n hx hb dX3_envy_92 rfl (lv_at hl 0 rfl) ?_
              refine lv_iload hx hb dX3_envy_93 (lv_at hl 5 rfl) ?_
              refine lv_aload_n hx hb dX3_envy_95 rfl (lv_at hl 0 rfl) ?_
              refine lv_iload hx hb dX3_envy_96 (lv_at hl 4 rfl) ?_
              refine lv_iconst hx hb dX3_envy_98 kc_i4 ?_
              obtain ⟨v9, hv9, hf⟩ := ob_s hf
              refine mc_X3_X3_of S hC hK hP hv9 hl.1 ⟨Nat.le_of_ble_eq_true rfl, Nat.le_of_ble_eq_true rfl⟩ (Nat.le_of_ble_eq_true rfl) ⟨Nat.zero_le _, Nat.zero_le _⟩ dX3_envy_99 (fun _ => ?_)
              obtain ⟨v10, hv10, hf⟩ := ob_s hf
              refine mc_X3_X3_isRather S hC hK hP hv10 hl.1 ⟨Nat.le_of_ble_eq_true rfl, Nat.le_of_ble_eq_true rfl⟩ (Nat.le_of_ble_eq_true rfl) ⟨Nat.zero_le _, Nat.zero_le _⟩ dX3_envy_102 (fun hnv10 => ?_)
              refine lv_if_ne (tgt := 111) hx hb dX3_envy_105 (by decide) (fun c11 => ?_) (fun c11 => ?_)
              · replace hf := it_f c11 hf
                refine lv_iload_n hx hb dX3_envy_111 rfl (lv_at hl 2 rfl) ?_
                refine lv_if_ne (tgt := 126) hx hb dX3_envy_112 (by decide) (fun c12 => ?_) (fun c12 => ?_)
                · replace hf := it_f c12 hf
                  refine lv_iload_n hx hb dX3_envy_126 rfl (lv_at hl 3 rfl) ?_
                  refine lv_istore_n (i := 3) (lv' := [(3, .int x3), (0, .ref o), (1, .int x1), (2, .int x2), (4, .int x4), (5, .int x5)]) hx hb dX3_envy_127 rfl hl (by decide) rfl (fun ls hl => ?_)
                  refine lv_iinc (v := (x2 + 1)) (lv' := [(2, .int (x2 + 1)), (3, .int x3), (0, .ref o), (1, .int x1), (4, .int x4), (5, .int x5)]) hx hb dX3_envy_128 hl (k := 3) rfl rfl (by decide) rfl (fun ls hl => ?_)
                  refine lv_iinc (v := (x5 + 1)) (lv' := [(5, .int (x5 + 1)), (2, .int (x2 + 1)), (3, .int x3), (0, .ref o), (1, .int x1), (4, .int x4)]) hx hb dX3_envy_131 hl (k := 5) rfl rfl (by decide) rfl (fun ls hl => ?_)
                  refine lv_goto (tgt := 41) hx hb dX3_envy_134 (by decide) ?_
                  exact (ih k22 hk22) x1 (x2 + 1) x3 x4 (x5 + 1) th st ls H locs hP hS (lv_sub (l' := [(0, .ref o), (1, .int x1), (2, .int (x2 + 1)), (3, .int x3), (4, .int x4), (5, .int (x5 + 1))]) hl [3, 4, 1, 2, 5, 0] rfl) hf
                · replace hf := it_t c12 hf
                  refine lv_bipush hx hb dX3_envy_115 kc_b8 ?_
                  refine lv_iload hx hb dX3_envy_117 (lv_at hl 4 rfl) ?_
                  refine lv_imul hx hb dX3_envy_119 ?_
                  refine lv_iload hx hb dX3_envy_120 (lv_at hl 5 rfl) ?_
                  refine lv_iadd hx hb dX3_envy_122 ?_
                  refine lv_goto (tgt := 127) hx hb dX3_envy_123 (by decide) ?_
                  refine lv_istore_n (i := 3) (lv' := [(3, .int (((nI 8) * x4) + x5)), (0, .ref o), (1, .int x1), (2, .int x2), (4, .int x4), (5, .int x5)]) hx hb dX3_envy_127 rfl hl (by decide) rfl (fun ls hl => ?_)
                  refine lv_iinc (v := (x2 + 1)) (lv' := [(2, .int (x2 + 1)), (3, .int (((nI 8) * x4) + x5)), (0, .ref o), (1, .int x1), (4, .int x4), (5, .int x5)]) hx hb dX3_envy_128 hl (k := 3) rfl rfl (by decide) rfl (fun ls hl => ?_)
                  refine lv_iinc (v := (x5 + 1)) (lv' := [(5, .int (x5 + 1)), (2, .int (x2 + 1)), (3, .int (((nI 8) * x4) + x5)), (0, .ref o), (1, .int x1), (4, .int x4)]) hx hb dX3_envy_131 hl (k := 5) rfl rfl (by decide) rfl (fun ls hl => ?_)
                  refine lv_goto (tgt := 41) hx hb dX3_envy_134 (by decide) ?_
                  exact (ih k22 hk22) x1 (x2 + 1) (((nI 8) * x4) + x5) x4 (x5 + 1) th st ls H locs hP hS (lv_sub (l' := [(0, .ref o), (1, .int x1), (2, .int (x2 + 1)), (3, .int (((nI 8) * x4) + x5)), (4, .int x4), (5, .int (x5 + 1))]) hl [3, 4, 1, 2, 5, 0] rfl) hf
              · replace hf := it_t c11 hf
                refine lv_goto (tgt := 131) hx hb dX3_envy_108 (by decide) ?_
                refine lv_iinc (v := (x5 + 1)) (lv' := [(5, .int (x5 + 1)), (0, .ref o), (1, .int x1), (2, .int x2), (3, .int x3), (4, .int x4)]) hx hb dX3_envy_131 hl (k := 5) rfl rfl (by decide) rfl (fun ls hl => ?_)
                refine lv_goto (tgt := 41) hx hb dX3_envy_134 (by decide) ?_
                exact (ih k22 hk22) x1 x2 x3 x4 (x5 + 1) th st ls H locs hP hS (lv_sub (l' := [(0, .ref o), (1, .int x1), (2, .int x2), (3, .int x3), (4, .int x4), (5, .int (x5 + 1))]) hl [1, 2, 3, 4, 5, 0] rfl) hf
  have w182 : ∀ (y1 : Int32) (th : Int32) (st : Int32) (ls : Array Slot) (H : Heap) (locs : List Loc), va_P D cl (mW mi cI cJ cB o ad th tp st fk fp ac si fr tt kd nu fa pl fo wd ci gr lm om nw rd aa kp ta nm rn gv gt rw rh lg lh ou) H → va_S (mA o ad) s.heap H locs → lv_has ls 6 [] → f_X3_envy_182 nw y1 th st = some out → W p l e (rM 4 90) s m ([.ref o, .int a0] : List Value).toArray below meth c H locs 0 0 (MQ below (gQ D cl (some (.int out.1)) True (mW mi cI cJ cB o ad out.2.1 tp out.2.2 fk fp ac si fr tt kd nu fa pl fo wd ci gr lm om nw rd aa kp ta nm rn gv gt rw rh lg lh ou) (mA o ad)) ([.ref o, .int a0] : List Value).toArray s 0 0 (mA o ad)) (F0 m 182 ls [.int y1, .ref o]) := by
    intro y1 th st ls H locs hP hS hl hf
    rw [f_X3_envy_182] at hf
    obtain ⟨v1, hv1, hf⟩ := ob_s hf
    refine mc_X3_X3_gives S hC hD hK hP hS hv1 hl.1 ⟨Nat.le_of_ble_eq_true rfl, Nat.le_of_ble_eq_true rfl⟩ (Nat.le_of_ble_eq_true rfl) ⟨Nat.zero_le _, Nat.zero_le _⟩ dX3_envy_182 (fun H locs _ hP hS => ?_)
    have hE := Option.some.inj hf
    subst hE
    exact gt_wi S hr hlocks trivial hP hS dX3_envy_185
  have w22 : ∀ (n : Nat) , ∀ (x1 : Int32) (x2 : Int32) (x3 : Int32) (x4 : Int32) (th : Int32) (st : Int32) (ls : Array Slot) (H : Heap) (locs : List Loc), va_P D cl (mW mi cI cJ cB o ad th tp st fk fp ac si fr tt kd nu fa pl fo wd ci gr lm om nw rd aa kp ta nm rn gv gt rw rh lg lh ou) H → va_S (mA o ad) s.heap H locs → lv_has ls 6 [(0, .ref o), (1, .int x1), (2, .int x2), (3, .int x3), (4, .int x4)] → f_X3_envy_22 n nw x1 x2 x3 x4 th st = some out → W p l e (rM 4 90) s m ([.ref o, .int a0] : List Value).toArray below meth c H locs 0 0 (MQ below (gQ D cl (some (.int out.1)) True (mW mi cI cJ cB o ad out.2.1 tp out.2.2 fk fp ac si fr tt kd nu fa pl fo wd ci gr lm om nw rd aa kp ta nm rn gv gt rw rh lg lh ou) (mA o ad)) ([.ref o, .int a0] : List Value).toArray s 0 0 (mA o ad)) (F0 m 22 ls []) := by
    intro n
    induction n with
    | zero =>
      intro x1 x2 x3 x4 th st ls H locs hP hS hl hf
      exact absurd hf (by rw [f_X3_envy_22]; exact nofun)
    | succ n ih =>
      intro x1 x2 x3 x4 th st ls H locs hP hS hl hf
      rw [f_X3_envy_22] at hf
      refine lv_iload hx hb dX3_envy_22 (lv_at hl 4 rfl) ?_
      refine lv_aload_n hx hb dX3_envy_24 rfl (lv_at hl 0 rfl) ?_
      refine mg_1 S hC hK hP dX3_envy_25 ?_
      refine lv_sipush hx hb dX3_envy_28 kc_s231 ?_
      refine ma_1 S hC hK hP kv_231_390 kn_231 dX3_envy_31 ?_
      refine lv_icmp_ge (tgt := 143) hx hb dX3_envy_32 (by decide) (fun c1 => ?_) (fun c1 => ?_)
      · replace hf := it_t c1 hf
        refine lv_iload_n hx hb dX3_envy_143 rfl (lv_at hl 1 rfl) ?_
        refine lv_if_ne (tgt := 153) hx hb dX3_envy_144 (by decide) (fun c2 => ?_) (fun c2 => ?_)
        · replace hf := it_f c2 hf
          refine lv_iload_n hx hb dX3_envy_153 rfl (lv_at hl 2 rfl) ?_
          refine lv_if_ne (tgt := 165) hx hb dX3_envy_154 (by decide) (fun c3 => ?_) (fun c3 => ?_)
          · replace hf := it_f c3 hf
            refine lv_aload_n hx hb dX3_envy_165 rfl (lv_at hl 0 rfl) ?_
            refine lv_iload_n hx hb dX3_envy_166 rfl (lv_at hl 1 rfl) ?_
            refine lv_iconst hx hb dX3_envy_167 kc_i1 ?_
            refine lv_icmp_ne (tgt := 178) hx hb dX3_envy_168 (by decide) (fun c4 => ?_) (fun c4 => ?_)
            · replace hf := it_f c4 hf
              refine lv_iload_n hx hb dX3_envy_178 rfl (lv_at hl 3 rfl) ?_
              refine lv_bipush hx hb dX3_envy_179 kc_b8 ?_
              obtain ⟨g5, hf⟩ := gd_t hf
              refine lv_irem hx hb dX3_envy_181 (nz32_t g5) ?_
              exact (w182) (x3 - x3 / (nI 8) * (nI 8)) th st ls H locs hP hS (lv_sub (l' := []) hl [] rfl) hf
            · replace hf := it_t c4 hf
              refine lv_iload_n hx hb dX3_envy_171 rfl (lv_at hl 3 rfl) ?_
              refine lv_bipush hx hb dX3_envy_172 kc_b8 ?_
              obtain ⟨g6, hf⟩ := gd_t hf
              refine lv_idiv hx hb dX3_envy_174 (nz32_t g6) ?_
              refine lv_goto (tgt := 182) hx hb dX3_envy_175 (by decide) ?_
              exact (w182) (x3 / (nI 8)) th st ls H locs hP hS (lv_sub (l' := []) hl [] rfl) hf
          · replace hf := it_t c3 hf
            refine lv_aload_n hx hb dX3_envy_157 rfl (lv_at hl 0 rfl) ?_
            refine lv_iconst hx hb dX3_envy_158 kc_i5 ?_
            obtain ⟨v7, hv7, hf⟩ := ob_s hf
            refine mc_X3_X3_refuse S hC hD hK hP hS hv7 hl.1 ⟨Nat.le_of_ble_eq_true rfl, Nat.le_of_ble_eq_true rfl⟩ (Nat.le_of_ble_eq_true rfl) ⟨Nat.zero_le _, Nat.zero_le _⟩ dX3_envy_159 (fun H locs _ hP hS => ?_)
            refine lv_goto (tgt := 185) hx hb dX3_envy_162 (by decide) ?_
            have hE := Option.some.inj hf
            subst hE
            exact gt_wi S hr hlocks trivial hP hS dX3_envy_185
        · replace hf := it_t c2 hf
          refine lv_aload_n hx hb dX3_envy_147 rfl (lv_at hl 0 rfl) ?_
          refine lv_iload_n hx hb dX3_envy_148 rfl (lv_at hl 2 rfl) ?_
          obtain ⟨v8, hv8, hf⟩ := ob_s hf
          refine mc_X3_X3_gives S hC hD hK hP hS hv8 hl.1 ⟨Nat.le_of_ble_eq_true rfl, Nat.le_of_ble_eq_true rfl⟩ (Nat.le_of_ble_eq_true rfl) ⟨Nat.zero_le _, Nat.zero_le _⟩ dX3_envy_149 (fun H locs _ hP hS => ?_)
          have hE := Option.some.inj hf
          subst hE
          exact gt_wi S hr hlocks trivial hP hS dX3_envy_152
      · replace hf := it_f c1 hf
        refine lv_iload hx hb dX3_envy_35 (lv_at hl 4 rfl) ?_
        refine lv_iconst hx hb dX3_envy_37 kc_i1 ?_
        refine lv_iadd hx hb dX3_envy_38 ?_
        refine lv_istore (lv' := [(5, .int (x4 + 1)), (0, .ref o), (1, .int x1), (2, .int x2), (3, .int x3), (4, .int x4)]) hx hb dX3_envy_39 hl (by decide) rfl (fun ls hl => ?_)
        exact (w41 FU (f_X3_envy_22 n nw) (ih)) x1 x2 x3 x4 (x4 + 1) th st ls H locs hP hS (lv_sub (l' := [(0, .ref o), (1, .int x1), (2, .int x2), (3, .int x3), (4, .int x4), (5, .int (x4 + 1))]) hl [1, 2, 3, 4, 5, 0] rfl) hf
  suffices hg : ∀ (H : Heap) (locs : List Loc), va_P D cl (mW mi cI cJ cB o ad th tp st fk fp ac si fr tt kd nu fa pl fo wd ci gr lm om nw rd aa kp ta nm rn gv gt rw rh lg lh ou) H → va_S (mA o ad) s.heap H locs → W p l e (rM 4 90) s m ([.ref o, .int a0] : List Value).toArray below meth c H locs 0 0 (MQ below (gQ D cl (some (.int out.1)) True (mW mi cI cJ cB o ad out.2.1 tp out.2.2 fk fp ac si fr tt kd nu fa pl fo wd ci gr lm om nw rd aa kp ta nm rn gv gt rw rh lg lh ou) (mA o ad)) ([.ref o, .int a0] : List Value).toArray s 0 0 (mA o ad)) (F0 m 0 ls []) from hg s.heap [] hP va_S.rf
  clear hP
  intro H locs hP hS
  rw [f_X3_envy] at hf
  refine lv_iload_n hx hb dX3_envy_0 rfl (lv_at hl 1 rfl) ?_
  refine lv_iconst hx hb dX3_envy_1 kc_i0 ?_
  refine lv_iconst hx hb dX3_envy_2 kc_i2 ?_
  obtain ⟨v1, hv1, hf⟩ := ob_s hf
  refine mc_X3_X3_isFrom S hK hv1 hl.1 ⟨Nat.le_of_ble_eq_true rfl, Nat.le_of_ble_eq_true rfl⟩ (Nat.le_of_ble_eq_true rfl) ⟨Nat.zero_le _, Nat.zero_le _⟩ dX3_envy_3 (fun hnv1 => ?_)
  refine lv_if_ne (tgt := 15) hx hb dX3_envy_6 (by decide) (fun c2 => ?_) (fun c2 => ?_)
  · replace hf := it_f c2 hf
    refine lv_iconst hx hb dX3_envy_15 kc_i0 ?_
    refine lv_istore_n (i := 2) (lv' := [(2, .int 0), (0, .ref o), (1, .int a0)]) hx hb dX3_envy_16 rfl hl (by decide) rfl (fun ls hl => ?_)
    refine lv_iconst hx hb dX3_envy_17 kc_im1 ?_
    refine lv_istore_n (i := 3) (lv' := [(3, .int (-1)), (2, .int 0), (0, .ref o), (1, .int a0)]) hx hb dX3_envy_18 rfl hl (by decide) rfl (fun ls hl => ?_)
    refine lv_iconst hx hb dX3_envy_19 kc_i0 ?_
    refine lv_istore (lv' := [(4, .int 0), (3, .int (-1)), (2, .int 0), (0, .ref o), (1, .int a0)]) hx hb dX3_envy_20 hl (by decide) rfl (fun ls hl => ?_)
    exact (w22 FU) a0 0 (-1) 0 th st ls H locs hP hS (lv_sub (l' := [(0, .ref o), (1, .int a0), (2, .int 0), (3, .int (-1)), (4, .int 0)]) hl [3, 4, 2, 1, 0] rfl) hf
  · replace hf := it_t c2 hf
    refine lv_aload_n hx hb dX3_envy_9 rfl (lv_at hl 0 rfl) ?_
    refine lv_iconst hx hb dX3_envy_10 kc_i1 ?_
    obtain ⟨v3, hv3, hf⟩ := ob_s hf
    refine mc_X3_X3_refuse S hC hD hK hP hS hv3 hl.1 ⟨Nat.le_of_ble_eq_true rfl, Nat.le_of_ble_eq_true rfl⟩ (Nat.le_of_ble_eq_true rfl) ⟨Nat.zero_le _, Nat.zero_le _⟩ dX3_envy_11 (fun H locs _ hP hS => ?_)
    have hE := Option.some.inj hf
    subst hE
    exact gt_wi S hr hlocks trivial hP hS dX3_envy_14
theorem hd_X3_letsAhead : yX3_letsAhead.cls = RX3 ∧ yX3_letsAhead.cls ≠ "java/lang/invoke/MethodHandle" ∧ yX3_letsAhead.cls ≠ "java/lang/invoke/VarHandle" ∧ (parseMethodDescriptor yX3_letsAhead.desc).map (fun d => d.parameters.length) = some 1 := by decide +kernel
set_option maxHeartbeats 4000000 in
set_option maxRecDepth 100000 in
theorem mm_X3_letsAhead {a0 : Int32} {out : Int32 × (Nat → Int32) × (Nat → Int32)} (hC : mC cl tys mi cI cJ cB) (hD : mD o ad) (hf : f_X3_letsAhead nw aa a0 = some out) : Met l yX3_letsAhead (ws_ yX3_letsAhead cX3_letsAhead 4 (some .int)) (rM 9 203) (gPc D cl tys [.ref o, .int a0] (mW mi cI cJ cB o ad th tp st fk fp ac si fr tt kd nu fa pl fo wd ci gr lm om nw rd aa kp ta nm rn gv gt rw rh lg lh ou)) (gQ D cl (some (.int out.1)) True (mW mi cI cJ cB o ad th tp st fk fp ac si fr tt kd nu fa pl fo wd ci gr lm om out.2.1 rd out.2.2 kp ta nm rn gv gt rw rh lg lh ou) (mA o ad)) 0 0 (mA o ad) := by
  refine gGo (by decide +kernel) (Nat.le_of_ble_eq_true rfl) (fun p e s m below meth c ls S hr hlocks hK hP hl => ?_)
  have S : CallFix p m c cX3_letsAhead 4 s _ lw_all RX3 := S
  obtain ⟨hx, hb, hml, hown, hts⟩ := id S
  have hl : lv_has ls 4 [(0, .ref o), (1, .int a0)] := hl
  have w22 : ∀ (n : Nat) , ∀ (x1 : Int32) (x2 : Int32) (x3 : Int32) (nw : (Nat → Int32)) (aa : (Nat → Int32)) (ls : Array Slot) (H : Heap) (locs : List Loc), va_P D cl (mW mi cI cJ cB o ad th tp st fk fp ac si fr tt kd nu fa pl fo wd ci gr lm om nw rd aa kp ta nm rn gv gt rw rh lg lh ou) H → va_S (mA o ad) s.heap H locs → lv_has ls 4 [(0, .ref o), (1, .int x1), (2, .int x2), (3, .int x3)] → f_X3_letsAhead_22 n x1 x2 x3 nw aa = some out → W p l e (rM 9 203) s m ([.ref o, .int a0] : List Value).toArray below meth c H locs 0 0 (MQ below (gQ D cl (some (.int out.1)) True (mW mi cI cJ cB o ad th tp st fk fp ac si fr tt kd nu fa pl fo wd ci gr lm om out.2.1 rd out.2.2 kp ta nm rn gv gt rw rh lg lh ou) (mA o ad)) ([.ref o, .int a0] : List Value).toArray s 0 0 (mA o ad)) (F0 m 22 ls []) := by
    intro n
    induction n with
    | zero =>
      intro x1 x2 x3 nw aa ls H locs hP hS hl hf
      exact absurd hf (by rw [f_X3_letsAhead_22]; exact nofun)
    | succ n ih =>
      intro x1 x2 x3 nw aa ls H locs hP hS hl hf
      rw [f_X3_letsAhead_22] at hf
      refine lv_iload_n hx hb dX3_letsAhead_22 rfl (lv_at hl 3 rfl) ?_
      refine lv_iload_n hx hb dX3_letsAhead_23 rfl (lv_at hl 1 rfl) ?_
      refine lv_icmp_ge (tgt := 37) hx hb dX3_letsAhead_24 (by decide) (fun c1 => ?_) (fun c1 => ?_)
      · replace hf := it_t c1 hf
        refine lv_aload_n hx hb dX3_letsAhead_37 rfl (lv_at hl 0 rfl) ?_
        refine mg_1 S hC hK hP dX3_letsAhead_38 ?_
        refine lv_sipush hx hb dX3_letsAhead_41 kc_s233 ?_
        refine ma_1 S hC hK hP kv_233_390 kn_233 dX3_letsAhead_44 ?_
        refine lv_iload_n hx hb dX3_letsAhead_45 rfl (lv_at hl 2 rfl) ?_
        refine lv_isub hx hb dX3_letsAhead_46 ?_
        refine lv_istore_n (i := 3) (lv' := [(3, .int ((nw 233) - x2)), (0, .ref o), (1, .int x1), (2, .int x2)]) hx hb dX3_letsAhead_47 rfl hl (by decide) rfl (fun ls hl => ?_)
        refine lv_aload_n hx hb dX3_letsAhead_48 rfl (lv_at hl 1 rfl) ?_
        refine mg_3 S hC hK hP dX3_letsAhead_49 ?_
        refine lv_aload_n hx hb dX3_letsAhead_52 rfl (lv_at hl 1 rfl) ?_
        refine mg_1 S hC hK hP dX3_letsAhead_53 ?_
        obtain ⟨v2, hv2, hf⟩ := ob_s hf
        refine mc_X3_X3_copies_aa_nw S hC hD hK hP hS hv2 hl.1 ⟨Nat.le_of_ble_eq_true rfl, Nat.le_of_ble_eq_true rfl⟩ (Nat.le_of_ble_eq_true rfl) ⟨Nat.zero_le _, Nat.zero_le _⟩ dX3_letsAhead_56 (fun H locs _ hP hS => ?_)
        refine lv_iload_n hx hb dX3_letsAhead_59 rfl (lv_at hl 0 rfl) ?_
        have hE := Option.some.inj hf
        subst hE
        exact gt_wi S hr hlocks trivial hP hS dX3_letsAhead_60
      · replace hf := it_f c1 hf
        refine lv_aload_n hx hb dX3_letsAhead_27 rfl (lv_at hl 0 rfl) ?_
        obtain ⟨v3, hv3, hf⟩ := ob_s hf
        refine mc_X3_X3_oneMore S hC hD hK hP hS hv3 hl.1 ⟨Nat.le_of_ble_eq_true rfl, Nat.le_of_ble_eq_true rfl⟩ (Nat.le_of_ble_eq_true rfl) ⟨Nat.zero_le _, Nat.zero_le _⟩ dX3_letsAhead_28 (fun H locs _ hP hS => ?_)
        refine lv_iinc (v := (x3 + 1)) (lv' := [(3, .int (x3 + 1)), (0, .ref o), (1, .int x1), (2, .int x2)]) hx hb dX3_letsAhead_31 hl (k := 3) rfl rfl (by decide) rfl (fun ls hl => ?_)
        refine lv_goto (tgt := 22) hx hb dX3_letsAhead_34 (by decide) ?_
        exact (ih) x1 x2 (x3 + 1) v3 aa ls H locs hP hS (lv_sub (l' := [(0, .ref o), (1, .int x1), (2, .int x2), (3, .int (x3 + 1))]) hl [1, 2, 3, 0] rfl) hf
  suffices hg : ∀ (H : Heap) (locs : List Loc), va_P D cl (mW mi cI cJ cB o ad th tp st fk fp ac si fr tt kd nu fa pl fo wd ci gr lm om nw rd aa kp ta nm rn gv gt rw rh lg lh ou) H → va_S (mA o ad) s.heap H locs → W p l e (rM 9 203) s m ([.ref o, .int a0] : List Value).toArray below meth c H locs 0 0 (MQ below (gQ D cl (some (.int out.1)) True (mW mi cI cJ cB o ad th tp st fk fp ac si fr tt kd nu fa pl fo wd ci gr lm om out.2.1 rd out.2.2 kp ta nm rn gv gt rw rh lg lh ou) (mA o ad)) ([.ref o, .int a0] : List Value).toArray s 0 0 (mA o ad)) (F0 m 0 ls []) from hg s.heap [] hP va_S.rf
  clear hP
  intro H locs hP hS
  rw [f_X3_letsAhead] at hf
  refine lv_aload_n hx hb dX3_letsAhead_0 rfl (lv_at hl 0 rfl) ?_
  refine mg_1 S hC hK hP dX3_letsAhead_1 ?_
  refine lv_aload_n hx hb dX3_letsAhead_4 rfl (lv_at hl 0 rfl) ?_
  refine mg_3 S hC hK hP dX3_letsAhead_5 ?_
  obtain ⟨v1, hv1, hf⟩ := ob_s hf
  refine mc_X3_X3_copies_nw_aa S hC hD hK hP hS hv1 hl.1 ⟨Nat.le_of_ble_eq_true rfl, Nat.le_of_ble_eq_true rfl⟩ (Nat.le_of_ble_eq_true rfl) ⟨Nat.zero_le _, Nat.zero_le _⟩ dX3_letsAhead_8 (fun H locs _ hP hS => ?_)
  refine lv_aload_n hx hb dX3_letsAhead_11 rfl (lv_at hl 0 rfl) ?_
  refine mg_1 S hC hK hP dX3_letsAhead_12 ?_
  refine lv_sipush hx hb dX3_letsAhead_15 kc_s233 ?_
  refine ma_1 S hC hK hP kv_233_390 kn_233 dX3_letsAhead_18 ?_
  refine lv_istore_n (i := 2) (lv' := [(2, .int (nw 233)), (0, .ref o), (1, .int a0)]) hx hb dX3_letsAhead_19 rfl hl (by decide) rfl (fun ls hl => ?_)
  refine lv_iconst hx hb dX3_letsAhead_20 kc_i0 ?_
  refine lv_istore_n (i := 3) (lv' := [(3, .int 0), (2, .int (nw 233)), (0, .ref o), (1, .int a0)]) hx hb dX3_letsAhead_21 rfl hl (by decide) rfl (fun ls hl => ?_)
  exact (w22 FU) a0 (nw 233) 0 nw v1 ls H locs hP hS (lv_sub (l' := [(0, .ref o), (1, .int a0), (2, .int (nw 233)), (3, .int 0)]) hl [2, 3, 1, 0] rfl) hf
set_option maxRecDepth 100000 in
theorem mc_X3_X3_letsAhead {a0 : Int32} {out : Int32 × (Nat → Int32) × (Nat → Int32)} (S : CallFix p m c cc nL s args lw_all RX3) (hC : mC cl tys mi cI cJ cB) (hD : mD o ad) (hK : va_K D cl tys s) (hP : va_P D cl (mW mi cI cJ cB o ad th tp st fk fp ac si fr tt kd nu fa pl fo wd ci gr lm om nw rd aa kp ta nm rn gv gt rw rh lg lh ou) H) (hS : va_S (mA o ad) H0 H locs) (hf : f_X3_letsAhead nw aa a0 = some out) (hsz : ls.size = nL) (hR : 9 + 1 ≤ R.frames ∧ 8 + (4 + 11) + 203 ≤ R.locals) (hW : (rest.map fun v => v.category).sum ≤ 8) (hcs : cells ≤ R.cells ∧ slots ≤ R.slots) (hdg : decode cc pc = .ok (.invokevirtual 363, 3)) (kk : ∀ (H1 : Heap) (locs1 : List Loc), True → va_P D cl (mW mi cI cJ cB o ad th tp st fk fp ac si fr tt kd nu fa pl fo wd ci gr lm om out.2.1 rd out.2.2 kp ta nm rn gv gt rw rh lg lh ou) H1 → va_S (mA o ad) H0 H1 locs1 → W p l e R s m args below meth c H1 locs1 cells slots Q (F0 m (pc + 3) ls (.int out.1 :: rest))) : W p l e R s m args below meth c H locs cells slots Q (F0 m pc ls (.int a0 :: .ref o :: rest)) :=
  gc_Vw (As := [.int a0]) S (mm_X3_letsAhead hC hD hf) (cwV 1 S.2.2.2.2 (lw_V q2533 q2535 qs161 q189 q2536) rfl rfl rfl hd_X3_letsAhead hR) (gPreV hK hP hC.1 (q0 := 0) rfl) rfl hsz rfl hW hdg hcs hS kk
theorem hd_X3_lever : yX3_lever.cls = RX3 ∧ yX3_lever.cls ≠ "java/lang/invoke/MethodHandle" ∧ yX3_lever.cls ≠ "java/lang/invoke/VarHandle" ∧ (parseMethodDescriptor yX3_lever.desc).map (fun d => d.parameters.length) = some 2 := by decide +kernel
set_option maxHeartbeats 4000000 in
set_option maxRecDepth 100000 in
theorem mm_X3_lever {a0 : Int32} {a1 : Int32} {out : Int32 × Int32 × Int32 × (Nat → Int32) × (Nat → Int32)} (hC : mC cl tys mi cI cJ cB) (hD : mD o ad) (hf : f_X3_lever th st nw aa a0 a1 = some out) : Met l yX3_lever (ws_ yX3_lever cX3_lever 10 (some .int)) (rM 10 226) (gPc D cl tys [.ref o, .int a0, .int a1] (mW mi cI cJ cB o ad th tp st fk fp ac si fr tt kd nu fa pl fo wd ci gr lm om nw rd aa kp ta nm rn gv gt rw rh lg lh ou)) (gQ D cl (some (.int out.1)) True (mW mi cI cJ cB o ad out.2.1 tp out.2.2.1 fk fp ac si fr tt kd nu fa pl fo wd ci gr lm om out.2.2.2.1 rd out.2.2.2.2 kp ta nm rn gv gt rw rh lg lh ou) (mA o ad)) 0 0 (mA o ad) := by
  refine gGo (by decide +kernel) (Nat.le_of_ble_eq_true rfl) (fun p e s m below meth c ls S hr hlocks hK hP hl => ?_)
  have S : CallFix p m c cX3_lever 10 s _ lw_all RX3 := S
  obtain ⟨hx, hb, hml, hown, hts⟩ := id S
  have hl : lv_has ls 10 [(0, .ref o), (1, .int a0), (2, .int a1)] := hl
  have w19 : ∀ (th : Int32) (st : Int32) (nw : (Nat → Int32)) (aa : (Nat → Int32)) (ls : Array Slot) (H : Heap) (locs : List Loc), va_P D cl (mW mi cI cJ cB o ad th tp st fk fp ac si fr tt kd nu fa pl fo wd ci gr lm om nw rd aa kp ta nm rn gv gt rw rh lg lh ou) H → va_S (mA o ad) s.heap H locs → lv_has ls 10 [(0, .ref o)] → f_X3_lever_19 th st nw aa = some out → W p l e (rM 10 226) s m ([.ref o, .int a0, .int a1] : List Value).toArray below meth c H locs 0 0 (MQ below (gQ D cl (some (.int out.1)) True (mW mi cI cJ cB o ad out.2.1 tp out.2.2.1 fk fp ac si fr tt kd nu fa pl fo wd ci gr lm om out.2.2.2.1 rd out.2.2.2.2 kp ta nm rn gv gt rw rh lg lh ou) (mA o ad)) ([.ref o, .int a0, .int a1] : List Value).toArray s 0 0 (mA o ad)) (F0 m 19 ls []) := by
    intro th st nw aa ls H locs hP hS hl hf
    rw [f_X3_lever_19] at hf
    refine lv_aload_n hx hb dX3_lever_19 rfl (lv_at hl 0 rfl) ?_
    refine lv_iconst hx hb dX3_lever_20 kc_i1 ?_
    obtain ⟨v1, hv1, hf⟩ := ob_s hf
    refine mc_X3_X3_refuse S hC hD hK hP hS hv1 hl.1 ⟨Nat.le_of_ble_eq_true rfl, Nat.le_of_ble_eq_true rfl⟩ (Nat.le_of_ble_eq_true rfl) ⟨Nat.zero_le _, Nat.zero_le _⟩ dX3_lever_21 (fun H locs _ hP hS => ?_)
    have hE := Option.some.inj hf
    subst hE
    exact gt_wi S hr hlocks trivial hP hS dX3_lever_24
  have w72 : ∀ (k36 : Int32 → Int32 → Int32 → Int32 → Int32 → Int32 → Int32 → Int32 → (Nat → Int32) → (Nat → Int32) → Option (Int32 × Int32 × Int32 × (Nat → Int32) × (Nat → Int32))), (∀ (b0 : Int32) (b1 : Int32) (b2 : Int32) (b3 : Int32) (b4 : Int32) (b5 : Int32) (b6 : Int32) (b7 : Int32) (b8 : (Nat → Int32)) (b9 : (Nat → Int32)) (ls : Array Slot) (H : Heap) (locs : List Loc), va_P D cl (mW mi cI cJ cB o ad b6 tp b7 fk fp ac si fr tt kd nu fa pl fo wd ci gr lm om b8 rd b9 kp ta nm rn gv gt rw rh lg lh ou) H → va_S (mA o ad) s.heap H locs → lv_has ls 10 [(0, .ref o), (1, .int b0), (2, .int b1), (3, .int b2), (4, .int b3), (5, .int b4), (6, .int b5)] → k36 b0 b1 b2 b3 b4 b5 b6 b7 b8 b9 = some out → W p l e (rM 10 226) s m ([.ref o, .int a0, .int a1] : List Value).toArray below meth c H locs 0 0 (MQ below (gQ D cl (some (.int out.1)) True (mW mi cI cJ cB o ad out.2.1 tp out.2.2.1 fk fp ac si fr tt kd nu fa pl fo wd ci gr lm om out.2.2.2.1 rd out.2.2.2.2 kp ta nm rn gv gt rw rh lg lh ou) (mA o ad)) ([.ref o, .int a0, .int a1] : List Value).toArray s 0 0 (mA o ad)) (F0 m 36 ls [])) → ∀ (x1 : Int32) (x2 : Int32) (x3 : Int32) (x4 : Int32) (x5 : Int32) (x6 : Int32) (x7 : Int32) (y0 : Int32) (y1 : Int32) (th : Int32) (st : Int32) (nw : (Nat → Int32)) (aa : (Nat → Int32)) (ls : Array Slot) (H : Heap) (locs : List Loc), va_P D cl (mW mi cI cJ cB o ad th tp st fk fp ac si fr tt kd nu fa pl fo wd ci gr lm om nw rd aa kp ta nm rn gv gt rw rh lg lh ou) H → va_S (mA o ad) s.heap H locs → lv_has ls 10 [(0, .ref o), (1, .int x1), (2, .int x2), (3, .int x3), (4, .int x4), (5, .int x5), (6, .int x6), (7, .int x7)] → f_X3_lever_72 k36 x1 x2 x3 x4 x5 x6 x7 y0 y1 th st nw aa = some out → W p l e (rM 10 226) s m ([.ref o, .int a0, .int a1] : List Value).toArray below meth c H locs 0 0 (MQ below (gQ D cl (some (.int out.1)) True (mW mi cI cJ cB o ad out.2.1 tp out.2.2.1 fk fp ac si fr tt kd nu fa pl fo wd ci gr lm om out.2.2.2.1 rd out.2.2.2.2 kp ta nm rn gv gt rw rh lg lh ou) (mA o ad)) ([.ref o, .int a0, .int a1] : List Value).toArray s 0 0 (mA o ad)) (F0 m 72 ls [.int y1, .int y0]) := by
    intro k36 hk36 x1 x2 x3 x4 x5 x6 x7 y0 y1 th st nw aa ls H locs hP hS hl hf
    rw [f_X3_lever_72] at hf
    refine lv_iadd hx hb dX3_lever_72 ?_
    refine lv_istore (lv' := [(8, .int (y0 + y1)), (0, .ref o), (1, .int x1), (2, .int x2), (3, .int x3), (4, .int x4), (5, .int x5), (6, .int x6), (7, .int x7)]) hx hb dX3_lever_73 hl (by decide) rfl (fun ls hl => ?_)
    refine lv_iload hx hb dX3_lever_75 (lv_at hl 0 rfl) ?_
    refine lv_iload hx hb dX3_lever_77 (lv_at hl 7 rfl) ?_
    refine lv_iconst hx hb dX3_lever_79 kc_i2 ?_
    obtain ⟨g1, hf⟩ := gd_t hf
    refine lv_idiv hx hb dX3_lever_80 (nz32_t g1) ?_
    obtain ⟨v2, hv2, hf⟩ := ob_s hf
    refine mc_X3_X3_leastOf S hK hv2 hl.1 ⟨Nat.le_of_ble_eq_true rfl, Nat.le_of_ble_eq_true rfl⟩ (Nat.le_of_ble_eq_true rfl) ⟨Nat.zero_le _, Nat.zero_le _⟩ dX3_lever_81 (fun _ => ?_)
    refine lv_iload hx hb dX3_lever_84 (lv_at hl 7 rfl) ?_
    refine lv_iconst hx hb dX3_lever_86 kc_i2 ?_
    obtain ⟨g3, hf⟩ := gd_t hf
    refine lv_idiv hx hb dX3_lever_87 (nz32_t g3) ?_
    obtain ⟨v4, hv4, hf⟩ := ob_s hf
    refine mc_X3_X3_mostOf S hK hv4 hl.1 ⟨Nat.le_of_ble_eq_true rfl, Nat.le_of_ble_eq_true rfl⟩ (Nat.le_of_ble_eq_true rfl) ⟨Nat.zero_le _, Nat.zero_le _⟩ dX3_lever_88 (fun _ => ?_)
    obtain ⟨v5, hv5, hf⟩ := ob_s hf
    refine mc_X3_X3_isFrom S hK hv5 hl.1 ⟨Nat.le_of_ble_eq_true rfl, Nat.le_of_ble_eq_true rfl⟩ (Nat.le_of_ble_eq_true rfl) ⟨Nat.zero_le _, Nat.zero_le _⟩ dX3_lever_91 (fun hnv5 => ?_)
    refine lv_if_ne (tgt := 100) hx hb dX3_lever_94 (by decide) (fun c6 => ?_) (fun c6 => ?_)
    · replace hf := it_f c6 hf
      refine lv_aload_n hx hb dX3_lever_100 rfl (lv_at hl 1 rfl) ?_
      refine mg_1 S hC hK hP dX3_lever_101 ?_
      refine lv_sipush hx hb dX3_lever_104 kc_s224 ?_
      refine lv_iload hx hb dX3_lever_107 (lv_at hl 7 rfl) ?_
      refine lv_iconst hx hb dX3_lever_109 kc_i2 ?_
      obtain ⟨g7, hf⟩ := gd_t hf
      refine lv_idiv hx hb dX3_lever_110 (nz32_t g7) ?_
      refine lv_iadd hx hb dX3_lever_111 ?_
      refine lv_iload hx hb dX3_lever_112 (lv_at hl 0 rfl) ?_
      obtain ⟨g8, hf⟩ := gd_t hf
      refine ms_1 S hC hD hK hP hS (inR_vp g8) rfl dX3_lever_114 (fun H locs hP hS => ?_)
      refine lv_aload_n hx hb dX3_lever_115 rfl (lv_at hl 1 rfl) ?_
      refine lv_iload_n hx hb dX3_lever_116 rfl (lv_at hl 2 rfl) ?_
      obtain ⟨v9, hv9, hf⟩ := ob_s hf
      refine mc_X3_X3_letsAhead S hC hD hK hP hS hv9 hl.1 ⟨Nat.le_of_ble_eq_true rfl, Nat.le_of_ble_eq_true rfl⟩ (Nat.le_of_ble_eq_true rfl) ⟨Nat.zero_le _, Nat.zero_le _⟩ dX3_lever_117 (fun H locs _ hP hS => ?_)
      refine lv_istore (lv' := [(9, .int v9.1), (8, .int (y0 + y1)), (0, .ref o), (1, .int x1), (2, .int x2), (3, .int x3), (4, .int x4), (5, .int x5), (6, .int x6), (7, .int x7)]) hx hb dX3_lever_120 hl (by decide) rfl (fun ls hl => ?_)
      refine lv_aload_n hx hb dX3_lever_122 rfl (lv_at hl 2 rfl) ?_
      refine mg_1 S hC hK hP dX3_lever_123 ?_
      refine lv_sipush hx hb dX3_lever_126 kc_s224 ?_
      refine lv_iload hx hb dX3_lever_129 (lv_at hl 8 rfl) ?_
      refine lv_iconst hx hb dX3_lever_131 kc_i2 ?_
      obtain ⟨g10, hf⟩ := gd_t hf
      refine lv_idiv hx hb dX3_lever_132 (nz32_t g10) ?_
      refine lv_iadd hx hb dX3_lever_133 ?_
      refine lv_iload hx hb dX3_lever_134 (lv_at hl 9 rfl) ?_
      obtain ⟨g11, hf⟩ := gd_t hf
      refine ms_1 S hC hD hK hP hS (inR_vp g11) rfl dX3_lever_136 (fun H locs hP hS => ?_)
      refine lv_iload hx hb dX3_lever_137 (lv_at hl 0 rfl) ?_
      refine lv_iload_n hx hb dX3_lever_139 rfl (lv_at hl 5 rfl) ?_
      refine lv_icmp_gt (tgt := 146) hx hb dX3_lever_140 (by decide) (fun c12 => ?_) (fun c12 => ?_)
      · replace hf := it_t c12 hf
        refine lv_iload hx hb dX3_lever_146 (lv_at hl 0 rfl) ?_
        refine lv_istore_n (i := 3) (lv' := [(3, .int v9.1), (9, .int v9.1), (8, .int (y0 + y1)), (0, .ref o), (1, .int x1), (2, .int x2), (4, .int x4), (5, .int x5), (6, .int x6), (7, .int x7)]) hx hb dX3_lever_148 rfl hl (by decide) rfl (fun ls hl => ?_)
        refine lv_iload hx hb dX3_lever_149 (lv_at hl 8 rfl) ?_
        refine lv_iconst hx hb dX3_lever_151 kc_i2 ?_
        obtain ⟨g13, hf⟩ := gd_t hf
        refine lv_idiv hx hb dX3_lever_152 (nz32_t g13) ?_
        refine lv_istore (lv' := [(4, .int (x6 / (nI 2))), (3, .int v9.1), (9, .int v9.1), (8, .int (y0 + y1)), (0, .ref o), (1, .int x1), (2, .int x2), (5, .int x5), (6, .int x6), (7, .int x7)]) hx hb dX3_lever_153 hl (by decide) rfl (fun ls hl => ?_)
        refine lv_iload hx hb dX3_lever_155 (lv_at hl 3 rfl) ?_
        refine lv_istore (lv' := [(5, .int (y0 + y1)), (4, .int (x6 / (nI 2))), (3, .int v9.1), (9, .int v9.1), (8, .int (y0 + y1)), (0, .ref o), (1, .int x1), (2, .int x2), (6, .int x6), (7, .int x7)]) hx hb dX3_lever_157 hl (by decide) rfl (fun ls hl => ?_)
        refine lv_iinc (v := (x6 + 1)) (lv' := [(6, .int (x6 + 1)), (5, .int (y0 + y1)), (4, .int (x6 / (nI 2))), (3, .int v9.1), (9, .int v9.1), (8, .int (y0 + y1)), (0, .ref o), (1, .int x1), (2, .int x2), (7, .int x7)]) hx hb dX3_lever_159 hl (k := 8) rfl rfl (by decide) rfl (fun ls hl => ?_)
        refine lv_goto (tgt := 36) hx hb dX3_lever_162 (by decide) ?_
        exact hk36 x1 x2 v9.1 (x6 / (nI 2)) (y0 + y1) (x6 + 1) th st (upd v9.2.1 ((nI 224) + (x6 / (nI 2))).toNatClampNeg x7) v9.2.2 ls H locs hP hS (lv_sub (l' := [(0, .ref o), (1, .int x1), (2, .int x2), (3, .int v9.1), (4, .int (x6 / (nI 2))), (5, .int (y0 + y1)), (6, .int (x6 + 1))]) hl [6, 7, 8, 3, 2, 1, 0] rfl) hf
      · replace hf := it_f c12 hf
        refine lv_goto (tgt := 159) hx hb dX3_lever_143 (by decide) ?_
        refine lv_iinc (v := (x6 + 1)) (lv' := [(6, .int (x6 + 1)), (9, .int v9.1), (8, .int (y0 + y1)), (0, .ref o), (1, .int x1), (2, .int x2), (3, .int x3), (4, .int x4), (5, .int x5), (7, .int x7)]) hx hb dX3_lever_159 hl (k := 8) rfl rfl (by decide) rfl (fun ls hl => ?_)
        refine lv_goto (tgt := 36) hx hb dX3_lever_162 (by decide) ?_
        exact hk36 x1 x2 x3 x4 x5 (x6 + 1) th st (upd v9.2.1 ((nI 224) + (x6 / (nI 2))).toNatClampNeg x7) v9.2.2 ls H locs hP hS (lv_sub (l' := [(0, .ref o), (1, .int x1), (2, .int x2), (3, .int x3), (4, .int x4), (5, .int x5), (6, .int (x6 + 1))]) hl [3, 4, 5, 6, 7, 8, 0] rfl) hf
    · replace hf := it_t c6 hf
      refine lv_goto (tgt := 159) hx hb dX3_lever_97 (by decide) ?_
      refine lv_iinc (v := (x6 + 1)) (lv' := [(6, .int (x6 + 1)), (8, .int (y0 + y1)), (0, .ref o), (1, .int x1), (2, .int x2), (3, .int x3), (4, .int x4), (5, .int x5), (7, .int x7)]) hx hb dX3_lever_159 hl (k := 7) rfl rfl (by decide) rfl (fun ls hl => ?_)
      refine lv_goto (tgt := 36) hx hb dX3_lever_162 (by decide) ?_
      exact hk36 x1 x2 x3 x4 x5 (x6 + 1) th st nw aa ls H locs hP hS (lv_sub (l' := [(0, .ref o), (1, .int x1), (2, .int x2), (3, .int x3), (4, .int x4), (5, .int x5), (6, .int (x6 + 1))]) hl [2, 3, 4, 5, 6, 7, 0] rfl) hf
  have w186 : ∀ (y1 : Int32) (th : Int32) (st : Int32) (nw : (Nat → Int32)) (aa : (Nat → Int32)) (ls : Array Slot) (H : Heap) (locs : List Loc), va_P D cl (mW mi cI cJ cB o ad th tp st fk fp ac si fr tt kd nu fa pl fo wd ci gr lm om nw rd aa kp ta nm rn gv gt rw rh lg lh ou) H → va_S (mA o ad) s.heap H locs → lv_has ls 10 [] → f_X3_lever_186 y1 th st nw aa = some out → W p l e (rM 10 226) s m ([.ref o, .int a0, .int a1] : List Value).toArray below meth c H locs 0 0 (MQ below (gQ D cl (some (.int out.1)) True (mW mi cI cJ cB o ad out.2.1 tp out.2.2.1 fk fp ac si fr tt kd nu fa pl fo wd ci gr lm om out.2.2.2.1 rd out.2.2.2.2 kp ta nm rn gv gt rw rh lg lh ou) (mA o ad)) ([.ref o, .int a0, .int a1] : List Value).toArray s 0 0 (mA o ad)) (F0 m 186 ls [.int y1, .ref o]) := by
    intro y1 th st nw aa ls H locs hP hS hl hf
    rw [f_X3_lever_186] at hf
    obtain ⟨v1, hv1, hf⟩ := ob_s hf
    refine mc_X3_X3_gives S hC hD hK hP hS hv1 hl.1 ⟨Nat.le_of_ble_eq_true rfl, Nat.le_of_ble_eq_true rfl⟩ (Nat.le_of_ble_eq_true rfl) ⟨Nat.zero_le _, Nat.zero_le _⟩ dX3_lever_186 (fun H locs _ hP hS => ?_)
    have hE := Option.some.inj hf
    subst hE
    exact gt_wi S hr hlocks trivial hP hS dX3_lever_189
  have w36 : ∀ (n : Nat) , ∀ (x1 : Int32) (x2 : Int32) (x3 : Int32) (x4 : Int32) (x5 : Int32) (x6 : Int32) (th : Int32) (st : Int32) (nw : (Nat → Int32)) (aa : (Nat → Int32)) (ls : Array Slot) (H : Heap) (locs : List Loc), va_P D cl (mW mi cI cJ cB o ad th tp st fk fp ac si fr tt kd nu fa pl fo wd ci gr lm om nw rd aa kp ta nm rn gv gt rw rh lg lh ou) H → va_S (mA o ad) s.heap H locs → lv_has ls 10 [(0, .ref o), (1, .int x1), (2, .int x2), (3, .int x3), (4, .int x4), (5, .int x5), (6, .int x6)] → f_X3_lever_36 n x1 x2 x3 x4 x5 x6 th st nw aa = some out → W p l e (rM 10 226) s m ([.ref o, .int a0, .int a1] : List Value).toArray below meth c H locs 0 0 (MQ below (gQ D cl (some (.int out.1)) True (mW mi cI cJ cB o ad out.2.1 tp out.2.2.1 fk fp ac si fr tt kd nu fa pl fo wd ci gr lm om out.2.2.2.1 rd out.2.2.2.2 kp ta nm rn gv gt rw rh lg lh ou) (mA o ad)) ([.ref o, .int a0, .int a1] : List Value).toArray s 0 0 (mA o ad)) (F0 m 36 ls []) := by
    intro n
    induction n with
    | zero =>
      intro x1 x2 x3 x4 x5 x6 th st nw aa ls H locs hP hS hl hf
      exact absurd hf (by rw [f_X3_lever_36]; exact nofun)
    | succ n ih =>
      intro x1 x2 x3 x4 x5 x6 th st nw aa ls H locs hP hS hl hf
      rw [f_X3_lever_36] at hf
      refine lv_iload hx hb dX3_lever_36 (lv_at hl 6 rfl) ?_
      refine lv_bipush hx hb dX3_lever_38 kc_b12 ?_
      refine lv_icmp_ge (tgt := 165) hx hb dX3_lever_40 (by decide) (fun c1 => ?_) (fun c1 => ?_)
      · replace hf := it_t c1 hf
        refine lv_aload_n hx hb dX3_lever_165 rfl (lv_at hl 0 rfl) ?_
        refine lv_iload_n hx hb dX3_lever_166 rfl (lv_at hl 2 rfl) ?_
        refine lv_if_ne (tgt := 174) hx hb dX3_lever_167 (by decide) (fun c2 => ?_) (fun c2 => ?_)
        · replace hf := it_f c2 hf
          refine lv_iload_n hx hb dX3_lever_174 rfl (lv_at hl 2 rfl) ?_
          refine lv_iconst hx hb dX3_lever_175 kc_i1 ?_
          refine lv_icmp_ne (tgt := 184) hx hb dX3_lever_176 (by decide) (fun c3 => ?_) (fun c3 => ?_)
          · replace hf := it_f c3 hf
            refine lv_iload hx hb dX3_lever_184 (lv_at hl 5 rfl) ?_
            exact (w186) x5 th st nw aa ls H locs hP hS (lv_sub (l' := []) hl [] rfl) hf
          · replace hf := it_t c3 hf
            refine lv_iload hx hb dX3_lever_179 (lv_at hl 4 rfl) ?_
            refine lv_goto (tgt := 186) hx hb dX3_lever_181 (by decide) ?_
            exact (w186) x4 th st nw aa ls H locs hP hS (lv_sub (l' := []) hl [] rfl) hf
        · replace hf := it_t c2 hf
          refine lv_iload_n hx hb dX3_lever_170 rfl (lv_at hl 3 rfl) ?_
          refine lv_goto (tgt := 186) hx hb dX3_lever_171 (by decide) ?_
          exact (w186) x3 th st nw aa ls H locs hP hS (lv_sub (l' := []) hl [] rfl) hf
      · replace hf := it_f c1 hf
        refine lv_aload_n hx hb dX3_lever_43 rfl (lv_at hl 0 rfl) ?_
        refine mg_1 S hC hK hP dX3_lever_44 ?_
        refine lv_sipush hx hb dX3_lever_47 kc_s224 ?_
        refine lv_iload hx hb dX3_lever_50 (lv_at hl 6 rfl) ?_
        refine lv_iconst hx hb dX3_lever_52 kc_i2 ?_
        obtain ⟨g4, hf⟩ := gd_t hf
        refine lv_idiv hx hb dX3_lever_53 (nz32_t g4) ?_
        refine lv_iadd hx hb dX3_lever_54 ?_
        obtain ⟨g5, hf⟩ := gd_t hf
        refine ma_1 S hC hK hP (inR_vp g5) rfl dX3_lever_55 ?_
        refine lv_istore (lv' := [(7, .int (nw ((nI 224) + (x6 / (nI 2))).toNatClampNeg)), (0, .ref o), (1, .int x1), (2, .int x2), (3, .int x3), (4, .int x4), (5, .int x5), (6, .int x6)]) hx hb dX3_lever_56 hl (by decide) rfl (fun ls hl => ?_)
        refine lv_iload hx hb dX3_lever_58 (lv_at hl 0 rfl) ?_
        refine lv_iload hx hb dX3_lever_60 (lv_at hl 7 rfl) ?_
        refine lv_iconst hx hb dX3_lever_62 kc_i2 ?_
        obtain ⟨g6, hf⟩ := gd_t hf
        refine lv_irem hx hb dX3_lever_63 (nz32_t g6) ?_
        refine lv_if_ne (tgt := 71) hx hb dX3_lever_64 (by decide) (fun c7 => ?_) (fun c7 => ?_)
        · replace hf := it_f c7 hf
          refine lv_iconst hx hb dX3_lever_71 kc_i1 ?_
          exact (w72 (f_X3_lever_36 n) (ih)) x1 x2 x3 x4 x5 x6 (nw ((nI 224) + (x6 / (nI 2))).toNatClampNeg) (nw ((nI 224) + (x6 / (nI 2))).toNatClampNeg) 1 th st nw aa ls H locs hP hS (lv_sub (l' := [(0, .ref o), (1, .int x1), (2, .int x2), (3, .int x3), (4, .int x4), (5, .int x5), (6, .int x6), (7, .int (nw ((nI 224) + (x6 / (nI 2))).toNatClampNeg))]) hl [1, 2, 3, 4, 5, 6, 7, 0] rfl) hf
        · replace hf := it_t c7 hf
          refine lv_iconst hx hb dX3_lever_67 kc_im1 ?_
          refine lv_goto (tgt := 72) hx hb dX3_lever_68 (by decide) ?_
          exact (w72 (f_X3_lever_36 n) (ih)) x1 x2 x3 x4 x5 x6 (nw ((nI 224) + (x6 / (nI 2))).toNatClampNeg) (nw ((nI 224) + (x6 / (nI 2))).toNatClampNeg) (-1) th st nw aa ls H locs hP hS (lv_sub (l' := [(0, .ref o), (1, .int x1), (2, .int x2), (3, .int x3), (4, .int x4), (5, .int x5), (6, .int x6), (7, .int (nw ((nI 224) + (x6 / (nI 2))).toNatClampNeg))]) hl [1, 2, 3, 4, 5, 6, 7, 0] rfl) hf
  suffices hg : ∀ (H : Heap) (locs : List Loc), va_P D cl (mW mi cI cJ cB o ad th tp st fk fp ac si fr tt kd nu fa pl fo wd ci gr lm om nw rd aa kp ta nm rn gv gt rw rh lg lh ou) H → va_S (mA o ad) s.heap H locs → W p l e (rM 10 226) s m ([.ref o, .int a0, .int a1] : List Value).toArray below meth c H locs 0 0 (MQ below (gQ D cl (some (.int out.1)) True (mW mi cI cJ cB o ad out.2.1 tp out.2.2.1 fk fp ac si fr tt kd nu fa pl fo wd ci gr lm om out.2.2.2.1 rd out.2.2.2.2 kp ta nm rn gv gt rw rh lg lh ou) (mA o ad)) ([.ref o, .int a0, .int a1] : List Value).toArray s 0 0 (mA o ad)) (F0 m 0 ls []) from hg s.heap [] hP va_S.rf
  clear hP
  intro H locs hP hS
  rw [f_X3_lever] at hf
  refine lv_iload_n hx hb dX3_lever_0 rfl (lv_at hl 1 rfl) ?_
  refine lv_iconst hx hb dX3_lever_1 kc_i1 ?_
  refine lv_bipush hx hb dX3_lever_2 kc_b30 ?_
  obtain ⟨v1, hv1, hf⟩ := ob_s hf
  refine mc_X3_X3_isFrom S hK hv1 hl.1 ⟨Nat.le_of_ble_eq_true rfl, Nat.le_of_ble_eq_true rfl⟩ (Nat.le_of_ble_eq_true rfl) ⟨Nat.zero_le _, Nat.zero_le _⟩ dX3_lever_4 (fun hnv1 => ?_)
  refine lv_if_eq (tgt := 19) hx hb dX3_lever_7 (by decide) (fun c2 => ?_) (fun c2 => ?_)
  · replace hf := it_t c2 hf
    exact (w19) th st nw aa ls H locs hP hS (lv_sub (l' := [(0, .ref o)]) hl [0] rfl) hf
  · replace hf := it_f c2 hf
    refine lv_iload_n hx hb dX3_lever_10 rfl (lv_at hl 2 rfl) ?_
    refine lv_iconst hx hb dX3_lever_11 kc_i0 ?_
    refine lv_iconst hx hb dX3_lever_12 kc_i2 ?_
    obtain ⟨v3, hv3, hf⟩ := ob_s hf
    refine mc_X3_X3_isFrom S hK hv3 hl.1 ⟨Nat.le_of_ble_eq_true rfl, Nat.le_of_ble_eq_true rfl⟩ (Nat.le_of_ble_eq_true rfl) ⟨Nat.zero_le _, Nat.zero_le _⟩ dX3_lever_13 (fun hnv3 => ?_)
    refine lv_if_ne (tgt := 25) hx hb dX3_lever_16 (by decide) (fun c4 => ?_) (fun c4 => ?_)
    · replace hf := it_f c4 hf
      refine lv_iconst hx hb dX3_lever_25 kc_im1 ?_
      refine lv_istore_n (i := 3) (lv' := [(3, .int (-1)), (0, .ref o), (1, .int a0), (2, .int a1)]) hx hb dX3_lever_26 rfl hl (by decide) rfl (fun ls hl => ?_)
      refine lv_iconst hx hb dX3_lever_27 kc_i0 ?_
      refine lv_istore (lv' := [(4, .int 0), (3, .int (-1)), (0, .ref o), (1, .int a0), (2, .int a1)]) hx hb dX3_lever_28 hl (by decide) rfl (fun ls hl => ?_)
      refine lv_iconst hx hb dX3_lever_30 kc_i0 ?_
      refine lv_istore (lv' := [(5, .int 0), (4, .int 0), (3, .int (-1)), (0, .ref o), (1, .int a0), (2, .int a1)]) hx hb dX3_lever_31 hl (by decide) rfl (fun ls hl => ?_)
      refine lv_iconst hx hb dX3_lever_33 kc_i0 ?_
      refine lv_istore (lv' := [(6, .int 0), (5, .int 0), (4, .int 0), (3, .int (-1)), (0, .ref o), (1, .int a0), (2, .int a1)]) hx hb dX3_lever_34 hl (by decide) rfl (fun ls hl => ?_)
      exact (w36 FU) a0 a1 (-1) 0 0 0 th st nw aa ls H locs hP hS (lv_sub (l' := [(0, .ref o), (1, .int a0), (2, .int a1), (3, .int (-1)), (4, .int 0), (5, .int 0), (6, .int 0)]) hl [4, 5, 6, 3, 2, 1, 0] rfl) hf
    · replace hf := it_t c4 hf
      exact (w19) th st nw aa ls H locs hP hS (lv_sub (l' := [(0, .ref o)]) hl [0] rfl) hf
theorem hd_J5_numberOfTrailingZeros : yJ5_numberOfTrailingZeros.cls ≠ "java/lang/invoke/MethodHandle" ∧ yJ5_numberOfTrailingZeros.cls ≠ "java/lang/invoke/VarHandle" ∧ (parseMethodDescriptor yJ5_numberOfTrailingZeros.desc).map (fun d => d.parameters.length) = some 1 := by decide +kernel
set_option maxHeartbeats 4000000 in
set_option maxRecDepth 100000 in
theorem mm_J5_numberOfTrailingZeros {a0 : Int32} {out : Int32} (hf : f_J5_numberOfTrailingZeros a0 = some out) : Met l yJ5_numberOfTrailingZeros (ws_ yJ5_numberOfTrailingZeros cJ5_numberOfTrailingZeros 2 (some .int)) (rM 0 0) (gPc D cl tys [.int a0] []) (gR (some (.int out)) True) 0 0 (fun _ => False) := by
  refine gGo (by decide +kernel) (Nat.le_of_ble_eq_true rfl) (fun p e s m below meth c ls S hr hlocks hK hP hl => ?_)
  have S : CallFix p m c cJ5_numberOfTrailingZeros 2 s _ lw_all RJ5 := S
  obtain ⟨hx, hb, hml, hown, hts⟩ := id S
  have hl : lv_has ls 2 [(0, .int a0)] := hl
  have w62 : ∀ (x0 : Int32) (x1 : Int32) (ls : Array Slot), lv_has ls 2 [(0, .int x0), (1, .int x1)] → f_J5_numberOfTrailingZeros_62 x0 x1 = some out → W p l e (rM 0 0) s m ([.int a0] : List Value).toArray below meth c s.heap [] 0 0 (MQ below (gR (some (.int out)) True) ([.int a0] : List Value).toArray s 0 0 (fun _ => False)) (F0 m 62 ls []) := by
    intro x0 x1 ls hl hf
    rw [f_J5_numberOfTrailingZeros_62] at hf
    refine lv_iload_n hx hb dJ5_numberOfTrailingZeros_62 rfl (lv_at hl 0 rfl) ?_
    refine lv_iconst hx hb dJ5_numberOfTrailingZeros_63 kc_i4 ?_
    refine lv_icmp_le (tgt := 74) hx hb dJ5_numberOfTrailingZeros_64 (by decide) (fun c1 => ?_) (fun c1 => ?_)
    · replace hf := it_t c1 hf
      refine lv_iload_n hx hb dJ5_numberOfTrailingZeros_74 rfl (lv_at hl 1 rfl) ?_
      refine lv_iload_n hx hb dJ5_numberOfTrailingZeros_75 rfl (lv_at hl 0 rfl) ?_
      refine lv_iconst hx hb dJ5_numberOfTrailingZeros_76 kc_i1 ?_
      refine lv_iushr hx hb dJ5_numberOfTrailingZeros_77 rfl ?_
      refine lv_iadd hx hb dJ5_numberOfTrailingZeros_78 ?_
      have hE := Option.some.inj hf
      subst hE
      exact gt_ri S hr hlocks trivial dJ5_numberOfTrailingZeros_79
    · replace hf := it_f c1 hf
      refine lv_iinc (v := (x1 + (2))) (lv' := [(1, .int (x1 + (2))), (0, .int x0)]) hx hb dJ5_numberOfTrailingZeros_67 hl (k := 1) rfl rfl (by decide) rfl (fun ls hl => ?_)
      refine lv_iload_n hx hb dJ5_numberOfTrailingZeros_70 rfl (lv_at hl 1 rfl) ?_
      refine lv_iconst hx hb dJ5_numberOfTrailingZeros_71 kc_i2 ?_
      refine lv_iushr hx hb dJ5_numberOfTrailingZeros_72 rfl ?_
      refine lv_topi (fun x2 ex2 => ?_)
      replace hf := bd_e ex2 hf
      refine lv_istore_n (i := 0) (lv' := [(0, .int x2), (1, .int (x1 + (2)))]) hx hb dJ5_numberOfTrailingZeros_73 rfl hl (by decide) rfl (fun ls hl => ?_)
      refine lv_iload_n hx hb dJ5_numberOfTrailingZeros_74 rfl (lv_at hl 1 rfl) ?_
      refine lv_iload_n hx hb dJ5_numberOfTrailingZeros_75 rfl (lv_at hl 0 rfl) ?_
      refine lv_iconst hx hb dJ5_numberOfTrailingZeros_76 kc_i1 ?_
      refine lv_iushr hx hb dJ5_numberOfTrailingZeros_77 rfl ?_
      refine lv_iadd hx hb dJ5_numberOfTrailingZeros_78 ?_
      have hE := Option.some.inj hf
      subst hE
      exact gt_ri S hr hlocks trivial dJ5_numberOfTrailingZeros_79
  have w49 : ∀ (x0 : Int32) (x1 : Int32) (ls : Array Slot), lv_has ls 2 [(0, .int x0), (1, .int x1)] → f_J5_numberOfTrailingZeros_49 x0 x1 = some out → W p l e (rM 0 0) s m ([.int a0] : List Value).toArray below meth c s.heap [] 0 0 (MQ below (gR (some (.int out)) True) ([.int a0] : List Value).toArray s 0 0 (fun _ => False)) (F0 m 49 ls []) := by
    intro x0 x1 ls hl hf
    rw [f_J5_numberOfTrailingZeros_49] at hf
    refine lv_iload_n hx hb dJ5_numberOfTrailingZeros_49 rfl (lv_at hl 0 rfl) ?_
    refine lv_bipush hx hb dJ5_numberOfTrailingZeros_50 kc_b16 ?_
    refine lv_icmp_le (tgt := 62) hx hb dJ5_numberOfTrailingZeros_52 (by decide) (fun c1 => ?_) (fun c1 => ?_)
    · replace hf := it_t c1 hf
      exact (w62) x0 x1 ls hl hf
    · replace hf := it_f c1 hf
      refine lv_iinc (v := (x1 + (4))) (lv' := [(1, .int (x1 + (4))), (0, .int x0)]) hx hb dJ5_numberOfTrailingZeros_55 hl (k := 1) rfl rfl (by decide) rfl (fun ls hl => ?_)
      refine lv_iload_n hx hb dJ5_numberOfTrailingZeros_58 rfl (lv_at hl 1 rfl) ?_
      refine lv_iconst hx hb dJ5_numberOfTrailingZeros_59 kc_i4 ?_
      refine lv_iushr hx hb dJ5_numberOfTrailingZeros_60 rfl ?_
      refine lv_topi (fun x2 ex2 => ?_)
      replace hf := bd_e ex2 hf
      refine lv_istore_n (i := 0) (lv' := [(0, .int x2), (1, .int (x1 + (4)))]) hx hb dJ5_numberOfTrailingZeros_61 rfl hl (by decide) rfl (fun ls hl => ?_)
      exact (w62) x2 (x1 + (4)) ls hl hf
  have w34 : ∀ (x0 : Int32) (x1 : Int32) (ls : Array Slot), lv_has ls 2 [(0, .int x0), (1, .int x1)] → f_J5_numberOfTrailingZeros_34 x0 x1 = some out → W p l e (rM 0 0) s m ([.int a0] : List Value).toArray below meth c s.heap [] 0 0 (MQ below (gR (some (.int out)) True) ([.int a0] : List Value).toArray s 0 0 (fun _ => False)) (F0 m 34 ls []) := by
    intro x0 x1 ls hl hf
    rw [f_J5_numberOfTrailingZeros_34] at hf
    refine lv_iload_n hx hb dJ5_numberOfTrailingZeros_34 rfl (lv_at hl 0 rfl) ?_
    refine lv_sipush hx hb dJ5_numberOfTrailingZeros_35 kc_s256 ?_
    refine lv_icmp_le (tgt := 49) hx hb dJ5_numberOfTrailingZeros_38 (by decide) (fun c1 => ?_) (fun c1 => ?_)
    · replace hf := it_t c1 hf
      exact (w49) x0 x1 ls hl hf
    · replace hf := it_f c1 hf
      refine lv_iinc (v := (x1 + (8))) (lv' := [(1, .int (x1 + (8))), (0, .int x0)]) hx hb dJ5_numberOfTrailingZeros_41 hl (k := 1) rfl rfl (by decide) rfl (fun ls hl => ?_)
      refine lv_iload_n hx hb dJ5_numberOfTrailingZeros_44 rfl (lv_at hl 1 rfl) ?_
      refine lv_bipush hx hb dJ5_numberOfTrailingZeros_45 kc_b8 ?_
      refine lv_iushr hx hb dJ5_numberOfTrailingZeros_47 rfl ?_
      refine lv_topi (fun x2 ex2 => ?_)
      replace hf := bd_e ex2 hf
      refine lv_istore_n (i := 0) (lv' := [(0, .int x2), (1, .int (x1 + (8)))]) hx hb dJ5_numberOfTrailingZeros_48 rfl hl (by decide) rfl (fun ls hl => ?_)
      exact (w49) x2 (x1 + (8)) ls hl hf
  rw [f_J5_numberOfTrailingZeros] at hf
  refine lv_iload_n hx hb dJ5_numberOfTrailingZeros_0 rfl (lv_at hl 0 rfl) ?_
  refine lv_iconst hx hb dJ5_numberOfTrailingZeros_1 kc_im1 ?_
  refine lv_ixor hx hb dJ5_numberOfTrailingZeros_2 ?_
  refine lv_iload_n hx hb dJ5_numberOfTrailingZeros_3 rfl (lv_at hl 0 rfl) ?_
  refine lv_iconst hx hb dJ5_numberOfTrailingZeros_4 kc_i1 ?_
  refine lv_isub hx hb dJ5_numberOfTrailingZeros_5 ?_
  refine lv_iand hx hb dJ5_numberOfTrailingZeros_6 ?_
  refine lv_istore_n (i := 0) (lv' := [(0, .int ((a0 ^^^ (-1)) &&& (a0 - 1)))]) hx hb dJ5_numberOfTrailingZeros_7 rfl hl (by decide) rfl (fun ls hl => ?_)
  refine lv_iload_n hx hb dJ5_numberOfTrailingZeros_8 rfl (lv_at hl 0 rfl) ?_
  refine lv_if_gt (tgt := 17) hx hb dJ5_numberOfTrailingZeros_9 (by decide) (fun c1 => ?_) (fun c1 => ?_)
  · replace hf := it_t c1 hf
    refine lv_iconst hx hb dJ5_numberOfTrailingZeros_17 kc_i1 ?_
    refine lv_istore_n (i := 1) (lv' := [(1, .int 1), (0, .int ((a0 ^^^ (-1)) &&& (a0 - 1)))]) hx hb dJ5_numberOfTrailingZeros_18 rfl hl (by decide) rfl (fun ls hl => ?_)
    refine lv_iload_n hx hb dJ5_numberOfTrailingZeros_19 rfl (lv_at hl 1 rfl) ?_
    refine lv_ldcw hx hb hown (hts _ q1688) dJ5_numberOfTrailingZeros_20 ?_
    refine lv_icmp_le (tgt := 34) hx hb dJ5_numberOfTrailingZeros_23 (by decide) (fun c2 => ?_) (fun c2 => ?_)
    · replace hf := it_t c2 hf
      exact (w34) ((a0 ^^^ (-1)) &&& (a0 - 1)) 1 ls (lv_sub (l' := [(0, .int ((a0 ^^^ (-1)) &&& (a0 - 1))), (1, .int 1)]) hl [1, 0] rfl) hf
    · replace hf := it_f c2 hf
      refine lv_iinc (v := (1 + (16))) (lv' := [(1, .int (1 + (16))), (0, .int ((a0 ^^^ (-1)) &&& (a0 - 1)))]) hx hb dJ5_numberOfTrailingZeros_26 hl (k := 0) rfl rfl (by decide) rfl (fun ls hl => ?_)
      refine lv_iload_n hx hb dJ5_numberOfTrailingZeros_29 rfl (lv_at hl 1 rfl) ?_
      refine lv_bipush hx hb dJ5_numberOfTrailingZeros_30 kc_b16 ?_
      refine lv_iushr hx hb dJ5_numberOfTrailingZeros_32 rfl ?_
      refine lv_topi (fun x3 ex3 => ?_)
      replace hf := bd_e ex3 hf
      refine lv_istore_n (i := 0) (lv' := [(0, .int x3), (1, .int (1 + (16)))]) hx hb dJ5_numberOfTrailingZeros_33 rfl hl (by decide) rfl (fun ls hl => ?_)
      exact (w34) x3 (1 + (16)) ls hl hf
  · replace hf := it_f c1 hf
    refine lv_iload_n hx hb dJ5_numberOfTrailingZeros_12 rfl (lv_at hl 0 rfl) ?_
    refine lv_bipush hx hb dJ5_numberOfTrailingZeros_13 kc_b32 ?_
    refine lv_iand hx hb dJ5_numberOfTrailingZeros_15 ?_
    have hE := Option.some.inj hf
    subst hE
    exact gt_ri S hr hlocks trivial dJ5_numberOfTrailingZeros_16
set_option maxRecDepth 100000 in
theorem mc_X3_J5_numberOfTrailingZeros {a0 : Int32} {out : Int32} (S : CallFix p m c cc nL s args lw_all RX3) (hK : va_K D cl tys s) (hf : f_J5_numberOfTrailingZeros a0 = some out) (hsz : ls.size = nL) (hR : 0 + 1 ≤ R.frames ∧ 8 + (2 + 11) + 0 ≤ R.locals) (hW : (rest.map fun v => v.category).sum ≤ 8) (hcs : cells ≤ R.cells ∧ slots ≤ R.slots) (hdg : decode cc pc = .ok (.invokestatic 372, 3)) (kk : True → W p l e R s m args below meth c H locs cells slots Q (F0 m (pc + 3) ls (.int out :: rest))) : W p l e R s m args below meth c H locs cells slots Q (F0 m pc ls (.int a0 :: rest)) :=
  gc_Sr (As := [.int a0]) S (mm_J5_numberOfTrailingZeros hf) (va_cwS 1 S.2.2.2.2 (lw_S q2545 q1686 q183 q1687) rfl rfl rfl hd_J5_numberOfTrailingZeros hR) (gPreS hK gP0) rfl hsz rfl hW hdg hcs kk
theorem hd_X3_looksAt : yX3_looksAt.cls = RX3 ∧ yX3_looksAt.cls ≠ "java/lang/invoke/MethodHandle" ∧ yX3_looksAt.cls ≠ "java/lang/invoke/VarHandle" ∧ (parseMethodDescriptor yX3_looksAt.desc).map (fun d => d.parameters.length) = some 2 := by decide +kernel
set_option maxHeartbeats 4000000 in
set_option maxRecDepth 100000 in
theorem mm_X3_looksAt {a0 : Int32} {a1 : Int32} {out : Int32} (hC : mC cl tys mi cI cJ cB) (hf : f_X3_looksAt nw a0 a1 = some out) : Met l yX3_looksAt (ws_ yX3_looksAt cX3_looksAt 6 (some .int)) (rM 3 65) (gPc D cl tys [.ref o, .int a0, .int a1] (mW mi cI cJ cB o ad th tp st fk fp ac si fr tt kd nu fa pl fo wd ci gr lm om nw rd aa kp ta nm rn gv gt rw rh lg lh ou)) (gR (some (.int out)) True) 0 0 (fun _ => False) := by
  refine gGo (by decide +kernel) (Nat.le_of_ble_eq_true rfl) (fun p e s m below meth c ls S hr hlocks hK hP hl => ?_)
  have S : CallFix p m c cX3_looksAt 6 s _ lw_all RX3 := S
  obtain ⟨hx, hb, hml, hown, hts⟩ := id S
  have hl : lv_has ls 6 [(0, .ref o), (1, .int a0), (2, .int a1)] := hl
  have w2 : ∀ (n : Nat) , ∀ (x1 : Int32) (x2 : Int32) (x3 : Int32) (ls : Array Slot), lv_has ls 6 [(0, .ref o), (1, .int x1), (2, .int x2), (3, .int x3)] → f_X3_looksAt_2 n nw x1 x2 x3 = some out → W p l e (rM 3 65) s m ([.ref o, .int a0, .int a1] : List Value).toArray below meth c s.heap [] 0 0 (MQ below (gR (some (.int out)) True) ([.ref o, .int a0, .int a1] : List Value).toArray s 0 0 (fun _ => False)) (F0 m 2 ls []) := by
    intro n
    induction n with
    | zero =>
      intro x1 x2 x3 ls hl hf
      exact absurd hf (by rw [f_X3_looksAt_2]; exact nofun)
    | succ n ih =>
      intro x1 x2 x3 ls hl hf
      rw [f_X3_looksAt_2] at hf
      refine lv_iload_n hx hb dX3_looksAt_2 rfl (lv_at hl 3 rfl) ?_
      refine lv_aload_n hx hb dX3_looksAt_3 rfl (lv_at hl 0 rfl) ?_
      refine lv_iload_n hx hb dX3_looksAt_4 rfl (lv_at hl 1 rfl) ?_
      refine lv_bipush hx hb dX3_looksAt_5 kc_b11 ?_
      obtain ⟨v1, hv1, hf⟩ := ob_s hf
      refine mc_X3_X3_of S hC hK hP hv1 hl.1 ⟨Nat.le_of_ble_eq_true rfl, Nat.le_of_ble_eq_true rfl⟩ (Nat.le_of_ble_eq_true rfl) ⟨Nat.zero_le _, Nat.zero_le _⟩ dX3_looksAt_7 (fun _ => ?_)
      refine lv_icmp_ge (tgt := 68) hx hb dX3_looksAt_10 (by decide) (fun c2 => ?_) (fun c2 => ?_)
      · replace hf := it_t c2 hf
        refine lv_aload_n hx hb dX3_looksAt_68 rfl (lv_at hl 0 rfl) ?_
        refine lv_iload_n hx hb dX3_looksAt_69 rfl (lv_at hl 1 rfl) ?_
        refine lv_iconst hx hb dX3_looksAt_70 kc_i4 ?_
        obtain ⟨v3, hv3, hf⟩ := ob_s hf
        refine mc_X3_X3_of S hC hK hP hv3 hl.1 ⟨Nat.le_of_ble_eq_true rfl, Nat.le_of_ble_eq_true rfl⟩ (Nat.le_of_ble_eq_true rfl) ⟨Nat.zero_le _, Nat.zero_le _⟩ dX3_looksAt_71 (fun _ => ?_)
        have hE := Option.some.inj hf
        subst hE
        exact gt_ri S hr hlocks trivial dX3_looksAt_74
      · replace hf := it_f c2 hf
        refine lv_aload_n hx hb dX3_looksAt_13 rfl (lv_at hl 0 rfl) ?_
        refine lv_iload_n hx hb dX3_looksAt_14 rfl (lv_at hl 1 rfl) ?_
        refine lv_bipush hx hb dX3_looksAt_15 kc_b12 ?_
        refine lv_iload_n hx hb dX3_looksAt_17 rfl (lv_at hl 3 rfl) ?_
        refine lv_iadd hx hb dX3_looksAt_18 ?_
        obtain ⟨v4, hv4, hf⟩ := ob_s hf
        refine mc_X3_X3_of S hC hK hP hv4 hl.1 ⟨Nat.le_of_ble_eq_true rfl, Nat.le_of_ble_eq_true rfl⟩ (Nat.le_of_ble_eq_true rfl) ⟨Nat.zero_le _, Nat.zero_le _⟩ dX3_looksAt_19 (fun _ => ?_)
        refine lv_istore (lv' := [(4, .int v4), (0, .ref o), (1, .int x1), (2, .int x2), (3, .int x3)]) hx hb dX3_looksAt_22 hl (by decide) rfl (fun ls hl => ?_)
        refine lv_aload_n hx hb dX3_looksAt_24 rfl (lv_at hl 1 rfl) ?_
        refine lv_iload hx hb dX3_looksAt_25 (lv_at hl 0 rfl) ?_
        refine lv_iconst hx hb dX3_looksAt_27 kc_i2 ?_
        obtain ⟨v5, hv5, hf⟩ := ob_s hf
        refine mc_X3_X3_home0 S hC hK hP hv5 hl.1 ⟨Nat.le_of_ble_eq_true rfl, Nat.le_of_ble_eq_true rfl⟩ (Nat.le_of_ble_eq_true rfl) ⟨Nat.zero_le _, Nat.zero_le _⟩ dX3_looksAt_28 (fun _ => ?_)
        refine lv_istore (lv' := [(5, .int v5), (4, .int v4), (0, .ref o), (1, .int x1), (2, .int x2), (3, .int x3)]) hx hb dX3_looksAt_31 hl (by decide) rfl (fun ls hl => ?_)
        refine lv_iload hx hb dX3_looksAt_33 (lv_at hl 0 rfl) ?_
        refine lv_iconst hx hb dX3_looksAt_35 kc_im1 ?_
        refine lv_icmp_eq (tgt := 62) hx hb dX3_looksAt_36 (by decide) (fun c6 => ?_) (fun c6 => ?_)
        · replace hf := it_t c6 hf
          refine lv_iinc (v := (x3 + 1)) (lv' := [(3, .int (x3 + 1)), (5, .int v5), (4, .int v4), (0, .ref o), (1, .int x1), (2, .int x2)]) hx hb dX3_looksAt_62 hl (k := 5) rfl rfl (by decide) rfl (fun ls hl => ?_)
          refine lv_goto (tgt := 2) hx hb dX3_looksAt_65 (by decide) ?_
          exact (ih) x1 x2 (x3 + 1) ls (lv_sub (l' := [(0, .ref o), (1, .int x1), (2, .int x2), (3, .int (x3 + 1))]) hl [3, 4, 5, 0] rfl) hf
        · replace hf := it_f c6 hf
          refine lv_iload_n hx hb dX3_looksAt_39 rfl (lv_at hl 4 rfl) ?_
          refine lv_iload hx hb dX3_looksAt_40 (lv_at hl 0 rfl) ?_
          refine lv_ishr hx hb dX3_looksAt_42 ?_
          refine lv_iconst hx hb dX3_looksAt_43 kc_i1 ?_
          refine lv_iand hx hb dX3_looksAt_44 ?_
          refine lv_iconst hx hb dX3_looksAt_45 kc_i1 ?_
          refine lv_icmp_ne (tgt := 62) hx hb dX3_looksAt_46 (by decide) (fun c7 => ?_) (fun c7 => ?_)
          · replace hf := it_f c7 hf
            refine lv_iinc (v := (x3 + 1)) (lv' := [(3, .int (x3 + 1)), (5, .int v5), (4, .int v4), (0, .ref o), (1, .int x1), (2, .int x2)]) hx hb dX3_looksAt_62 hl (k := 5) rfl rfl (by decide) rfl (fun ls hl => ?_)
            refine lv_goto (tgt := 2) hx hb dX3_looksAt_65 (by decide) ?_
            exact (ih) x1 x2 (x3 + 1) ls (lv_sub (l' := [(0, .ref o), (1, .int x1), (2, .int x2), (3, .int (x3 + 1))]) hl [3, 4, 5, 0] rfl) hf
          · replace hf := it_t c7 hf
            refine lv_aload_n hx hb dX3_looksAt_49 rfl (lv_at hl 2 rfl) ?_
            refine lv_iload_n hx hb dX3_looksAt_50 rfl (lv_at hl 3 rfl) ?_
            refine lv_iload hx hb dX3_looksAt_51 (lv_at hl 1 rfl) ?_
            obtain ⟨v8, hv8, hf⟩ := ob_s hf
            refine mc_X3_X3_doesFit S hC hK hP hv8 hl.1 ⟨Nat.le_of_ble_eq_true rfl, Nat.le_of_ble_eq_true rfl⟩ (Nat.le_of_ble_eq_true rfl) ⟨Nat.zero_le _, Nat.zero_le _⟩ dX3_looksAt_53 (fun hnv8 => ?_)
            refine lv_if_eq (tgt := 62) hx hb dX3_looksAt_56 (by decide) (fun c9 => ?_) (fun c9 => ?_)
            · replace hf := it_t c9 hf
              refine lv_iinc (v := (x3 + 1)) (lv' := [(3, .int (x3 + 1)), (5, .int v5), (4, .int v4), (0, .ref o), (1, .int x1), (2, .int x2)]) hx hb dX3_looksAt_62 hl (k := 5) rfl rfl (by decide) rfl (fun ls hl => ?_)
              refine lv_goto (tgt := 2) hx hb dX3_looksAt_65 (by decide) ?_
              exact (ih) x1 x2 (x3 + 1) ls (lv_sub (l' := [(0, .ref o), (1, .int x1), (2, .int x2), (3, .int (x3 + 1))]) hl [3, 4, 5, 0] rfl) hf
            · replace hf := it_f c9 hf
              refine lv_iload hx hb dX3_looksAt_59 (lv_at hl 1 rfl) ?_
              have hE := Option.some.inj hf
              subst hE
              exact gt_ri S hr hlocks trivial dX3_looksAt_61
  rw [f_X3_looksAt] at hf
  refine lv_iconst hx hb dX3_looksAt_0 kc_i0 ?_
  refine lv_istore_n (i := 3) (lv' := [(3, .int 0), (0, .ref o), (1, .int a0), (2, .int a1)]) hx hb dX3_looksAt_1 rfl hl (by decide) rfl (fun ls hl => ?_)
  exact (w2 FU) a0 a1 0 ls (lv_sub (l' := [(0, .ref o), (1, .int a0), (2, .int a1), (3, .int 0)]) hl [1, 2, 3, 0] rfl) hf
set_option maxRecDepth 100000 in
theorem mc_X3_X3_looksAt {a0 : Int32} {a1 : Int32} {out : Int32} (S : CallFix p m c cc nL s args lw_all RX3) (hC : mC cl tys mi cI cJ cB) (hK : va_K D cl tys s) (hP : va_P D cl (mW mi cI cJ cB o ad th tp st fk fp ac si fr tt kd nu fa pl fo wd ci gr lm om nw rd aa kp ta nm rn gv gt rw rh lg lh ou) H) (hf : f_X3_looksAt nw a0 a1 = some out) (hsz : ls.size = nL) (hR : 3 + 1 ≤ R.frames ∧ 8 + (6 + 11) + 65 ≤ R.locals) (hW : (rest.map fun v => v.category).sum ≤ 8) (hcs : cells ≤ R.cells ∧ slots ≤ R.slots) (hdg : decode cc pc = .ok (.invokevirtual 377, 3)) (kk : True → W p l e R s m args below meth c H locs cells slots Q (F0 m (pc + 3) ls (.int out :: rest))) : W p l e R s m args below meth c H locs cells slots Q (F0 m pc ls (.int a1 :: .int a0 :: .ref o :: rest)) :=
  gc_Vr (As := [.int a0, .int a1]) S (mm_X3_looksAt hC hf) (cwV 2 S.2.2.2.2 (lw_V q2546 q2548 qs163 q189 q2549) rfl rfl rfl hd_X3_looksAt hR) (gPreV hK hP hC.1 (q0 := 0) rfl) rfl hsz rfl hW hdg hcs kk
end
