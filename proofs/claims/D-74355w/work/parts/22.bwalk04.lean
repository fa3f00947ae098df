section
variable {l : Launch} {D : va_G} {cl : List vw_C} {tys : List (ClassId × FieldType)} {G : hG} {E : bE} {fE lE : Nat} {h : AH} {nx : Nat} {A : Nat → Prop}
variable {p : Program} {e : Env} {R : Room} {s : State} {m : MethodId} {args : Array Value} {below : List Frame} {meth : Method} {c : Code} {H H0 : Heap} {locs : List Loc} {cells slots : Nat} {Q : State → Prop} {cc : ByteArray} {nL pc : Nat} {ls : Array Slot} {rest : List Value}
theorem hd_X9_init : yX9_init.cls ≠ "java/lang/invoke/MethodHandle" ∧ yX9_init.cls ≠ "java/lang/invoke/VarHandle" ∧ (parseMethodDescriptor yX9_init.desc).map (fun d => d.parameters.length) = some 1 := by decide +kernel
set_option maxHeartbeats 4000000 in
set_option maxRecDepth 100000 in
theorem mm_X9_init {o : Nat} {a0 : Nat} {out : Unit × AH × Nat × Nat} (hf : f_X9_init E h nx o a0 = some out) : Met l yX9_init (ws_ yX9_init cX9_init 6 none) (rC (fE + 86) (lE + 1872) out.2.2.1 out.2.2.2) (bPc G E.1 hSites h nx [.ref o, .ref a0]) (bQ G none True out.2.1 (nx + out.2.2.1) (AA h nx)) out.2.2.1 out.2.2.2 (AA h nx) := by
  refine bGo (by decide +kernel) (Nat.le_of_ble_eq_true rfl) (fun p e s m below meth c ls S hr hlocks hin hnm hS hB hl => ?_)
  have S : CallFix p m c cX9_init 6 s _ lw_all RX9 := S
  obtain ⟨hx, hb, hml, hown, hts⟩ := id S
  have hl : lv_has ls 6 [(0, .ref o), (1, .ref a0)] := hl
  have w158 : ∀ (k66 : Nat → Nat → Int32 → Int32 → Int32 → AH → Nat → Option (Unit × AH × Nat × Nat)), (∀ (b0 : Nat) (b1 : Nat) (b2 : Int32) (b3 : Int32) (b4 : Int32) (b5 : AH) (b6 : Nat) (ls : Array Slot) (H : Heap) (locs : List Loc) (ce sl : Nat) (o1 : Unit × AH × Nat × Nat), BI G (AA h nx) s.heap b5 b6 H locs → b6 = nx + ce → TL out o1 ce sl → lv_has ls 6 [(0, .ref b0), (1, .ref b1), (2, .int b2), (3, .int b3), (4, .int b4)] → k66 b0 b1 b2 b3 b4 b5 b6 = some o1 → W p l e (rC (fE + 86) (lE + 1872) out.2.2.1 out.2.2.2) s m ([.ref o, .ref a0] : List Value).toArray below meth c H locs ce sl (MQ below (bQ G none True out.2.1 (nx + out.2.2.1) (AA h nx)) ([.ref o, .ref a0] : List Value).toArray s out.2.2.1 out.2.2.2 (AA h nx)) (F0 m 66 ls [])) → ∀ (x0 : Nat) (x1 : Nat) (x2 : Int32) (x3 : Int32) (x4 : Int32) (hc : AH) (nc : Nat) (ls : Array Slot) (H : Heap) (locs : List Loc) (ce sl : Nat) (o1 : Unit × AH × Nat × Nat), BI G (AA h nx) s.heap hc nc H locs → nc = nx + ce → TL out o1 ce sl → lv_has ls 6 [(0, .ref x0), (1, .ref x1), (2, .int x2), (3, .int x3), (4, .int x4)] → f_X9_init_158 k66 E x0 x1 x2 x3 x4 hc nc = some o1 → W p l e (rC (fE + 86) (lE + 1872) out.2.2.1 out.2.2.2) s m ([.ref o, .ref a0] : List Value).toArray below meth c H locs ce sl (MQ below (bQ G none True out.2.1 (nx + out.2.2.1) (AA h nx)) ([.ref o, .ref a0] : List Value).toArray s out.2.2.1 out.2.2.2 (AA h nx)) (F0 m 158 ls []) := by
    intro k66 hk66 x0 x1 x2 x3 x4 hc nc ls H locs ce sl o1 hB hn hT hl hf
    rw [f_X9_init_158] at hf
    refine lv_aload_n hx hb dX9_init_158 rfl (lv_at hl 0 rfl) ?_
    obtain ⟨v1, hv1, hf⟩ := ob_s hf
    refine bg_X9_19 S hS hB (vR_s hv1) dX9_init_159 ?_
    refine lv_iload hx hb dX9_init_162 (lv_at hl 4 rfl) ?_
    obtain ⟨v2, hv2, hf⟩ := ob_s hf
    refine b_iald S hS.1 hB hv2 dX9_init_164 ?_
    refine lv_if_ge (tgt := 171) hx hb dX9_init_165 (by decide) (fun c3 => ?_) (fun c3 => ?_)
    · replace hf := it_t c3 hf
      refine lv_iload_n hx hb dX9_init_171 rfl (lv_at hl 2 rfl) ?_
      refine lv_iconst hx hb dX9_init_172 kc_i1 ?_
      refine lv_aload_n hx hb dX9_init_173 rfl (lv_at hl 0 rfl) ?_
      obtain ⟨v4, hv4, hf⟩ := ob_s hf
      refine bg_X9_19 S hS hB (vR_s hv4) dX9_init_174 ?_
      refine lv_iload hx hb dX9_init_177 (lv_at hl 4 rfl) ?_
      obtain ⟨v5, hv5, hf⟩ := ob_s hf
      refine b_iald S hS.1 hB hv5 dX9_init_179 ?_
      refine lv_ishl hx hb dX9_init_180 ?_
      refine lv_ior hx hb dX9_init_181 ?_
      refine lv_istore_n (i := 2) (lv' := [(2, .int (x2 ||| (1 <<< (v5 &&& 31)))), (0, .ref x0), (1, .ref x1), (3, .int x3), (4, .int x4)]) hx hb dX9_init_182 rfl hl (by decide) rfl (fun ls hl => ?_)
      refine lv_iinc (v := (x3 + (-1))) (lv' := [(3, .int (x3 + (-1))), (2, .int (x2 ||| (1 <<< (v5 &&& 31)))), (0, .ref x0), (1, .ref x1), (4, .int x4)]) hx hb dX9_init_183 hl (k := 3) rfl rfl (by decide) rfl (fun ls hl => ?_)
      refine lv_iinc (v := (x4 + 1)) (lv' := [(4, .int (x4 + 1)), (3, .int (x3 + (-1))), (2, .int (x2 ||| (1 <<< (v5 &&& 31)))), (0, .ref x0), (1, .ref x1)]) hx hb dX9_init_186 hl (k := 4) rfl rfl (by decide) rfl (fun ls hl => ?_)
      refine lv_goto (tgt := 66) hx hb dX9_init_189 (by decide) ?_
      exact hk66 x0 x1 (x2 ||| (1 <<< (v5 &&& 31))) (x3 + (-1)) (x4 + 1) hc nc ls H locs ce sl o1 hB (by omega) hT (lv_sub (l' := [(0, .ref x0), (1, .ref x1), (2, .int (x2 ||| (1 <<< (v5 &&& 31)))), (3, .int (x3 + (-1))), (4, .int (x4 + 1))]) hl [3, 4, 2, 1, 0] rfl) hf
    · replace hf := it_f c3 hf
      refine lv_goto (tgt := 186) hx hb dX9_init_168 (by decide) ?_
      refine lv_iinc (v := (x4 + 1)) (lv' := [(4, .int (x4 + 1)), (0, .ref x0), (1, .ref x1), (2, .int x2), (3, .int x3)]) hx hb dX9_init_186 hl (k := 4) rfl rfl (by decide) rfl (fun ls hl => ?_)
      refine lv_goto (tgt := 66) hx hb dX9_init_189 (by decide) ?_
      exact hk66 x0 x1 x2 x3 (x4 + 1) hc nc ls H locs ce sl o1 hB (by omega) hT (lv_sub (l' := [(0, .ref x0), (1, .ref x1), (2, .int x2), (3, .int x3), (4, .int (x4 + 1))]) hl [1, 2, 3, 4, 0] rfl) hf
  have w89 : ∀ (n : Nat) (k66 : Nat → Nat → Int32 → Int32 → Int32 → AH → Nat → Option (Unit × AH × Nat × Nat)), (∀ (b0 : Nat) (b1 : Nat) (b2 : Int32) (b3 : Int32) (b4 : Int32) (b5 : AH) (b6 : Nat) (ls : Array Slot) (H : Heap) (locs : List Loc) (ce sl : Nat) (o1 : Unit × AH × Nat × Nat), BI G (AA h nx) s.heap b5 b6 H locs → b6 = nx + ce → TL out o1 ce sl → lv_has ls 6 [(0, .ref b0), (1, .ref b1), (2, .int b2), (3, .int b3), (4, .int b4)] → k66 b0 b1 b2 b3 b4 b5 b6 = some o1 → W p l e (rC (fE + 86) (lE + 1872) out.2.2.1 out.2.2.2) s m ([.ref o, .ref a0] : List Value).toArray below meth c H locs ce sl (MQ below (bQ G none True out.2.1 (nx + out.2.2.1) (AA h nx)) ([.ref o, .ref a0] : List Value).toArray s out.2.2.1 out.2.2.2 (AA h nx)) (F0 m 66 ls [])) → ∀ (x0 : Nat) (x1 : Nat) (x2 : Int32) (x3 : Int32) (x4 : Int32) (x5 : Int32) (hc : AH) (nc : Nat) (ls : Array Slot) (H : Heap) (locs : List Loc) (ce sl : Nat) (o1 : Unit × AH × Nat × Nat), BI G (AA h nx) s.heap hc nc H locs → nc = nx + ce → TL out o1 ce sl → lv_has ls 6 [(0, .ref x0), (1, .ref x1), (2, .int x2), (3, .int x3), (4, .int x4), (5, .int x5)] → f_X9_init_89 n k66 E x0 x1 x2 x3 x4 x5 hc nc = some o1 → W p l e (rC (fE + 86) (lE + 1872) out.2.2.1 out.2.2.2) s m ([.ref o, .ref a0] : List Value).toArray below meth c H locs ce sl (MQ below (bQ G none True out.2.1 (nx + out.2.2.1) (AA h nx)) ([.ref o, .ref a0] : List Value).toArray s out.2.2.1 out.2.2.2 (AA h nx)) (F0 m 89 ls []) := by
    intro n
    induction n with
    | zero =>
      intro k66 hk66 x0 x1 x2 x3 x4 x5 hc nc ls H locs ce sl o1 hB hn hT hl hf
      exact absurd hf (by rw [f_X9_init_89]; exact nofun)
    | succ n ih =>
      intro k66 hk66 x0 x1 x2 x3 x4 x5 hc nc ls H locs ce sl o1 hB hn hT hl hf
      rw [f_X9_init_89] at hf
      refine lv_iload hx hb dX9_init_89 (lv_at hl 5 rfl) ?_
      refine lv_aload_n hx hb dX9_init_91 rfl (lv_at hl 1 rfl) ?_
      obtain ⟨v1, hv1, hf⟩ := ob_s hf
      refine bg_X9_40 S hS hB (vR_s hv1) dX9_init_92 ?_
      obtain ⟨g2, hf⟩ := gd_t hf
      obtain ⟨v3, hv3, hf⟩ := ob_s hf
      refine mc_X9_34 (fE := fE) (lE := lE) S hS hB g2 hv3 hl.1 ⟨(by show _ ≤ (fE + 86); omega), (by show _ ≤ (lE + 1872); omega)⟩ (Nat.le_of_ble_eq_true rfl) ⟨(TL_m hT).1, (TL_m hT).2⟩ dX9_init_95 (fun _ => ?_)
      refine lv_icmp_ge (tgt := 158) hx hb dX9_init_98 (by decide) (fun c4 => ?_) (fun c4 => ?_)
      · replace hf := it_t c4 hf
        exact (w158 k66 hk66) x0 x1 x2 x3 x4 hc nc ls H locs ce sl o1 hB (by omega) hT (lv_sub (l' := [(0, .ref x0), (1, .ref x1), (2, .int x2), (3, .int x3), (4, .int x4)]) hl [0, 1, 2, 3, 4] rfl) hf
      · replace hf := it_f c4 hf
        refine lv_aload_n hx hb dX9_init_101 rfl (lv_at hl 0 rfl) ?_
        obtain ⟨v5, hv5, hf⟩ := ob_s hf
        refine bg_X9_19 S hS hB (vR_s hv5) dX9_init_102 ?_
        refine lv_iload hx hb dX9_init_105 (lv_at hl 4 rfl) ?_
        obtain ⟨v6, hv6, hf⟩ := ob_s hf
        refine b_iald S hS.1 hB hv6 dX9_init_107 ?_
        refine lv_if_ge (tgt := 158) hx hb dX9_init_108 (by decide) (fun c7 => ?_) (fun c7 => ?_)
        · replace hf := it_t c7 hf
          exact (w158 k66 hk66) x0 x1 x2 x3 x4 hc nc ls H locs ce sl o1 hB (by omega) hT (lv_sub (l' := [(0, .ref x0), (1, .ref x1), (2, .int x2), (3, .int x3), (4, .int x4)]) hl [0, 1, 2, 3, 4] rfl) hf
        · replace hf := it_f c7 hf
          refine lv_aload_n hx hb dX9_init_111 rfl (lv_at hl 0 rfl) ?_
          refine lv_iload hx hb dX9_init_112 (lv_at hl 4 rfl) ?_
          refine lv_iload hx hb dX9_init_114 (lv_at hl 5 rfl) ?_
          refine lv_iload_n hx hb dX9_init_116 rfl (lv_at hl 2 rfl) ?_
          obtain ⟨g8, hf⟩ := gd_t hf
          obtain ⟨v9, hv9, hf⟩ := ob_s hf
          refine mc_X9_43 (fE := fE) (lE := lE) S hS hB g8 hv9 hl.1 ⟨(by show _ ≤ (fE + 86); omega), (by show _ ≤ (lE + 1872); omega)⟩ (Nat.le_of_ble_eq_true rfl) ⟨(TL_m hT).1, (TL_m hT).2⟩ dX9_init_117 (fun hnv9 => ?_)
          refine lv_if_eq (tgt := 152) hx hb dX9_init_120 (by decide) (fun c10 => ?_) (fun c10 => ?_)
          · replace hf := it_t c10 hf
            refine lv_iinc (v := (x5 + 1)) (lv' := [(5, .int (x5 + 1)), (0, .ref x0), (1, .ref x1), (2, .int x2), (3, .int x3), (4, .int x4)]) hx hb dX9_init_152 hl (k := 5) rfl rfl (by decide) rfl (fun ls hl => ?_)
            refine lv_goto (tgt := 89) hx hb dX9_init_155 (by decide) ?_
            exact (ih k66 hk66) x0 x1 x2 x3 x4 (x5 + 1) hc nc ls H locs ce sl o1 hB (by omega) hT (lv_sub (l' := [(0, .ref x0), (1, .ref x1), (2, .int x2), (3, .int x3), (4, .int x4), (5, .int (x5 + 1))]) hl [1, 2, 3, 4, 5, 0] rfl) hf
          · replace hf := it_f c10 hf
            refine lv_iconst hx hb dX9_init_123 kc_i1 ?_
            refine lv_aload_n hx hb dX9_init_124 rfl (lv_at hl 0 rfl) ?_
            refine lv_iload hx hb dX9_init_125 (lv_at hl 4 rfl) ?_
            refine lv_iconst hx hb dX9_init_127 kc_i1 ?_
            refine lv_iadd hx hb dX9_init_128 ?_
            refine lv_iload_n hx hb dX9_init_129 rfl (lv_at hl 2 rfl) ?_
            refine lv_iconst hx hb dX9_init_130 kc_i1 ?_
            refine lv_iload hx hb dX9_init_131 (lv_at hl 5 rfl) ?_
            refine lv_ishl hx hb dX9_init_133 ?_
            refine lv_ior hx hb dX9_init_134 ?_
            obtain ⟨g11, hf⟩ := gd_t hf
            obtain ⟨v12, hv12, hf⟩ := ob_s hf
            obtain ⟨o13, hf, hT⟩ := TL_c hT hf
            refine mc_X9_22 (fE := fE) (lE := lE) S hS hB g11 hv12 hl.1 ⟨(by show _ ≤ (fE + 86); omega), (by show _ ≤ (lE + 1872); omega)⟩ (Nat.le_of_ble_eq_true rfl) ⟨(TL_m hT).1, (TL_m hT).2⟩ dX9_init_135 (fun H locs _ hB => ?_)
            refine lv_iadd hx hb dX9_init_138 ?_
            refine lv_iload_n hx hb dX9_init_139 rfl (lv_at hl 3 rfl) ?_
            refine lv_icmp_ne (tgt := 152) hx hb dX9_init_140 (by decide) (fun c14 => ?_) (fun c14 => ?_)
            · replace hf := it_f c14 hf
              refine lv_iinc (v := (x5 + 1)) (lv' := [(5, .int (x5 + 1)), (0, .ref x0), (1, .ref x1), (2, .int x2), (3, .int x3), (4, .int x4)]) hx hb dX9_init_152 hl (k := 5) rfl rfl (by decide) rfl (fun ls hl => ?_)
              refine lv_goto (tgt := 89) hx hb dX9_init_155 (by decide) ?_
              exact (ih k66 hk66) x0 x1 x2 x3 x4 (x5 + 1) v12.2.1 (nc + v12.2.2.1) ls H locs (ce + v12.2.2.1) (sl + v12.2.2.2) o13 hB (by omega) hT (lv_sub (l' := [(0, .ref x0), (1, .ref x1), (2, .int x2), (3, .int x3), (4, .int x4), (5, .int (x5 + 1))]) hl [1, 2, 3, 4, 5, 0] rfl) hf
            · replace hf := it_t c14 hf
              refine lv_aload_n hx hb dX9_init_143 rfl (lv_at hl 0 rfl) ?_
              obtain ⟨v15, hv15, hf⟩ := ob_s hf
              refine bg_X9_19 S hS hB (vR_s hv15) dX9_init_144 ?_
              refine lv_iload hx hb dX9_init_147 (lv_at hl 4 rfl) ?_
              refine lv_iload hx hb dX9_init_149 (lv_at hl 5 rfl) ?_
              obtain ⟨h16, hh16, hf⟩ := ob_s hf
              refine b_iast S hS.1 hB hh16 dX9_init_151 (fun H locs hB => ?_)
              refine lv_iinc (v := (x5 + 1)) (lv' := [(5, .int (x5 + 1)), (0, .ref x0), (1, .ref x1), (2, .int x2), (3, .int x3), (4, .int x4)]) hx hb dX9_init_152 hl (k := 5) rfl rfl (by decide) rfl (fun ls hl => ?_)
              refine lv_goto (tgt := 89) hx hb dX9_init_155 (by decide) ?_
              exact (ih k66 hk66) x0 x1 x2 x3 x4 (x5 + 1) h16 (nc + v12.2.2.1) ls H locs (ce + v12.2.2.1) (sl + v12.2.2.2) o13 hB (by omega) hT (lv_sub (l' := [(0, .ref x0), (1, .ref x1), (2, .int x2), (3, .int x3), (4, .int x4), (5, .int (x5 + 1))]) hl [1, 2, 3, 4, 5, 0] rfl) hf
  have w66 : ∀ (n : Nat) , ∀ (x0 : Nat) (x1 : Nat) (x2 : Int32) (x3 : Int32) (x4 : Int32) (hc : AH) (nc : Nat) (ls : Array Slot) (H : Heap) (locs : List Loc) (ce sl : Nat) (o1 : Unit × AH × Nat × Nat), BI G (AA h nx) s.heap hc nc H locs → nc = nx + ce → TL out o1 ce sl → lv_has ls 6 [(0, .ref x0), (1, .ref x1), (2, .int x2), (3, .int x3), (4, .int x4)] → f_X9_init_66 n E x0 x1 x2 x3 x4 hc nc = some o1 → W p l e (rC (fE + 86) (lE + 1872) out.2.2.1 out.2.2.2) s m ([.ref o, .ref a0] : List Value).toArray below meth c H locs ce sl (MQ below (bQ G none True out.2.1 (nx + out.2.2.1) (AA h nx)) ([.ref o, .ref a0] : List Value).toArray s out.2.2.1 out.2.2.2 (AA h nx)) (F0 m 66 ls []) := by
    intro n
    induction n with
    | zero =>
      intro x0 x1 x2 x3 x4 hc nc ls H locs ce sl o1 hB hn hT hl hf
      exact absurd hf (by rw [f_X9_init_66]; exact nofun)
    | succ n ih =>
      intro x0 x1 x2 x3 x4 hc nc ls H locs ce sl o1 hB hn hT hl hf
      rw [f_X9_init_66] at hf
      refine lv_iload hx hb dX9_init_66 (lv_at hl 4 rfl) ?_
      refine lv_aload_n hx hb dX9_init_68 rfl (lv_at hl 1 rfl) ?_
      obtain ⟨v1, hv1, hf⟩ := ob_s hf
      refine bg_X9_30 S hS hB (vR_s hv1) dX9_init_69 ?_
      obtain ⟨g2, hf⟩ := gd_t hf
      obtain ⟨v3, hv3, hf⟩ := ob_s hf
      refine mc_X9_34 (fE := fE) (lE := lE) S hS hB g2 hv3 hl.1 ⟨(by show _ ≤ (fE + 86); omega), (by show _ ≤ (lE + 1872); omega)⟩ (Nat.le_of_ble_eq_true rfl) ⟨(TL_m hT).1, (TL_m hT).2⟩ dX9_init_72 (fun _ => ?_)
      refine lv_icmp_ge (tgt := 192) hx hb dX9_init_75 (by decide) (fun c4 => ?_) (fun c4 => ?_)
      · replace hf := it_t c4 hf
        have hE9 := TL_e hT hf
        subst hE9
        exact bt_v S hr hlocks hB (by omega) trivial dX9_init_192
      · replace hf := it_f c4 hf
        refine lv_aload_n hx hb dX9_init_78 rfl (lv_at hl 0 rfl) ?_
        obtain ⟨v5, hv5, hf⟩ := ob_s hf
        refine bg_X9_19 S hS hB (vR_s hv5) dX9_init_79 ?_
        refine lv_iload hx hb dX9_init_82 (lv_at hl 4 rfl) ?_
        refine lv_iconst hx hb dX9_init_84 kc_im1 ?_
        obtain ⟨h6, hh6, hf⟩ := ob_s hf
        refine b_iast S hS.1 hB hh6 dX9_init_85 (fun H locs hB => ?_)
        refine lv_iconst hx hb dX9_init_86 kc_i0 ?_
        refine lv_istore (lv' := [(5, .int 0), (0, .ref x0), (1, .ref x1), (2, .int x2), (3, .int x3), (4, .int x4)]) hx hb dX9_init_87 hl (by decide) rfl (fun ls hl => ?_)
        exact (w89 FU (f_X9_init_66 n E) (ih)) x0 x1 x2 x3 x4 0 h6 nc ls H locs ce sl o1 hB (by omega) hT (lv_sub (l' := [(0, .ref x0), (1, .ref x1), (2, .int x2), (3, .int x3), (4, .int x4), (5, .int 0)]) hl [1, 2, 3, 4, 5, 0] rfl) hf
  have w27 : ∀ (n : Nat) , ∀ (x0 : Nat) (x1 : Nat) (x2 : Int32) (hc : AH) (nc : Nat) (ls : Array Slot) (H : Heap) (locs : List Loc) (ce sl : Nat) (o1 : Unit × AH × Nat × Nat), BI G (AA h nx) s.heap hc nc H locs → nc = nx + ce → TL out o1 ce sl → lv_has ls 6 [(0, .ref x0), (1, .ref x1), (2, .int x2)] → f_X9_init_27 n E x0 x1 x2 hc nc = some o1 → W p l e (rC (fE + 86) (lE + 1872) out.2.2.1 out.2.2.2) s m ([.ref o, .ref a0] : List Value).toArray below meth c H locs ce sl (MQ below (bQ G none True out.2.1 (nx + out.2.2.1) (AA h nx)) ([.ref o, .ref a0] : List Value).toArray s out.2.2.1 out.2.2.2 (AA h nx)) (F0 m 27 ls []) := by
    intro n
    induction n with
    | zero =>
      intro x0 x1 x2 hc nc ls H locs ce sl o1 hB hn hT hl hf
      exact absurd hf (by rw [f_X9_init_27]; exact nofun)
    | succ n ih =>
      intro x0 x1 x2 hc nc ls H locs ce sl o1 hB hn hT hl hf
      rw [f_X9_init_27] at hf
      refine lv_iload_n hx hb dX9_init_27 rfl (lv_at hl 2 rfl) ?_
      refine lv_bipush hx hb dX9_init_28 kc_b10 ?_
      refine lv_icmp_ge (tgt := 46) hx hb dX9_init_30 (by decide) (fun c1 => ?_) (fun c1 => ?_)
      · replace hf := it_t c1 hf
        refine lv_aload_n hx hb dX9_init_46 rfl (lv_at hl 0 rfl) ?_
        refine lv_aload_n hx hb dX9_init_47 rfl (lv_at hl 0 rfl) ?_
        refine lv_iconst hx hb dX9_init_48 kc_i0 ?_
        refine lv_iconst hx hb dX9_init_49 kc_i0 ?_
        obtain ⟨g2, hf⟩ := gd_t hf
        obtain ⟨v3, hv3, hf⟩ := ob_s hf
        obtain ⟨o4, hf, hT⟩ := TL_c hT hf
        refine mc_X9_22 (fE := fE) (lE := lE) S hS hB g2 hv3 hl.1 ⟨(by show _ ≤ (fE + 86); omega), (by show _ ≤ (lE + 1872); omega)⟩ (Nat.le_of_ble_eq_true rfl) ⟨(TL_m hT).1, (TL_m hT).2⟩ dX9_init_50 (fun H locs _ hB => ?_)
        obtain ⟨h5, hh5, hf⟩ := ob_s hf
        refine bp_X9_26 S hS hB hh5 dX9_init_53 (fun H locs hB => ?_)
        refine lv_iconst hx hb dX9_init_56 kc_i0 ?_
        refine lv_istore_n (i := 2) (lv' := [(2, .int 0), (0, .ref x0), (1, .ref x1)]) hx hb dX9_init_57 rfl hl (by decide) rfl (fun ls hl => ?_)
        refine lv_aload_n hx hb dX9_init_58 rfl (lv_at hl 1 rfl) ?_
        obtain ⟨v6, hv6, hf⟩ := ob_s hf
        refine bg_X9_26 S hS hB (vI_s hv6) dX9_init_59 ?_
        refine lv_istore_n (i := 3) (lv' := [(3, .int v6), (2, .int 0), (0, .ref x0), (1, .ref x1)]) hx hb dX9_init_62 rfl hl (by decide) rfl (fun ls hl => ?_)
        refine lv_iconst hx hb dX9_init_63 kc_i0 ?_
        refine lv_istore (lv' := [(4, .int 0), (3, .int v6), (2, .int 0), (0, .ref x0), (1, .ref x1)]) hx hb dX9_init_64 hl (by decide) rfl (fun ls hl => ?_)
        exact (w66 FU) x0 x1 0 v6 0 h5 (nc + v3.2.2.1) ls H locs (ce + v3.2.2.1) (sl + v3.2.2.2) o4 hB (by omega) hT (lv_sub (l' := [(0, .ref x0), (1, .ref x1), (2, .int 0), (3, .int v6), (4, .int 0)]) hl [3, 4, 2, 1, 0] rfl) hf
      · replace hf := it_f c1 hf
        refine lv_aload_n hx hb dX9_init_33 rfl (lv_at hl 0 rfl) ?_
        obtain ⟨v7, hv7, hf⟩ := ob_s hf
        refine bg_X9_15 S hS hB (vR_s hv7) dX9_init_34 ?_
        refine lv_iload_n hx hb dX9_init_37 rfl (lv_at hl 2 rfl) ?_
        refine lv_iconst hx hb dX9_init_38 kc_im1 ?_
        obtain ⟨h8, hh8, hf⟩ := ob_s hf
        refine b_iast S hS.1 hB hh8 dX9_init_39 (fun H locs hB => ?_)
        refine lv_iinc (v := (x2 + 1)) (lv' := [(2, .int (x2 + 1)), (0, .ref x0), (1, .ref x1)]) hx hb dX9_init_40 hl (k := 2) rfl rfl (by decide) rfl (fun ls hl => ?_)
        refine lv_goto (tgt := 27) hx hb dX9_init_43 (by decide) ?_
        exact (ih) x0 x1 (x2 + 1) h8 nc ls H locs ce sl o1 hB (by omega) hT (lv_sub (l' := [(0, .ref x0), (1, .ref x1), (2, .int (x2 + 1))]) hl [1, 2, 0] rfl) hf
  have hT : TL out out 0 0 := TL_0
  rw [f_X9_init] at hf
  refine lv_aload_n hx hb dX9_init_0 rfl (lv_at hl 0 rfl) ?_
  refine lv_aload_n hx hb dX9_init_1 rfl (lv_at hl 1 rfl) ?_
  obtain ⟨h1, hh1, hf⟩ := ob_s hf
  refine bp_X9_3 S hS hB hin hh1 dX9_init_2 (fun H locs hB => ?_)
  refine lv_aload_n hx hb dX9_init_5 rfl (lv_at hl 0 rfl) ?_
  refine W.objInit hx hb hown (hts _ q1637) (hts _ q212) (hts _ q213) rfl (by rw [hml]; exact hl.1) rfl dX9_init_6 (by show _ ≤ (fE + 86); omega) (by show _ ≤ (lE + 1872); simp only [F0, JFrame.monitorRoom, List.map, List.sum_cons, List.sum_nil, Value.category]; omega) ?_
  refine W.eq (g2 := F0 m 9 ls []) rfl ?_
  refine lv_aload_n hx hb dX9_init_9 rfl (lv_at hl 0 rfl) ?_
  refine lv_bipush hx hb dX9_init_10 kc_b10 ?_
  obtain ⟨o2, hf, hT⟩ := TL_c hT hf
  refine b_newI S hS hB kn_10 kna_10 (TL_m hT).1 (TL_m hT).2 dX9_init_12 (fun H hB => ?_)
  obtain ⟨h3, hh3, hf⟩ := ob_s hf
  refine bp_X9_15 S hS hB hin hh3 dX9_init_14 (fun H locs hB => ?_)
  refine lv_aload_n hx hb dX9_init_17 rfl (lv_at hl 0 rfl) ?_
  refine lv_bipush hx hb dX9_init_18 kc_b8 ?_
  obtain ⟨o4, hf, hT⟩ := TL_c hT hf
  refine b_newI S hS hB kn_8 kna_8 (TL_m hT).1 (TL_m hT).2 dX9_init_20 (fun H hB => ?_)
  obtain ⟨h5, hh5, hf⟩ := ob_s hf
  refine bp_X9_19 S hS hB hin hh5 dX9_init_22 (fun H locs hB => ?_)
  refine lv_iconst hx hb dX9_init_25 kc_i0 ?_
  refine lv_istore_n (i := 2) (lv' := [(2, .int 0), (0, .ref o), (1, .ref a0)]) hx hb dX9_init_26 rfl hl (by decide) rfl (fun ls hl => ?_)
  exact (w27 FU) o a0 0 h5 ((nx + 1) + 1) ls H locs ((0 + 1) + 1) ((0 + 10) + 8) o4 hB (by omega) hT (lv_sub (l' := [(0, .ref o), (1, .ref a0), (2, .int 0)]) hl [1, 2, 0] rfl) hf
set_option maxRecDepth 100000 in
theorem mc_X1_500 {o : Nat} {a0 : Nat} {out : Unit × AH × Nat × Nat} (S : CallFix p m c cc nL s args lw_all RX1) (hS : SK G E.1 hSites A s) (hB : BI G A s.heap h nx H locs) (hf : f_X9_init E h nx o a0 = some out) (hsz : ls.size = nL) (hR : (fE + 86) + 1 ≤ R.frames ∧ 8 + (6 + 11) + (lE + 1872) ≤ R.locals) (hW : (rest.map fun v => v.category).sum ≤ 8) (hcs : cells + out.2.2.1 ≤ R.cells ∧ slots + out.2.2.2 ≤ R.slots) (hdg : decode cc pc = .ok (.invokespecial 500, 3))  (kk : ∀ (H1 : Heap) (locs1 : List Loc), True → BI G A s.heap out.2.1 (nx + out.2.2.1) H1 locs1 → W p l e R s m args below meth c H1 locs1 (cells + out.2.2.1) (slots + out.2.2.2) Q (F0 m (pc + 3) ls (rest))) : W p l e R s m args below meth c H locs cells slots Q (F0 m pc ls (.ref a0 :: .ref o :: rest)) := by
  have hN := hS.2.1
  exact br_v (va_runI (As := [.ref a0]) S (mm_X9_init (l := l) (G := G) (fE := fE) (lE := lE) hf) (⟨callB_of 1 S.2.2.2.2 (lw_meth q1636) rfl rfl rfl (S.2.2.2.2 _ q203) (S.2.2.2.2 _ q1634) hd_X9_init hR, rfl, S.2.2.2.2 _ q1635⟩) (bPreS hS hB) rfl rfl hsz rfl (lv_room hW) hdg hcs) hB kk
set_option maxRecDepth 100000 in
theorem mc_X10_42 {a0 : Int32} {out : Int32} (S : CallFix p m c cc nL s args lw_all RX10) (hK : va_K D cl tys s) (hf : f_J5_numberOfTrailingZeros a0 = some out) (hsz : ls.size = nL) (hR : 0 + 1 ≤ R.frames ∧ 8 + (2 + 11) + 0 ≤ R.locals) (hW : (rest.map fun v => v.category).sum ≤ 8) (hcs : cells ≤ R.cells ∧ slots ≤ R.slots) (hdg : decode cc pc = .ok (.invokestatic 42, 3))  (kk : True → W p l e R s m args below meth c H locs cells slots Q (F0 m (pc + 3) ls (.int out :: rest))) : W p l e R s m args below meth c H locs cells slots Q (F0 m pc ls (.int a0 :: rest)) := by
  exact br_r (va_runS (As := [.int a0]) S (mm_J5_numberOfTrailingZeros hf) (va_cwS 1 S.2.2.2.2 (lw_S q1685 q1686 q183 q1687) rfl rfl rfl hd_J5_numberOfTrailingZeros hR) (gPreS hK gP0) rfl rfl hsz rfl (lv_room hW) hdg hcs) kk
theorem hd_X10_looksAt : yX10_looksAt.cls = RX10 ∧ yX10_looksAt.cls ≠ "java/lang/invoke/MethodHandle" ∧ yX10_looksAt.cls ≠ "java/lang/invoke/VarHandle" ∧ (parseMethodDescriptor yX10_looksAt.desc).map (fun d => d.parameters.length) = some 2 := by decide +kernel
set_option maxHeartbeats 4000000 in
set_option maxRecDepth 100000 in
theorem mm_X10_looksAt {o : Nat} {a0 : Int32} {a1 : Int32} {out : Int32} (hf : f_X10_looksAt E h o a0 a1 = some out) : Met l yX10_looksAt (ws_ yX10_looksAt cX10_looksAt 6 (some .int)) (rM (fE + 5) (lE + 107)) (bPc G E.1 hSites h nx [.ref o, .int a0, .int a1]) (gR (some (.int out)) True) 0 0 (fun _ => False) := by
  refine bGo (by decide +kernel) (Nat.le_of_ble_eq_true rfl) (fun p e s m below meth c ls S hr hlocks hin hnm hS hB hl => ?_)
  have S : CallFix p m c cX10_looksAt 6 s _ lw_all RX10 := S
  obtain ⟨hx, hb, hml, hown, hts⟩ := id S
  have hl : lv_has ls 6 [(0, .ref o), (1, .int a0), (2, .int a1)] := hl
  have w2 : ∀ (n : Nat) , ∀ (x0 : Nat) (x1 : Int32) (x2 : Int32) (x3 : Int32) (ls : Array Slot), lv_has ls 6 [(0, .ref x0), (1, .int x1), (2, .int x2), (3, .int x3)] → f_X10_looksAt_2 n E h x0 x1 x2 x3 = some out → W p l e (rM (fE + 5) (lE + 107)) s m ([.ref o, .int a0, .int a1] : List Value).toArray below meth c s.heap [] 0 0 (MQ below (gR (some (.int out)) True) ([.ref o, .int a0, .int a1] : List Value).toArray s 0 0 (fun _ => False)) (F0 m 2 ls []) := by
    intro n
    induction n with
    | zero =>
      intro x0 x1 x2 x3 ls hl hf
      exact absurd hf (by rw [f_X10_looksAt_2]; exact nofun)
    | succ n ih =>
      intro x0 x1 x2 x3 ls hl hf
      rw [f_X10_looksAt_2] at hf
      refine lv_iload_n hx hb dX10_looksAt_2 rfl (lv_at hl 3 rfl) ?_
      refine lv_aload_n hx hb dX10_looksAt_3 rfl (lv_at hl 0 rfl) ?_
      obtain ⟨v1, hv1, hf⟩ := ob_s hf
      refine bg_X10_3 S hS hB (vR_s hv1) dX10_looksAt_4 ?_
      obtain ⟨v2, hv2, hf⟩ := ob_s hf
      refine bg_X10_29 S hS hB (vR_s hv2) dX10_looksAt_7 ?_
      obtain ⟨v3, hv3, hf⟩ := ob_s hf
      refine bg_X10_52 S hS hB (vR_s hv3) dX10_looksAt_10 ?_
      refine lv_iload_n hx hb dX10_looksAt_13 rfl (lv_at hl 1 rfl) ?_
      obtain ⟨v4, hv4, hf⟩ := ob_s hf
      refine b_iald S hS.1 hB hv4 dX10_looksAt_14 ?_
      refine lv_icmp_ge (tgt := 86) hx hb dX10_looksAt_15 (by decide) (fun c5 => ?_) (fun c5 => ?_)
      · replace hf := it_t c5 hf
        refine lv_iload_n hx hb dX10_looksAt_86 rfl (lv_at hl 1 rfl) ?_
        have hE9 := Option.some.inj hf
        subst hE9
        exact gt_ri S hr hlocks trivial dX10_looksAt_87
      · replace hf := it_f c5 hf
        refine lv_aload_n hx hb dX10_looksAt_18 rfl (lv_at hl 0 rfl) ?_
        obtain ⟨v6, hv6, hf⟩ := ob_s hf
        refine bg_X10_3 S hS hB (vR_s hv6) dX10_looksAt_19 ?_
        obtain ⟨v7, hv7, hf⟩ := ob_s hf
        refine bg_X10_29 S hS hB (vR_s hv7) dX10_looksAt_22 ?_
        refine lv_iload_n hx hb dX10_looksAt_25 rfl (lv_at hl 1 rfl) ?_
        refine lv_iload_n hx hb dX10_looksAt_26 rfl (lv_at hl 3 rfl) ?_
        obtain ⟨g8, hf⟩ := gd_t hf
        obtain ⟨v9, hv9, hf⟩ := ob_s hf
        refine mc_X10_55 (fE := fE) (lE := lE) S hS hB g8 hv9 hl.1 ⟨(by show _ ≤ (fE + 5); omega), (by show _ ≤ (lE + 107); omega)⟩ (Nat.le_of_ble_eq_true rfl) ⟨Nat.zero_le _, Nat.zero_le _⟩ dX10_looksAt_27 (fun _ => ?_)
        refine lv_istore (lv' := [(4, .int v9), (0, .ref x0), (1, .int x1), (2, .int x2), (3, .int x3)]) hx hb dX10_looksAt_30 hl (by decide) rfl (fun ls hl => ?_)
        refine lv_aload_n hx hb dX10_looksAt_32 rfl (lv_at hl 1 rfl) ?_
        obtain ⟨v10, hv10, hf⟩ := ob_s hf
        refine bg_X10_3 S hS hB (vR_s hv10) dX10_looksAt_33 ?_
        obtain ⟨v11, hv11, hf⟩ := ob_s hf
        refine bg_X10_29 S hS hB (vR_s hv11) dX10_looksAt_36 ?_
        refine lv_iload hx hb dX10_looksAt_39 (lv_at hl 0 rfl) ?_
        obtain ⟨g12, hf⟩ := gd_t hf
        obtain ⟨v13, hv13, hf⟩ := ob_s hf
        refine mc_X10_58 (fE := fE) (lE := lE) S hS hB g12 hv13 hl.1 ⟨(by show _ ≤ (fE + 5); omega), (by show _ ≤ (lE + 107); omega)⟩ (Nat.le_of_ble_eq_true rfl) ⟨Nat.zero_le _, Nat.zero_le _⟩ dX10_looksAt_41 (fun _ => ?_)
        refine lv_istore (lv' := [(5, .int v13), (4, .int v9), (0, .ref x0), (1, .int x1), (2, .int x2), (3, .int x3)]) hx hb dX10_looksAt_44 hl (by decide) rfl (fun ls hl => ?_)
        refine lv_iload hx hb dX10_looksAt_46 (lv_at hl 0 rfl) ?_
        refine lv_if_lt (tgt := 80) hx hb dX10_looksAt_48 (by decide) (fun c14 => ?_) (fun c14 => ?_)
        · replace hf := it_t c14 hf
          refine lv_iinc (v := (x3 + 1)) (lv' := [(3, .int (x3 + 1)), (5, .int v13), (4, .int v9), (0, .ref x0), (1, .int x1), (2, .int x2)]) hx hb dX10_looksAt_80 hl (k := 5) rfl rfl (by decide) rfl (fun ls hl => ?_)
          refine lv_goto (tgt := 2) hx hb dX10_looksAt_83 (by decide) ?_
          exact (ih) x0 x1 x2 (x3 + 1) ls (lv_sub (l' := [(0, .ref x0), (1, .int x1), (2, .int x2), (3, .int (x3 + 1))]) hl [3, 4, 5, 0] rfl) hf
        · replace hf := it_f c14 hf
          refine lv_iload_n hx hb dX10_looksAt_51 rfl (lv_at hl 4 rfl) ?_
          refine lv_iload hx hb dX10_looksAt_52 (lv_at hl 0 rfl) ?_
          refine lv_ishr hx hb dX10_looksAt_54 ?_
          refine lv_iconst hx hb dX10_looksAt_55 kc_i1 ?_
          refine lv_iand hx hb dX10_looksAt_56 ?_
          refine lv_iconst hx hb dX10_looksAt_57 kc_i1 ?_
          refine lv_icmp_ne (tgt := 80) hx hb dX10_looksAt_58 (by decide) (fun c15 => ?_) (fun c15 => ?_)
          · replace hf := it_f c15 hf
            refine lv_iinc (v := (x3 + 1)) (lv' := [(3, .int (x3 + 1)), (5, .int v13), (4, .int v9), (0, .ref x0), (1, .int x1), (2, .int x2)]) hx hb dX10_looksAt_80 hl (k := 5) rfl rfl (by decide) rfl (fun ls hl => ?_)
            refine lv_goto (tgt := 2) hx hb dX10_looksAt_83 (by decide) ?_
            exact (ih) x0 x1 x2 (x3 + 1) ls (lv_sub (l' := [(0, .ref x0), (1, .int x1), (2, .int x2), (3, .int (x3 + 1))]) hl [3, 4, 5, 0] rfl) hf
          · replace hf := it_t c15 hf
            refine lv_aload_n hx hb dX10_looksAt_61 rfl (lv_at hl 2 rfl) ?_
            obtain ⟨v16, hv16, hf⟩ := ob_s hf
            refine bg_X10_3 S hS hB (vR_s hv16) dX10_looksAt_62 ?_
            obtain ⟨v17, hv17, hf⟩ := ob_s hf
            refine bg_X10_29 S hS hB (vR_s hv17) dX10_looksAt_65 ?_
            refine lv_iload_n hx hb dX10_looksAt_68 rfl (lv_at hl 3 rfl) ?_
            refine lv_iload hx hb dX10_looksAt_69 (lv_at hl 1 rfl) ?_
            obtain ⟨g18, hf⟩ := gd_t hf
            obtain ⟨v19, hv19, hf⟩ := ob_s hf
            refine mc_X10_61 (fE := fE) (lE := lE) S hS hB g18 hv19 hl.1 ⟨(by show _ ≤ (fE + 5); omega), (by show _ ≤ (lE + 107); omega)⟩ (Nat.le_of_ble_eq_true rfl) ⟨Nat.zero_le _, Nat.zero_le _⟩ dX10_looksAt_71 (fun hnv19 => ?_)
            refine lv_if_eq (tgt := 80) hx hb dX10_looksAt_74 (by decide) (fun c20 => ?_) (fun c20 => ?_)
            · replace hf := it_t c20 hf
              refine lv_iinc (v := (x3 + 1)) (lv' := [(3, .int (x3 + 1)), (5, .int v13), (4, .int v9), (0, .ref x0), (1, .int x1), (2, .int x2)]) hx hb dX10_looksAt_80 hl (k := 5) rfl rfl (by decide) rfl (fun ls hl => ?_)
              refine lv_goto (tgt := 2) hx hb dX10_looksAt_83 (by decide) ?_
              exact (ih) x0 x1 x2 (x3 + 1) ls (lv_sub (l' := [(0, .ref x0), (1, .int x1), (2, .int x2), (3, .int (x3 + 1))]) hl [3, 4, 5, 0] rfl) hf
            · replace hf := it_f c20 hf
              refine lv_iload hx hb dX10_looksAt_77 (lv_at hl 0 rfl) ?_
              have hE9 := Option.some.inj hf
              subst hE9
              exact gt_ri S hr hlocks trivial dX10_looksAt_79
  rw [f_X10_looksAt] at hf
  refine lv_iconst hx hb dX10_looksAt_0 kc_i0 ?_
  refine lv_istore_n (i := 3) (lv' := [(3, .int 0), (0, .ref o), (1, .int a0), (2, .int a1)]) hx hb dX10_looksAt_1 rfl hl (by decide) rfl (fun ls hl => ?_)
  exact (w2 FU) o a0 a1 0 ls (lv_sub (l' := [(0, .ref o), (1, .int a0), (2, .int a1), (3, .int 0)]) hl [1, 2, 3, 0] rfl) hf
set_option maxRecDepth 100000 in
theorem mc_X10_65 {o : Nat} {a0 : Int32} {a1 : Int32} {out : Int32} (S : CallFix p m c cc nL s args lw_all RX10) (hS : SK G E.1 hSites A s) (hB : BI G A s.heap h nx H locs) (ho : isO h o 9 = true) (hf : f_X10_looksAt E h o a0 a1 = some out) (hsz : ls.size = nL) (hR : (fE + 5) + 1 ≤ R.frames ∧ 8 + (6 + 11) + (lE + 107) ≤ R.locals) (hW : (rest.map fun v => v.category).sum ≤ 8) (hcs : cells ≤ R.cells ∧ slots ≤ R.slots) (hdg : decode cc pc = .ok (.invokevirtual 65, 3))  (kk : True → W p l e R s m args below meth c H locs cells slots Q (F0 m (pc + 3) ls (.int out :: rest))) : W p l e R s m args below meth c H locs cells slots Q (F0 m pc ls (.int a1 :: .int a0 :: .ref o :: rest)) := by
  have hN := hS.2.1
  obtain ⟨fs, he⟩ := isO_s ho
  exact br_r (va_runV (As := [.int a0, .int a1]) S (mm_X10_looksAt (l := l) (G := G) (nx := nx) (fE := fE) (lE := lE) hf) (cwV 2 S.2.2.2.2 (lw_V q1693 q1695 qs83 q204 q1696) rfl rfl rfl hd_X10_looksAt hR) (bPreV hS hB (ci := 9) rfl he) rfl rfl hsz rfl (lv_room hW) hdg hcs) kk
theorem hd_X10_circleFrom : yX10_circleFrom.cls = RX10 ∧ yX10_circleFrom.cls ≠ "java/lang/invoke/MethodHandle" ∧ yX10_circleFrom.cls ≠ "java/lang/invoke/VarHandle" ∧ (parseMethodDescriptor yX10_circleFrom.desc).map (fun d => d.parameters.length) = some 2 := by decide +kernel
set_option maxHeartbeats 4000000 in
set_option maxRecDepth 100000 in
theorem mm_X10_circleFrom {o : Nat} {a0 : Int32} {a1 : Int32} {out : Int32 × AH × Nat × Nat} (hf : f_X10_circleFrom E h nx o a0 a1 = some out) : Met l yX10_circleFrom (ws_ yX10_circleFrom cX10_circleFrom 6 (some .int)) (rC (fE + 6) (lE + 132) out.2.2.1 out.2.2.2) (bPc G E.1 hSites h nx [.ref o, .int a0, .int a1]) (bQ G (some (.int out.1)) True out.2.1 (nx + out.2.2.1) (AA h nx)) out.2.2.1 out.2.2.2 (AA h nx) := by
  refine bGo (by decide +kernel) (Nat.le_of_ble_eq_true rfl) (fun p e s m below meth c ls S hr hlocks hin hnm hS hB hl => ?_)
  have S : CallFix p m c cX10_circleFrom 6 s _ lw_all RX10 := S
  obtain ⟨hx, hb, hml, hown, hts⟩ := id S
  have hl : lv_has ls 6 [(0, .ref o), (1, .int a0), (2, .int a1)] := hl
  have w110 : ∀ (x0 : Nat) (x4 : Int32) (x5 : Int32) (y0 : Nat) (y1 : Int32) (y2 : Int32) (hc : AH) (nc : Nat) (ls : Array Slot) (H : Heap) (locs : List Loc) (ce sl : Nat) (o1 : Int32 × AH × Nat × Nat), BI G (AA h nx) s.heap hc nc H locs → nc = nx + ce → TL out o1 ce sl → lv_has ls 6 [(0, .ref x0), (4, .int x4), (5, .int x5)] → f_X10_circleFrom_110 E x0 x4 x5 y0 y1 y2 hc nc = some o1 → W p l e (rC (fE + 6) (lE + 132) out.2.2.1 out.2.2.2) s m ([.ref o, .int a0, .int a1] : List Value).toArray below meth c H locs ce sl (MQ below (bQ G (some (.int out.1)) True out.2.1 (nx + out.2.2.1) (AA h nx)) ([.ref o, .int a0, .int a1] : List Value).toArray s out.2.2.1 out.2.2.2 (AA h nx)) (F0 m 110 ls [.int y2, .int y1, .ref y0]) := by
    intro x0 x4 x5 y0 y1 y2 hc nc ls H locs ce sl o1 hB hn hT hl hf
    rw [f_X10_circleFrom_110] at hf
    obtain ⟨v1, hv1, hf⟩ := ob_s hf
    refine mc_X10_38 S hS.1 hS.2.1 hv1 hl.1 ⟨(by show _ ≤ (fE + 6); omega), (by show _ ≤ (lE + 132); omega)⟩ (Nat.le_of_ble_eq_true rfl) ⟨(TL_m hT).1, (TL_m hT).2⟩ dX10_circleFrom_110 (fun _ => ?_)
    refine lv_iadd hx hb dX10_circleFrom_113 ?_
    obtain ⟨h2, hh2, hf⟩ := ob_s hf
    refine bp_X10_71 S hS hB hh2 dX10_circleFrom_114 (fun H locs hB => ?_)
    refine lv_aload_n hx hb dX10_circleFrom_117 rfl (lv_at hl 0 rfl) ?_
    refine lv_aload_n hx hb dX10_circleFrom_118 rfl (lv_at hl 0 rfl) ?_
    obtain ⟨v3, hv3, hf⟩ := ob_s hf
    refine bg_X10_75 S hS hB (vI_s hv3) dX10_circleFrom_119 ?_
    refine lv_iload hx hb dX10_circleFrom_122 (lv_at hl 2 rfl) ?_
    obtain ⟨v4, hv4, hf⟩ := ob_s hf
    refine mc_X10_78 S hS.1 hv4 hl.1 ⟨(by show _ ≤ (fE + 6); omega), (by show _ ≤ (lE + 132); omega)⟩ (Nat.le_of_ble_eq_true rfl) ⟨(TL_m hT).1, (TL_m hT).2⟩ dX10_circleFrom_124 (fun _ => ?_)
    obtain ⟨h5, hh5, hf⟩ := ob_s hf
    refine bp_X10_75 S hS hB hh5 dX10_circleFrom_127 (fun H locs hB => ?_)
    refine lv_iload hx hb dX10_circleFrom_130 (lv_at hl 1 rfl) ?_
    have hE9 := TL_e hT hf
    subst hE9
    exact bt_i S hr hlocks hB (by omega) trivial dX10_circleFrom_132
  have w31 : ∀ (n : Nat) , ∀ (x0 : Nat) (x2 : Int32) (x4 : Int32) (x5 : Int32) (hc : AH) (nc : Nat) (ls : Array Slot) (H : Heap) (locs : List Loc) (ce sl : Nat) (o1 : Int32 × AH × Nat × Nat), BI G (AA h nx) s.heap hc nc H locs → nc = nx + ce → TL out o1 ce sl → lv_has ls 6 [(0, .ref x0), (2, .int x2), (4, .int x4), (5, .int x5)] → f_X10_circleFrom_31 n E x0 x2 x4 x5 hc nc = some o1 → W p l e (rC (fE + 6) (lE + 132) out.2.2.1 out.2.2.2) s m ([.ref o, .int a0, .int a1] : List Value).toArray below meth c H locs ce sl (MQ below (bQ G (some (.int out.1)) True out.2.1 (nx + out.2.2.1) (AA h nx)) ([.ref o, .int a0, .int a1] : List Value).toArray s out.2.2.1 out.2.2.2 (AA h nx)) (F0 m 31 ls []) := by
    intro n
    induction n with
    | zero =>
      intro x0 x2 x4 x5 hc nc ls H locs ce sl o1 hB hn hT hl hf
      exact absurd hf (by rw [f_X10_circleFrom_31]; exact nofun)
    | succ n ih =>
      intro x0 x2 x4 x5 hc nc ls H locs ce sl o1 hB hn hT hl hf
      rw [f_X10_circleFrom_31] at hf
      refine lv_iload hx hb dX10_circleFrom_31 (lv_at hl 2 rfl) ?_
      refine lv_iload hx hb dX10_circleFrom_33 (lv_at hl 3 rfl) ?_
      refine lv_ishr hx hb dX10_circleFrom_35 ?_
      refine lv_iconst hx hb dX10_circleFrom_36 kc_i1 ?_
      refine lv_iand hx hb dX10_circleFrom_37 ?_
      refine lv_if_ne (tgt := 87) hx hb dX10_circleFrom_38 (by decide) (fun c1 => ?_) (fun c1 => ?_)
      · replace hf := it_f c1 hf
        refine lv_iload hx hb dX10_circleFrom_87 (lv_at hl 2 rfl) ?_
        obtain ⟨v2, hv2, hf⟩ := ob_s hf
        refine mc_X10_68 S hS.1 hv2 hl.1 ⟨(by show _ ≤ (fE + 6); omega), (by show _ ≤ (lE + 132); omega)⟩ (Nat.le_of_ble_eq_true rfl) ⟨(TL_m hT).1, (TL_m hT).2⟩ dX10_circleFrom_89 (fun _ => ?_)
        refine lv_istore (lv' := [(5, .int v2), (0, .ref x0), (2, .int x2), (4, .int x4)]) hx hb dX10_circleFrom_92 hl (by decide) rfl (fun ls hl => ?_)
        refine lv_aload_n hx hb dX10_circleFrom_94 rfl (lv_at hl 1 rfl) ?_
        refine lv_dup hx hb dX10_circleFrom_95 rfl ?_
        obtain ⟨v3, hv3, hf⟩ := ob_s hf
        refine bg_X10_71 S hS hB (vI_s hv3) dX10_circleFrom_96 ?_
        refine lv_iload hx hb dX10_circleFrom_99 (lv_at hl 0 rfl) ?_
        refine lv_iconst hx hb dX10_circleFrom_101 kc_i1 ?_
        refine lv_icmp_le (tgt := 109) hx hb dX10_circleFrom_102 (by decide) (fun c4 => ?_) (fun c4 => ?_)
        · replace hf := it_t c4 hf
          refine lv_iconst hx hb dX10_circleFrom_109 kc_i0 ?_
          exact (w110) x0 x4 v2 x0 v3 0 hc nc ls H locs ce sl o1 hB (by omega) hT (lv_sub (l' := [(0, .ref x0), (4, .int x4), (5, .int v2)]) hl [1, 3, 0] rfl) hf
        · replace hf := it_f c4 hf
          refine lv_iconst hx hb dX10_circleFrom_105 kc_i1 ?_
          refine lv_goto (tgt := 110) hx hb dX10_circleFrom_106 (by decide) ?_
          exact (w110) x0 x4 v2 x0 v3 1 hc nc ls H locs ce sl o1 hB (by omega) hT (lv_sub (l' := [(0, .ref x0), (4, .int x4), (5, .int v2)]) hl [1, 3, 0] rfl) hf
      · replace hf := it_t c1 hf
        refine lv_iload hx hb dX10_circleFrom_41 (lv_at hl 2 rfl) ?_
        refine lv_iconst hx hb dX10_circleFrom_43 kc_i1 ?_
        refine lv_iload hx hb dX10_circleFrom_44 (lv_at hl 3 rfl) ?_
        refine lv_ishl hx hb dX10_circleFrom_46 ?_
        refine lv_ior hx hb dX10_circleFrom_47 ?_
        refine lv_istore (lv' := [(4, .int (x4 ||| (1 <<< (x5 &&& 31)))), (0, .ref x0), (2, .int x2), (5, .int x5)]) hx hb dX10_circleFrom_48 hl (by decide) rfl (fun ls hl => ?_)
        refine lv_aload_n hx hb dX10_circleFrom_50 rfl (lv_at hl 1 rfl) ?_
        obtain ⟨v5, hv5, hf⟩ := ob_s hf
        refine bg_X10_15 S hS hB (vR_s hv5) dX10_circleFrom_51 ?_
        refine lv_iload hx hb dX10_circleFrom_54 (lv_at hl 3 rfl) ?_
        refine lv_aload_n hx hb dX10_circleFrom_56 rfl (lv_at hl 1 rfl) ?_
        obtain ⟨v6, hv6, hf⟩ := ob_s hf
        refine bg_X10_3 S hS hB (vR_s hv6) dX10_circleFrom_57 ?_
        obtain ⟨v7, hv7, hf⟩ := ob_s hf
        refine bg_X10_29 S hS hB (vR_s hv7) dX10_circleFrom_60 ?_
        obtain ⟨v8, hv8, hf⟩ := ob_s hf
        refine bg_X10_33 S hS hB (vR_s hv8) dX10_circleFrom_63 ?_
        refine lv_aload_n hx hb dX10_circleFrom_66 rfl (lv_at hl 1 rfl) ?_
        refine lv_iload hx hb dX10_circleFrom_67 (lv_at hl 3 rfl) ?_
        refine lv_iload_n hx hb dX10_circleFrom_69 rfl (lv_at hl 2 rfl) ?_
        obtain ⟨g9, hf⟩ := gd_t hf
        obtain ⟨v10, hv10, hf⟩ := ob_s hf
        refine mc_X10_65 (fE := fE) (lE := lE) S hS hB g9 hv10 hl.1 ⟨(by show _ ≤ (fE + 6); omega), (by show _ ≤ (lE + 132); omega)⟩ (Nat.le_of_ble_eq_true rfl) ⟨(TL_m hT).1, (TL_m hT).2⟩ dX10_circleFrom_70 (fun _ => ?_)
        obtain ⟨v11, hv11, hf⟩ := ob_s hf
        refine b_iald S hS.1 hB hv11 dX10_circleFrom_73 ?_
        obtain ⟨h12, hh12, hf⟩ := ob_s hf
        refine b_iast S hS.1 hB hh12 dX10_circleFrom_74 (fun H locs hB => ?_)
        refine lv_aload_n hx hb dX10_circleFrom_75 rfl (lv_at hl 1 rfl) ?_
        refine lv_iload hx hb dX10_circleFrom_76 (lv_at hl 3 rfl) ?_
        refine lv_iload_n hx hb dX10_circleFrom_78 rfl (lv_at hl 2 rfl) ?_
        obtain ⟨g13, hf⟩ := gd_t hf
        obtain ⟨v14, hv14, hf⟩ := ob_s hf
        refine mc_X10_65 (fE := fE) (lE := lE) S hS hB g13 hv14 hl.1 ⟨(by show _ ≤ (fE + 6); omega), (by show _ ≤ (lE + 132); omega)⟩ (Nat.le_of_ble_eq_true rfl) ⟨(TL_m hT).1, (TL_m hT).2⟩ dX10_circleFrom_79 (fun _ => ?_)
        refine lv_istore (lv' := [(5, .int v14), (4, .int (x4 ||| (1 <<< (x5 &&& 31)))), (0, .ref x0), (2, .int x2)]) hx hb dX10_circleFrom_82 hl (by decide) rfl (fun ls hl => ?_)
        refine lv_goto (tgt := 31) hx hb dX10_circleFrom_84 (by decide) ?_
        exact (ih) x0 x2 (x4 ||| (1 <<< (x5 &&& 31))) v14 h12 nc ls H locs ce sl o1 hB (by omega) hT (lv_sub (l' := [(0, .ref x0), (2, .int x2), (4, .int (x4 ||| (1 <<< (x5 &&& 31)))), (5, .int v14)]) hl [2, 3, 1, 0] rfl) hf
  have w5 : ∀ (n : Nat) , ∀ (x0 : Nat) (x2 : Int32) (x3 : Int32) (x4 : Int32) (hc : AH) (nc : Nat) (ls : Array Slot) (H : Heap) (locs : List Loc) (ce sl : Nat) (o1 : Int32 × AH × Nat × Nat), BI G (AA h nx) s.heap hc nc H locs → nc = nx + ce → TL out o1 ce sl → lv_has ls 6 [(0, .ref x0), (2, .int x2), (3, .int x3), (4, .int x4)] → f_X10_circleFrom_5 n E x0 x2 x3 x4 hc nc = some o1 → W p l e (rC (fE + 6) (lE + 132) out.2.2.1 out.2.2.2) s m ([.ref o, .int a0, .int a1] : List Value).toArray below meth c H locs ce sl (MQ below (bQ G (some (.int out.1)) True out.2.1 (nx + out.2.2.1) (AA h nx)) ([.ref o, .int a0, .int a1] : List Value).toArray s out.2.2.1 out.2.2.2 (AA h nx)) (F0 m 5 ls []) := by
    intro n
    induction n with
    | zero =>
      intro x0 x2 x3 x4 hc nc ls H locs ce sl o1 hB hn hT hl hf
      exact absurd hf (by rw [f_X10_circleFrom_5]; exact nofun)
    | succ n ih =>
      intro x0 x2 x3 x4 hc nc ls H locs ce sl o1 hB hn hT hl hf
      rw [f_X10_circleFrom_5] at hf
      refine lv_iload hx hb dX10_circleFrom_5 (lv_at hl 3 rfl) ?_
      refine lv_bipush hx hb dX10_circleFrom_7 kc_b8 ?_
      refine lv_icmp_ge (tgt := 25) hx hb dX10_circleFrom_9 (by decide) (fun c1 => ?_) (fun c1 => ?_)
      · replace hf := it_t c1 hf
        refine lv_iconst hx hb dX10_circleFrom_25 kc_i0 ?_
        refine lv_istore (lv' := [(4, .int 0), (0, .ref x0), (2, .int x2), (3, .int x3)]) hx hb dX10_circleFrom_26 hl (by decide) rfl (fun ls hl => ?_)
        refine lv_iload_n hx hb dX10_circleFrom_28 rfl (lv_at hl 3 rfl) ?_
        refine lv_istore (lv' := [(5, .int x3), (4, .int 0), (0, .ref x0), (2, .int x2), (3, .int x3)]) hx hb dX10_circleFrom_29 hl (by decide) rfl (fun ls hl => ?_)
        exact (w31 FU) x0 x2 0 x3 hc nc ls H locs ce sl o1 hB (by omega) hT (lv_sub (l' := [(0, .ref x0), (2, .int x2), (4, .int 0), (5, .int x3)]) hl [2, 3, 1, 0] rfl) hf
      · replace hf := it_f c1 hf
        refine lv_aload_n hx hb dX10_circleFrom_12 rfl (lv_at hl 0 rfl) ?_
        refine lv_iload_n hx hb dX10_circleFrom_13 rfl (lv_at hl 2 rfl) ?_
        refine lv_iload_n hx hb dX10_circleFrom_14 rfl (lv_at hl 1 rfl) ?_
        obtain ⟨g2, hf⟩ := gd_t hf
        obtain ⟨v3, hv3, hf⟩ := ob_s hf
        refine mc_X10_65 (fE := fE) (lE := lE) S hS hB g2 hv3 hl.1 ⟨(by show _ ≤ (fE + 6); omega), (by show _ ≤ (lE + 132); omega)⟩ (Nat.le_of_ble_eq_true rfl) ⟨(TL_m hT).1, (TL_m hT).2⟩ dX10_circleFrom_15 (fun _ => ?_)
        refine lv_istore_n (i := 3) (lv' := [(3, .int v3), (0, .ref x0), (2, .int x2), (4, .int x4)]) hx hb dX10_circleFrom_18 rfl hl (by decide) rfl (fun ls hl => ?_)
        refine lv_iinc (v := (x4 + 1)) (lv' := [(4, .int (x4 + 1)), (3, .int v3), (0, .ref x0), (2, .int x2)]) hx hb dX10_circleFrom_19 hl (k := 3) rfl rfl (by decide) rfl (fun ls hl => ?_)
        refine lv_goto (tgt := 5) hx hb dX10_circleFrom_22 (by decide) ?_
        exact (ih) x0 x2 v3 (x4 + 1) hc nc ls H locs ce sl o1 hB (by omega) hT (lv_sub (l' := [(0, .ref x0), (2, .int x2), (3, .int v3), (4, .int (x4 + 1))]) hl [2, 3, 1, 0] rfl) hf
  have hT : TL out out 0 0 := TL_0
  rw [f_X10_circleFrom] at hf
  refine lv_iload_n hx hb dX10_circleFrom_0 rfl (lv_at hl 1 rfl) ?_
  refine lv_istore_n (i := 3) (lv' := [(3, .int a0), (0, .ref o), (1, .int a0), (2, .int a1)]) hx hb dX10_circleFrom_1 rfl hl (by decide) rfl (fun ls hl => ?_)
  refine lv_iconst hx hb dX10_circleFrom_2 kc_i0 ?_
  refine lv_istore (lv' := [(4, .int 0), (3, .int a0), (0, .ref o), (1, .int a0), (2, .int a1)]) hx hb dX10_circleFrom_3 hl (by decide) rfl (fun ls hl => ?_)
  exact (w5 FU) o a1 a0 0 h nx ls s.heap [] 0 0 out hB (by omega) hT (lv_sub (l' := [(0, .ref o), (2, .int a1), (3, .int a0), (4, .int 0)]) hl [2, 4, 1, 0] rfl) hf
set_option maxRecDepth 100000 in
theorem mc_X10_48 {o : Nat} {a0 : Int32} {a1 : Int32} {out : Int32 × AH × Nat × Nat} (S : CallFix p m c cc nL s args lw_all RX10) (hS : SK G E.1 hSites A s) (hB : BI G A s.heap h nx H locs) (ho : isO h o 9 = true) (hf : f_X10_circleFrom E h nx o a0 a1 = some out) (hsz : ls.size = nL) (hR : (fE + 6) + 1 ≤ R.frames ∧ 8 + (6 + 11) + (lE + 132) ≤ R.locals) (hW : (rest.map fun v => v.category).sum ≤ 8) (hcs : cells + out.2.2.1 ≤ R.cells ∧ slots + out.2.2.2 ≤ R.slots) (hdg : decode cc pc = .ok (.invokevirtual 48, 3))  (kk : ∀ (H1 : Heap) (locs1 : List Loc), True → BI G A s.heap out.2.1 (nx + out.2.2.1) H1 locs1 → W p l e R s m args below meth c H1 locs1 (cells + out.2.2.1) (slots + out.2.2.2) Q (F0 m (pc + 3) ls (.int out.1 :: rest))) : W p l e R s m args below meth c H locs cells slots Q (F0 m pc ls (.int a1 :: .int a0 :: .ref o :: rest)) := by
  have hN := hS.2.1
  obtain ⟨fs, he⟩ := isO_s ho
  exact br_w (va_runV (As := [.int a0, .int a1]) S (mm_X10_circleFrom (l := l) (G := G) (fE := fE) (lE := lE) hf) (cwV 2 S.2.2.2.2 (lw_V q1689 q1691 qs82 q204 q1692) rfl rfl rfl hd_X10_circleFrom hR) (bPreV hS hB (ci := 9) rfl he) rfl rfl hsz rfl (lv_room hW) hdg hcs) hB kk
theorem hd_X10_init : yX10_init.cls ≠ "java/lang/invoke/MethodHandle" ∧ yX10_init.cls ≠ "java/lang/invoke/VarHandle" ∧ (parseMethodDescriptor yX10_init.desc).map (fun d => d.parameters.length) = some 1 := by decide +kernel
set_option maxHeartbeats 4000000 in
set_option maxRecDepth 100000 in
theorem mm_X10_init {o : Nat} {a0 : Nat} {out : Unit × AH × Nat × Nat} (hf : f_X10_init E h nx o a0 = some out) : Met l yX10_init (ws_ yX10_init cX10_init 4 none) (rC (fE + 7) (lE + 157) out.2.2.1 out.2.2.2) (bPc G E.1 hSites h nx [.ref o, .ref a0]) (bQ G none True out.2.1 (nx + out.2.2.1) (AA h nx)) out.2.2.1 out.2.2.2 (AA h nx) := by
  refine bGo (by decide +kernel) (Nat.le_of_ble_eq_true rfl) (fun p e s m below meth c ls S hr hlocks hin hnm hS hB hl => ?_)
  have S : CallFix p m c cX10_init 4 s _ lw_all RX10 := S
  obtain ⟨hx, hb, hml, hown, hts⟩ := id S
  have hl : lv_has ls 4 [(0, .ref o), (1, .ref a0)] := hl
  have w71 : ∀ (k42 : Nat → Nat → Int32 → Int32 → AH → Nat → Option (Unit × AH × Nat × Nat)), (∀ (b0 : Nat) (b1 : Nat) (b2 : Int32) (b3 : Int32) (b4 : AH) (b5 : Nat) (ls : Array Slot) (H : Heap) (locs : List Loc) (ce sl : Nat) (o1 : Unit × AH × Nat × Nat), BI G (AA h nx) s.heap b4 b5 H locs → b5 = nx + ce → TL out o1 ce sl → lv_has ls 4 [(0, .ref b0), (1, .ref b1), (2, .int b2), (3, .int b3)] → k42 b0 b1 b2 b3 b4 b5 = some o1 → W p l e (rC (fE + 7) (lE + 157) out.2.2.1 out.2.2.2) s m ([.ref o, .ref a0] : List Value).toArray below meth c H locs ce sl (MQ below (bQ G none True out.2.1 (nx + out.2.2.1) (AA h nx)) ([.ref o, .ref a0] : List Value).toArray s out.2.2.1 out.2.2.2 (AA h nx)) (F0 m 42 ls [])) → ∀ (x0 : Nat) (x1 : Nat) (x3 : Int32) (y0 : Int32) (y1 : Int32) (hc : AH) (nc : Nat) (ls : Array Slot) (H : Heap) (locs : List Loc) (ce sl : Nat) (o1 : Unit × AH × Nat × Nat), BI G (AA h nx) s.heap hc nc H locs → nc = nx + ce → TL out o1 ce sl → lv_has ls 4 [(0, .ref x0), (1, .ref x1), (3, .int x3)] → f_X10_init_71 k42 E x0 x1 x3 y0 y1 hc nc = some o1 → W p l e (rC (fE + 7) (lE + 157) out.2.2.1 out.2.2.2) s m ([.ref o, .ref a0] : List Value).toArray below meth c H locs ce sl (MQ below (bQ G none True out.2.1 (nx + out.2.2.1) (AA h nx)) ([.ref o, .ref a0] : List Value).toArray s out.2.2.1 out.2.2.2 (AA h nx)) (F0 m 71 ls [.int y1, .int y0]) := by
    intro k42 hk42 x0 x1 x3 y0 y1 hc nc ls H locs ce sl o1 hB hn hT hl hf
    rw [f_X10_init_71] at hf
    obtain ⟨v1, hv1, hf⟩ := ob_s hf
    refine mc_X10_38 S hS.1 hS.2.1 hv1 hl.1 ⟨(by show _ ≤ (fE + 7); omega), (by show _ ≤ (lE + 157); omega)⟩ (Nat.le_of_ble_eq_true rfl) ⟨(TL_m hT).1, (TL_m hT).2⟩ dX10_init_71 (fun _ => ?_)
    refine lv_iload_n hx hb dX10_init_74 rfl (lv_at hl 2 rfl) ?_
    refine lv_ishl hx hb dX10_init_75 ?_
    refine lv_ior hx hb dX10_init_76 ?_
    refine lv_istore_n (i := 2) (lv' := [(2, .int (y0 ||| (v1 <<< (x3 &&& 31)))), (0, .ref x0), (1, .ref x1), (3, .int x3)]) hx hb dX10_init_77 rfl hl (by decide) rfl (fun ls hl => ?_)
    refine lv_iinc (v := (x3 + 1)) (lv' := [(3, .int (x3 + 1)), (2, .int (y0 ||| (v1 <<< (x3 &&& 31)))), (0, .ref x0), (1, .ref x1)]) hx hb dX10_init_78 hl (k := 3) rfl rfl (by decide) rfl (fun ls hl => ?_)
    refine lv_goto (tgt := 42) hx hb dX10_init_81 (by decide) ?_
    exact hk42 x0 x1 (y0 ||| (v1 <<< (x3 &&& 31))) (x3 + 1) hc nc ls H locs ce sl o1 hB (by omega) hT (lv_sub (l' := [(0, .ref x0), (1, .ref x1), (2, .int (y0 ||| (v1 <<< (x3 &&& 31)))), (3, .int (x3 + 1))]) hl [2, 3, 1, 0] rfl) hf
  have w84 : ∀ (n : Nat) , ∀ (x0 : Nat) (x2 : Int32) (hc : AH) (nc : Nat) (ls : Array Slot) (H : Heap) (locs : List Loc) (ce sl : Nat) (o1 : Unit × AH × Nat × Nat), BI G (AA h nx) s.heap hc nc H locs → nc = nx + ce → TL out o1 ce sl → lv_has ls 4 [(0, .ref x0), (2, .int x2)] → f_X10_init_84 n E x0 x2 hc nc = some o1 → W p l e (rC (fE + 7) (lE + 157) out.2.2.1 out.2.2.2) s m ([.ref o, .ref a0] : List Value).toArray below meth c H locs ce sl (MQ below (bQ G none True out.2.1 (nx + out.2.2.1) (AA h nx)) ([.ref o, .ref a0] : List Value).toArray s out.2.2.1 out.2.2.2 (AA h nx)) (F0 m 84 ls []) := by
    intro n
    induction n with
    | zero =>
      intro x0 x2 hc nc ls H locs ce sl o1 hB hn hT hl hf
      exact absurd hf (by rw [f_X10_init_84]; exact nofun)
    | succ n ih =>
      intro x0 x2 hc nc ls H locs ce sl o1 hB hn hT hl hf
      rw [f_X10_init_84] at hf
      refine lv_iload_n hx hb dX10_init_84 rfl (lv_at hl 1 rfl) ?_
      refine lv_if_le (tgt := 105) hx hb dX10_init_85 (by decide) (fun c1 => ?_) (fun c1 => ?_)
      · replace hf := it_t c1 hf
        have hE9 := TL_e hT hf
        subst hE9
        exact bt_v S hr hlocks hB (by omega) trivial dX10_init_105
      · replace hf := it_f c1 hf
        refine lv_iload_n hx hb dX10_init_88 rfl (lv_at hl 1 rfl) ?_
        refine lv_aload_n hx hb dX10_init_89 rfl (lv_at hl 0 rfl) ?_
        refine lv_iload_n hx hb dX10_init_90 rfl (lv_at hl 1 rfl) ?_
        obtain ⟨v2, hv2, hf⟩ := ob_s hf
        refine mc_X10_42 S hS.1 hv2 hl.1 ⟨(by show _ ≤ (fE + 7); omega), (by show _ ≤ (lE + 157); omega)⟩ (Nat.le_of_ble_eq_true rfl) ⟨(TL_m hT).1, (TL_m hT).2⟩ dX10_init_91 (fun _ => ?_)
        refine lv_iload_n hx hb dX10_init_94 rfl (lv_at hl 1 rfl) ?_
        obtain ⟨g3, hf⟩ := gd_t hf
        obtain ⟨v4, hv4, hf⟩ := ob_s hf
        obtain ⟨o5, hf, hT⟩ := TL_c hT hf
        refine mc_X10_48 (fE := fE) (lE := lE) S hS hB g3 hv4 hl.1 ⟨(by show _ ≤ (fE + 7); omega), (by show _ ≤ (lE + 157); omega)⟩ (Nat.le_of_ble_eq_true rfl) ⟨(TL_m hT).1, (TL_m hT).2⟩ dX10_init_95 (fun H locs _ hB => ?_)
        refine lv_iconst hx hb dX10_init_98 kc_im1 ?_
        refine lv_ixor hx hb dX10_init_99 ?_
        refine lv_iand hx hb dX10_init_100 ?_
        refine lv_istore_n (i := 2) (lv' := [(2, .int (x2 &&& (v4.1 ^^^ (-1)))), (0, .ref x0)]) hx hb dX10_init_101 rfl hl (by decide) rfl (fun ls hl => ?_)
        refine lv_goto (tgt := 84) hx hb dX10_init_102 (by decide) ?_
        exact (ih) x0 (x2 &&& (v4.1 ^^^ (-1))) v4.2.1 (nc + v4.2.2.1) ls H locs (ce + v4.2.2.1) (sl + v4.2.2.2) o5 hB (by omega) hT (lv_sub (l' := [(0, .ref x0), (2, .int (x2 &&& (v4.1 ^^^ (-1))))]) hl [1, 0] rfl) hf
  have w42 : ∀ (n : Nat) , ∀ (x0 : Nat) (x1 : Nat) (x2 : Int32) (x3 : Int32) (hc : AH) (nc : Nat) (ls : Array Slot) (H : Heap) (locs : List Loc) (ce sl : Nat) (o1 : Unit × AH × Nat × Nat), BI G (AA h nx) s.heap hc nc H locs → nc = nx + ce → TL out o1 ce sl → lv_has ls 4 [(0, .ref x0), (1, .ref x1), (2, .int x2), (3, .int x3)] → f_X10_init_42 n E x0 x1 x2 x3 hc nc = some o1 → W p l e (rC (fE + 7) (lE + 157) out.2.2.1 out.2.2.2) s m ([.ref o, .ref a0] : List Value).toArray below meth c H locs ce sl (MQ below (bQ G none True out.2.1 (nx + out.2.2.1) (AA h nx)) ([.ref o, .ref a0] : List Value).toArray s out.2.2.1 out.2.2.2 (AA h nx)) (F0 m 42 ls []) := by
    intro n
    induction n with
    | zero =>
      intro x0 x1 x2 x3 hc nc ls H locs ce sl o1 hB hn hT hl hf
      exact absurd hf (by rw [f_X10_init_42]; exact nofun)
    | succ n ih =>
      intro x0 x1 x2 x3 hc nc ls H locs ce sl o1 hB hn hT hl hf
      rw [f_X10_init_42] at hf
      refine lv_iload_n hx hb dX10_init_42 rfl (lv_at hl 3 rfl) ?_
      refine lv_aload_n hx hb dX10_init_43 rfl (lv_at hl 1 rfl) ?_
      obtain ⟨v1, hv1, hf⟩ := ob_s hf
      refine bg_X10_19 S hS hB (vR_s hv1) dX10_init_44 ?_
      obtain ⟨g2, hf⟩ := gd_t hf
      obtain ⟨v3, hv3, hf⟩ := ob_s hf
      refine mc_X10_23 (fE := fE) (lE := lE) S hS hB g2 hv3 hl.1 ⟨(by show _ ≤ (fE + 7); omega), (by show _ ≤ (lE + 157); omega)⟩ (Nat.le_of_ble_eq_true rfl) ⟨(TL_m hT).1, (TL_m hT).2⟩ dX10_init_47 (fun _ => ?_)
      refine lv_icmp_ge (tgt := 84) hx hb dX10_init_50 (by decide) (fun c4 => ?_) (fun c4 => ?_)
      · replace hf := it_t c4 hf
        exact (w84 FU) x0 x2 hc nc ls H locs ce sl o1 hB (by omega) hT (lv_sub (l' := [(0, .ref x0), (2, .int x2)]) hl [0, 2] rfl) hf
      · replace hf := it_f c4 hf
        refine lv_iload_n hx hb dX10_init_53 rfl (lv_at hl 2 rfl) ?_
        refine lv_aload_n hx hb dX10_init_54 rfl (lv_at hl 1 rfl) ?_
        obtain ⟨v5, hv5, hf⟩ := ob_s hf
        refine bg_X10_29 S hS hB (vR_s hv5) dX10_init_55 ?_
        obtain ⟨v6, hv6, hf⟩ := ob_s hf
        refine bg_X10_33 S hS hB (vR_s hv6) dX10_init_58 ?_
        refine lv_iload_n hx hb dX10_init_61 rfl (lv_at hl 3 rfl) ?_
        obtain ⟨v7, hv7, hf⟩ := ob_s hf
        refine b_iald S hS.1 hB hv7 dX10_init_62 ?_
        refine lv_if_lt (tgt := 70) hx hb dX10_init_63 (by decide) (fun c8 => ?_) (fun c8 => ?_)
        · replace hf := it_t c8 hf
          refine lv_iconst hx hb dX10_init_70 kc_i0 ?_
          exact (w71 (f_X10_init_42 n E) (ih)) x0 x1 x3 x2 0 hc nc ls H locs ce sl o1 hB (by omega) hT (lv_sub (l' := [(0, .ref x0), (1, .ref x1), (3, .int x3)]) hl [0, 1, 3] rfl) hf
        · replace hf := it_f c8 hf
          refine lv_iconst hx hb dX10_init_66 kc_i1 ?_
          refine lv_goto (tgt := 71) hx hb dX10_init_67 (by decide) ?_
          exact (w71 (f_X10_init_42 n E) (ih)) x0 x1 x3 x2 1 hc nc ls H locs ce sl o1 hB (by omega) hT (lv_sub (l' := [(0, .ref x0), (1, .ref x1), (3, .int x3)]) hl [0, 1, 3] rfl) hf
  have w19 : ∀ (n : Nat) , ∀ (x0 : Nat) (x1 : Nat) (x2 : Int32) (hc : AH) (nc : Nat) (ls : Array Slot) (H : Heap) (locs : List Loc) (ce sl : Nat) (o1 : Unit × AH × Nat × Nat), BI G (AA h nx) s.heap hc nc H locs → nc = nx + ce → TL out o1 ce sl → lv_has ls 4 [(0, .ref x0), (1, .ref x1), (2, .int x2)] → f_X10_init_19 n E x0 x1 x2 hc nc = some o1 → W p l e (rC (fE + 7) (lE + 157) out.2.2.1 out.2.2.2) s m ([.ref o, .ref a0] : List Value).toArray below meth c H locs ce sl (MQ below (bQ G none True out.2.1 (nx + out.2.2.1) (AA h nx)) ([.ref o, .ref a0] : List Value).toArray s out.2.2.1 out.2.2.2 (AA h nx)) (F0 m 19 ls []) := by
    intro n
    induction n with
    | zero =>
      intro x0 x1 x2 hc nc ls H locs ce sl o1 hB hn hT hl hf
      exact absurd hf (by rw [f_X10_init_19]; exact nofun)
    | succ n ih =>
      intro x0 x1 x2 hc nc ls H locs ce sl o1 hB hn hT hl hf
      rw [f_X10_init_19] at hf
      refine lv_iload_n hx hb dX10_init_19 rfl (lv_at hl 2 rfl) ?_
      refine lv_bipush hx hb dX10_init_20 kc_b8 ?_
      refine lv_icmp_ge (tgt := 38) hx hb dX10_init_22 (by decide) (fun c1 => ?_) (fun c1 => ?_)
      · replace hf := it_t c1 hf
        refine lv_iconst hx hb dX10_init_38 kc_i0 ?_
        refine lv_istore_n (i := 2) (lv' := [(2, .int 0), (0, .ref x0), (1, .ref x1)]) hx hb dX10_init_39 rfl hl (by decide) rfl (fun ls hl => ?_)
        refine lv_iconst hx hb dX10_init_40 kc_i0 ?_
        refine lv_istore_n (i := 3) (lv' := [(3, .int 0), (2, .int 0), (0, .ref x0), (1, .ref x1)]) hx hb dX10_init_41 rfl hl (by decide) rfl (fun ls hl => ?_)
        exact (w42 FU) x0 x1 0 0 hc nc ls H locs ce sl o1 hB (by omega) hT (lv_sub (l' := [(0, .ref x0), (1, .ref x1), (2, .int 0), (3, .int 0)]) hl [2, 3, 1, 0] rfl) hf
      · replace hf := it_f c1 hf
        refine lv_aload_n hx hb dX10_init_25 rfl (lv_at hl 0 rfl) ?_
        obtain ⟨v2, hv2, hf⟩ := ob_s hf
        refine bg_X10_15 S hS hB (vR_s hv2) dX10_init_26 ?_
        refine lv_iload_n hx hb dX10_init_29 rfl (lv_at hl 2 rfl) ?_
        refine lv_iconst hx hb dX10_init_30 kc_im1 ?_
        obtain ⟨h3, hh3, hf⟩ := ob_s hf
        refine b_iast S hS.1 hB hh3 dX10_init_31 (fun H locs hB => ?_)
        refine lv_iinc (v := (x2 + 1)) (lv' := [(2, .int (x2 + 1)), (0, .ref x0), (1, .ref x1)]) hx hb dX10_init_32 hl (k := 2) rfl rfl (by decide) rfl (fun ls hl => ?_)
        refine lv_goto (tgt := 19) hx hb dX10_init_35 (by decide) ?_
        exact (ih) x0 x1 (x2 + 1) h3 nc ls H locs ce sl o1 hB (by omega) hT (lv_sub (l' := [(0, .ref x0), (1, .ref x1), (2, .int (x2 + 1))]) hl [1, 2, 0] rfl) hf
  have hT : TL out out 0 0 := TL_0
  rw [f_X10_init] at hf
  refine lv_aload_n hx hb dX10_init_0 rfl (lv_at hl 0 rfl) ?_
  refine lv_aload_n hx hb dX10_init_1 rfl (lv_at hl 1 rfl) ?_
  obtain ⟨h1, hh1, hf⟩ := ob_s hf
  refine bp_X10_3 S hS hB hin hh1 dX10_init_2 (fun H locs hB => ?_)
  refine lv_aload_n hx hb dX10_init_5 rfl (lv_at hl 0 rfl) ?_
  refine W.objInit hx hb hown (hts _ q1682) (hts _ q212) (hts _ q213) rfl (by rw [hml]; exact hl.1) rfl dX10_init_6 (by show _ ≤ (fE + 7); omega) (by show _ ≤ (lE + 157); simp only [F0, JFrame.monitorRoom, List.map, List.sum_cons, List.sum_nil, Value.category]; omega) ?_
  refine W.eq (g2 := F0 m 9 ls []) rfl ?_
  refine lv_aload_n hx hb dX10_init_9 rfl (lv_at hl 0 rfl) ?_
  refine lv_bipush hx hb dX10_init_10 kc_b8 ?_
  obtain ⟨o2, hf, hT⟩ := TL_c hT hf
  refine b_newI S hS hB kn_8 kna_8 (TL_m hT).1 (TL_m hT).2 dX10_init_12 (fun H hB => ?_)
  obtain ⟨h3, hh3, hf⟩ := ob_s hf
  refine bp_X10_15 S hS hB hin hh3 dX10_init_14 (fun H locs hB => ?_)
  refine lv_iconst hx hb dX10_init_17 kc_i0 ?_
  refine lv_istore_n (i := 2) (lv' := [(2, .int 0), (0, .ref o), (1, .ref a0)]) hx hb dX10_init_18 rfl hl (by decide) rfl (fun ls hl => ?_)
  exact (w19 FU) o a0 0 h3 (nx + 1) ls H locs (0 + 1) (0 + 8) o2 hB (by omega) hT (lv_sub (l' := [(0, .ref o), (1, .ref a0), (2, .int 0)]) hl [1, 2, 0] rfl) hf
set_option maxRecDepth 100000 in
theorem mc_X1_509 {o : Nat} {a0 : Nat} {out : Unit × AH × Nat × Nat} (S : CallFix p m c cc nL s args lw_all RX1) (hS : SK G E.1 hSites A s) (hB : BI G A s.heap h nx H locs) (hf : f_X10_init E h nx o a0 = some out) (hsz : ls.size = nL) (hR : (fE + 7) + 1 ≤ R.frames ∧ 8 + (4 + 11) + (lE + 157) ≤ R.locals) (hW : (rest.map fun v => v.category).sum ≤ 8) (hcs : cells + out.2.2.1 ≤ R.cells ∧ slots + out.2.2.2 ≤ R.slots) (hdg : decode cc pc = .ok (.invokespecial 509, 3))  (kk : ∀ (H1 : Heap) (locs1 : List Loc), True → BI G A s.heap out.2.1 (nx + out.2.2.1) H1 locs1 → W p l e R s m args below meth c H1 locs1 (cells + out.2.2.1) (slots + out.2.2.2) Q (F0 m (pc + 3) ls (rest))) : W p l e R s m args below meth c H locs cells slots Q (F0 m pc ls (.ref a0 :: .ref o :: rest)) := by
  have hN := hS.2.1
  exact br_v (va_runI (As := [.ref a0]) S (mm_X10_init (l := l) (G := G) (fE := fE) (lE := lE) hf) (⟨callB_of 1 S.2.2.2.2 (lw_meth q1681) rfl rfl rfl (S.2.2.2.2 _ q204) (S.2.2.2.2 _ q1679) hd_X10_init hR, rfl, S.2.2.2.2 _ q1680⟩) (bPreS hS hB) rfl rfl hsz rfl (lv_room hW) hdg hcs) hB kk
theorem hd_X11_ends : yX11_ends.cls = RX11 ∧ yX11_ends.cls ≠ "java/lang/invoke/MethodHandle" ∧ yX11_ends.cls ≠ "java/lang/invoke/VarHandle" ∧ (parseMethodDescriptor yX11_ends.desc).map (fun d => d.parameters.length) = some 1 := by decide +kernel
set_option maxHeartbeats 4000000 in
set_option maxRecDepth 100000 in
theorem mm_X11_ends {o : Nat} {a0 : Int32} {out : Unit × AH × Nat × Nat} (hf : f_X11_ends E h nx o a0 = some out) : Met l yX11_ends (ws_ yX11_ends cX11_ends 2 none) (rC (fE + 1) (lE + 120) out.2.2.1 out.2.2.2) (bPc G E.1 hSites h nx [.ref o, .int a0]) (bQ G none True out.2.1 (nx + out.2.2.1) (AA h nx)) out.2.2.1 out.2.2.2 (AA h nx) := by
  refine bGo (by decide +kernel) (Nat.le_of_ble_eq_true rfl) (fun p e s m below meth c ls S hr hlocks hin hnm hS hB hl => ?_)
  have S : CallFix p m c cX11_ends 2 s _ lw_all RX11 := S
  obtain ⟨hx, hb, hml, hown, hts⟩ := id S
  have hl : lv_has ls 2 [(0, .ref o), (1, .int a0)] := hl
  have hT : TL out out 0 0 := TL_0
  rw [f_X11_ends] at hf
  refine lv_iload_n hx hb dX11_ends_0 rfl (lv_at hl 1 rfl) ?_
  refine lv_aload_n hx hb dX11_ends_1 rfl (lv_at hl 0 rfl) ?_
  obtain ⟨v1, hv1, hf⟩ := ob_s hf
  refine bg_X11_53 S hS hB (vI_s hv1) dX11_ends_2 ?_
  refine lv_icmp_gt (tgt := 9) hx hb dX11_ends_5 (by decide) (fun c2 => ?_) (fun c2 => ?_)
  · replace hf := it_t c2 hf
    refine lv_aload_n hx hb dX11_ends_9 rfl (lv_at hl 0 rfl) ?_
    refine lv_iload_n hx hb dX11_ends_10 rfl (lv_at hl 1 rfl) ?_
    obtain ⟨h3, hh3, hf⟩ := ob_s hf
    refine bp_X11_53 S hS hB hh3 dX11_ends_11 (fun H locs hB => ?_)
    refine lv_aload_n hx hb dX11_ends_14 rfl (lv_at hl 0 rfl) ?_
    refine lv_aload_n hx hb dX11_ends_15 rfl (lv_at hl 0 rfl) ?_
    obtain ⟨v4, hv4, hf⟩ := ob_s hf
    refine bg_X11_22 S hS hB (vI_s hv4) dX11_ends_16 ?_
    obtain ⟨h5, hh5, hf⟩ := ob_s hf
    refine bp_X11_26 S hS hB hh5 dX11_ends_19 (fun H locs hB => ?_)
    refine lv_aload_n hx hb dX11_ends_22 rfl (lv_at hl 0 rfl) ?_
    obtain ⟨v6, hv6, hf⟩ := ob_s hf
    refine bg_X11_15 S hS hB (vR_s hv6) dX11_ends_23 ?_
    refine lv_iconst hx hb dX11_ends_26 kc_i0 ?_
    refine lv_aload_n hx hb dX11_ends_27 rfl (lv_at hl 0 rfl) ?_
    obtain ⟨v7, hv7, hf⟩ := ob_s hf
    refine bg_X11_19 S hS hB (vR_s hv7) dX11_ends_28 ?_
    refine lv_iconst hx hb dX11_ends_31 kc_i0 ?_
    refine lv_iload_n hx hb dX11_ends_32 rfl (lv_at hl 1 rfl) ?_
    obtain ⟨h8, hh8, hf⟩ := ob_s hf
    refine b_copyI S hS.1 hB (by rw [hml]; exact hl.1.symm) (hts _ q1741) (hts _ q257) (hts _ q256) (hts _ q179) 0 rfl rfl hh8 (by show _ ≤ (fE + 1); omega) (by show _ ≤ (lE + 120); simp only [List.map, List.sum_cons, List.sum_nil, Value.category]; exact Nat.le_trans (Nat.le_of_ble_eq_true rfl : _ ≤ 120) (by omega)) dX11_ends_33 (fun H locs hB => ?_)
    have hE9 := TL_e hT hf
    subst hE9
    exact bt_v S hr hlocks hB (by omega) trivial dX11_ends_36
  · replace hf := it_f c2 hf
    have hE9 := TL_e hT hf
    subst hE9
    exact bt_v S hr hlocks hB (by omega) trivial dX11_ends_8
set_option maxRecDepth 100000 in
theorem mc_X11_72 {o : Nat} {a0 : Int32} {out : Unit × AH × Nat × Nat} (S : CallFix p m c cc nL s args lw_all RX11) (hS : SK G E.1 hSites A s) (hB : BI G A s.heap h nx H locs) (ho : isO h o 10 = true) (hf : f_X11_ends E h nx o a0 = some out) (hsz : ls.size = nL) (hR : (fE + 1) + 1 ≤ R.frames ∧ 8 + (2 + 11) + (lE + 120) ≤ R.locals) (hW : (rest.map fun v => v.category).sum ≤ 8) (hcs : cells + out.2.2.1 ≤ R.cells ∧ slots + out.2.2.2 ≤ R.slots) (hdg : decode cc pc = .ok (.invokevirtual 72, 3))  (kk : ∀ (H1 : Heap) (locs1 : List Loc), True → BI G A s.heap out.2.1 (nx + out.2.2.1) H1 locs1 → W p l e R s m args below meth c H1 locs1 (cells + out.2.2.1) (slots + out.2.2.2) Q (F0 m (pc + 3) ls (rest))) : W p l e R s m args below meth c H locs cells slots Q (F0 m pc ls (.int a0 :: .ref o :: rest)) := by
  have hN := hS.2.1
  obtain ⟨fs, he⟩ := isO_s ho
  exact br_v (va_runV (As := [.int a0]) S (mm_X11_ends (l := l) (G := G) (fE := fE) (lE := lE) hf) (cwV 1 S.2.2.2.2 (lw_V q1743 q1745 qs86 q205 q1746) rfl rfl rfl hd_X11_ends hR) (bPreV hS hB (ci := 10) rfl he) rfl rfl hsz rfl (lv_room hW) hdg hcs) hB kk
theorem hd_X11_goes : yX11_goes.cls = RX11 ∧ yX11_goes.cls ≠ "java/lang/invoke/MethodHandle" ∧ yX11_goes.cls ≠ "java/lang/invoke/VarHandle" ∧ (parseMethodDescriptor yX11_goes.desc).map (fun d => d.parameters.length) = some 3 := by decide +kernel
set_option maxRecDepth 100000 in
theorem mr_X11_49 {o : Nat} {a0 : Int32} {a1 : Int32} {a2 : Int32} {out : Unit × AH × Nat × Nat} {F Lo : Nat} (hM : Met l yX11_goes (ws_ yX11_goes cX11_goes 5 none) (rC F Lo out.2.2.1 out.2.2.2) (bPc G E.1 hSites h nx [.ref o, .int a0, .int a1, .int a2]) (bQ G none True out.2.1 (nx + out.2.2.1) (AA h nx)) out.2.2.1 out.2.2.2 (AA h nx)) (S : CallFix p m c cc nL s args lw_all RX11) (hS : SK G E.1 hSites A s) (hB : BI G A s.heap h nx H locs) (ho : isO h o 10 = true) (hsz : ls.size = nL) (hR : F + 1 ≤ R.frames ∧ 8 + (5 + 11) + Lo ≤ R.locals) (hW : (rest.map fun v => v.category).sum ≤ 8) (hcs : cells + out.2.2.1 ≤ R.cells ∧ slots + out.2.2.2 ≤ R.slots) (hdg : decode cc pc = .ok (.invokevirtual 49, 3))  (kk : ∀ (H1 : Heap) (locs1 : List Loc), True → BI G A s.heap out.2.1 (nx + out.2.2.1) H1 locs1 → W p l e R s m args below meth c H1 locs1 (cells + out.2.2.1) (slots + out.2.2.2) Q (F0 m (pc + 3) ls (rest))) : W p l e R s m args below meth c H locs cells slots Q (F0 m pc ls (.int a2 :: .int a1 :: .int a0 :: .ref o :: rest)) := by
  have hN := hS.2.1
  obtain ⟨fs, he⟩ := isO_s ho
  exact br_v (va_runV (As := [.int a0, .int a1, .int a2]) S hM (cwV 3 S.2.2.2.2 (lw_V q1737 q1739 qs85 q205 q1740) rfl rfl rfl hd_X11_goes hR) (bPreV hS hB (ci := 10) rfl he) rfl rfl hsz rfl (lv_room hW) hdg hcs) hB kk
set_option maxHeartbeats 4000000 in
set_option maxRecDepth 100000 in
theorem mm_X11_goes : ∀ (dp : Nat) {h : AH} {nx : Nat} {o : Nat} {a0 : Int32} {a1 : Int32} {a2 : Int32} {out : Unit × AH × Nat × Nat}, f_X11_goes dp E h nx o a0 a1 a2 = some out → Met l yX11_goes (ws_ yX11_goes cX11_goes 5 none) (rC (fE + 6 * dp) (lE + 141 * dp) out.2.2.1 out.2.2.2) (bPc G E.1 hSites h nx [.ref o, .int a0, .int a1, .int a2]) (bQ G none True out.2.1 (nx + out.2.2.1) (AA h nx)) out.2.2.1 out.2.2.2 (AA h nx) := by
  intro dp
  induction dp with
  | zero =>
    intro h nx o a0 a1 a2 out hf
    exact absurd hf (by rw [f_X11_goes]; exact nofun)
  | succ dp ih =>
    intro h nx o a0 a1 a2 out hf
    rw [f_X11_goes] at hf
    generalize hs0 : f_X11_goes dp E = self at ih hf
    refine bGo (by decide +kernel) (Nat.le_of_ble_eq_true rfl) (fun p e s m below meth c ls S hr hlocks hin hnm hS hB hl => ?_)
    have S : CallFix p m c cX11_goes 5 s _ lw_all RX11 := S
    obtain ⟨hx, hb, hml, hown, hts⟩ := id S
    have hl : lv_has ls 5 [(0, .ref o), (1, .int a0), (2, .int a1), (3, .int a2)] := hl
    have ihR := @ih
    have w38 : ∀ (n : Nat) , ∀ (x0 : Nat) (x1 : Int32) (x2 : Int32) (x3 : Int32) (x4 : Int32) (hc : AH) (nc : Nat) (ls : Array Slot) (H : Heap) (locs : List Loc) (ce sl : Nat) (o1 : Unit × AH × Nat × Nat), BI G (AA h nx) s.heap hc nc H locs → nc = nx + ce → TL out o1 ce sl → lv_has ls 5 [(0, .ref x0), (1, .int x1), (2, .int x2), (3, .int x3), (4, .int x4)] → f_X11_goes_38 n E self x0 x1 x2 x3 x4 hc nc = some o1 → W p l e (rC (fE + 6 * (dp + 1)) (lE + 141 * (dp + 1)) out.2.2.1 out.2.2.2) s m ([.ref o, .int a0, .int a1, .int a2] : List Value).toArray below meth c H locs ce sl (MQ below (bQ G none True out.2.1 (nx + out.2.2.1) (AA h nx)) ([.ref o, .int a0, .int a1, .int a2] : List Value).toArray s out.2.2.1 out.2.2.2 (AA h nx)) (F0 m 38 ls []) := by
      intro n
      induction n with
      | zero =>
        intro x0 x1 x2 x3 x4 hc nc ls H locs ce sl o1 hB hn hT hl hf
        exact absurd hf (by rw [f_X11_goes_38]; exact nofun)
      | succ n ih =>
        intro x0 x1 x2 x3 x4 hc nc ls H locs ce sl o1 hB hn hT hl hf
        rw [f_X11_goes_38] at hf
        refine lv_iload hx hb dX11_goes_38 (lv_at hl 4 rfl) ?_
        refine lv_aload_n hx hb dX11_goes_40 rfl (lv_at hl 0 rfl) ?_
        obtain ⟨v1, hv1, hf⟩ := ob_s hf
        refine bg_X11_3 S hS hB (vR_s hv1) dX11_goes_41 ?_
        obtain ⟨v2, hv2, hf⟩ := ob_s hf
        refine bg_X11_62 S hS hB (vR_s hv2) dX11_goes_44 ?_
        obtain ⟨g3, hf⟩ := gd_t hf
        obtain ⟨v4, hv4, hf⟩ := ob_s hf
        refine mc_X11_33 (fE := fE) (lE := lE) S hS hB g3 hv4 hl.1 ⟨(by show _ ≤ (fE + 6 * (dp + 1)); omega), (by show _ ≤ (lE + 141 * (dp + 1)); omega)⟩ (Nat.le_of_ble_eq_true rfl) ⟨(TL_m hT).1, (TL_m hT).2⟩ dX11_goes_47 (fun _ => ?_)
        refine lv_icmp_ge (tgt := 148) hx hb dX11_goes_50 (by decide) (fun c5 => ?_) (fun c5 => ?_)
        · replace hf := it_t c5 hf
          have hE9 := TL_e hT hf
          subst hE9
          exact bt_v S hr hlocks hB (by omega) trivial dX11_goes_148
        · replace hf := it_f c5 hf
          refine lv_iload_n hx hb dX11_goes_53 rfl (lv_at hl 2 rfl) ?_
          refine lv_iload hx hb dX11_goes_54 (lv_at hl 4 rfl) ?_
          refine lv_ishr hx hb dX11_goes_56 ?_
          refine lv_iconst hx hb dX11_goes_57 kc_i1 ?_
          refine lv_iand hx hb dX11_goes_58 ?_
          refine lv_iconst hx hb dX11_goes_59 kc_i1 ?_
          refine lv_icmp_eq (tgt := 142) hx hb dX11_goes_60 (by decide) (fun c6 => ?_) (fun c6 => ?_)
          · replace hf := it_t c6 hf
            refine lv_iinc (v := (x4 + 1)) (lv' := [(4, .int (x4 + 1)), (0, .ref x0), (1, .int x1), (2, .int x2), (3, .int x3)]) hx hb dX11_goes_142 hl (k := 4) rfl rfl (by decide) rfl (fun ls hl => ?_)
            refine lv_goto (tgt := 38) hx hb dX11_goes_145 (by decide) ?_
            exact (ih) x0 x1 x2 x3 (x4 + 1) hc nc ls H locs ce sl o1 hB (by omega) hT (lv_sub (l' := [(0, .ref x0), (1, .int x1), (2, .int x2), (3, .int x3), (4, .int (x4 + 1))]) hl [1, 2, 3, 4, 0] rfl) hf
          · replace hf := it_f c6 hf
            refine lv_aload_n hx hb dX11_goes_63 rfl (lv_at hl 0 rfl) ?_
            obtain ⟨v7, hv7, hf⟩ := ob_s hf
            refine bg_X11_3 S hS hB (vR_s hv7) dX11_goes_64 ?_
            obtain ⟨v8, hv8, hf⟩ := ob_s hf
            refine bg_X11_39 S hS hB (vR_s hv8) dX11_goes_67 ?_
            refine lv_iload hx hb dX11_goes_70 (lv_at hl 4 rfl) ?_
            refine lv_iload_n hx hb dX11_goes_72 rfl (lv_at hl 1 rfl) ?_
            obtain ⟨g9, hf⟩ := gd_t hf
            obtain ⟨v10, hv10, hf⟩ := ob_s hf
            refine mc_X11_65 (fE := fE) (lE := lE) S hS hB g9 hv10 hl.1 ⟨(by show _ ≤ (fE + 6 * (dp + 1)); omega), (by show _ ≤ (lE + 141 * (dp + 1)); omega)⟩ (Nat.le_of_ble_eq_true rfl) ⟨(TL_m hT).1, (TL_m hT).2⟩ dX11_goes_73 (fun hnv10 => ?_)
            refine lv_if_ne (tgt := 82) hx hb dX11_goes_76 (by decide) (fun c11 => ?_) (fun c11 => ?_)
            · replace hf := it_f c11 hf
              refine lv_aload_n hx hb dX11_goes_82 rfl (lv_at hl 0 rfl) ?_
              obtain ⟨v12, hv12, hf⟩ := ob_s hf
              refine bg_X11_15 S hS hB (vR_s hv12) dX11_goes_83 ?_
              refine lv_iload_n hx hb dX11_goes_86 rfl (lv_at hl 3 rfl) ?_
              refine lv_iload hx hb dX11_goes_87 (lv_at hl 4 rfl) ?_
              obtain ⟨h13, hh13, hf⟩ := ob_s hf
              refine b_iast S hS.1 hB hh13 dX11_goes_89 (fun H locs hB => ?_)
              refine lv_aload_n hx hb dX11_goes_90 rfl (lv_at hl 0 rfl) ?_
              obtain ⟨v14, hv14, hf⟩ := ob_s hf
              refine bg_X11_3 S hS hB (vR_s hv14) dX11_goes_91 ?_
              obtain ⟨v15, hv15, hf⟩ := ob_s hf
              refine bg_X11_39 S hS hB (vR_s hv15) dX11_goes_94 ?_
              obtain ⟨v16, hv16, hf⟩ := ob_s hf
              refine bg_X11_69 S hS hB (vR_s hv16) dX11_goes_97 ?_
              refine lv_iload hx hb dX11_goes_100 (lv_at hl 4 rfl) ?_
              obtain ⟨v17, hv17, hf⟩ := ob_s hf
              refine b_iald S hS.1 hB hv17 dX11_goes_102 ?_
              refine lv_if_lt (tgt := 135) hx hb dX11_goes_103 (by decide) (fun c18 => ?_) (fun c18 => ?_)
              · replace hf := it_t c18 hf
                refine lv_aload_n hx hb dX11_goes_135 rfl (lv_at hl 0 rfl) ?_
                refine lv_iload_n hx hb dX11_goes_136 rfl (lv_at hl 3 rfl) ?_
                refine lv_iconst hx hb dX11_goes_137 kc_i1 ?_
                refine lv_iadd hx hb dX11_goes_138 ?_
                obtain ⟨g19, hf⟩ := gd_t hf
                obtain ⟨v20, hv20, hf⟩ := ob_s hf
                obtain ⟨o21, hf, hT⟩ := TL_c hT hf
                refine mc_X11_72 (fE := fE) (lE := lE) S hS hB g19 hv20 hl.1 ⟨(by show _ ≤ (fE + 6 * (dp + 1)); omega), (by show _ ≤ (lE + 141 * (dp + 1)); omega)⟩ (Nat.le_of_ble_eq_true rfl) ⟨(TL_m hT).1, (TL_m hT).2⟩ dX11_goes_139 (fun H locs _ hB => ?_)
                refine lv_iinc (v := (x4 + 1)) (lv' := [(4, .int (x4 + 1)), (0, .ref x0), (1, .int x1), (2, .int x2), (3, .int x3)]) hx hb dX11_goes_142 hl (k := 4) rfl rfl (by decide) rfl (fun ls hl => ?_)
                refine lv_goto (tgt := 38) hx hb dX11_goes_145 (by decide) ?_
                exact (ih) x0 x1 x2 x3 (x4 + 1) v20.2.1 (nc + v20.2.2.1) ls H locs (ce + v20.2.2.1) (sl + v20.2.2.2) o21 hB (by omega) hT (lv_sub (l' := [(0, .ref x0), (1, .int x1), (2, .int x2), (3, .int x3), (4, .int (x4 + 1))]) hl [1, 2, 3, 4, 0] rfl) hf
              · replace hf := it_f c18 hf
                refine lv_aload_n hx hb dX11_goes_106 rfl (lv_at hl 0 rfl) ?_
                refine lv_aload_n hx hb dX11_goes_107 rfl (lv_at hl 0 rfl) ?_
                obtain ⟨v22, hv22, hf⟩ := ob_s hf
                refine bg_X11_3 S hS hB (vR_s hv22) dX11_goes_108 ?_
                obtain ⟨v23, hv23, hf⟩ := ob_s hf
                refine bg_X11_39 S hS hB (vR_s hv23) dX11_goes_111 ?_
                obtain ⟨v24, hv24, hf⟩ := ob_s hf
                refine bg_X11_69 S hS hB (vR_s hv24) dX11_goes_114 ?_
                refine lv_iload hx hb dX11_goes_117 (lv_at hl 4 rfl) ?_
                obtain ⟨v25, hv25, hf⟩ := ob_s hf
                refine b_iald S hS.1 hB hv25 dX11_goes_119 ?_
                refine lv_iload_n hx hb dX11_goes_120 rfl (lv_at hl 2 rfl) ?_
                refine lv_iconst hx hb dX11_goes_121 kc_i1 ?_
                refine lv_iload hx hb dX11_goes_122 (lv_at hl 4 rfl) ?_
                refine lv_ishl hx hb dX11_goes_124 ?_
                refine lv_ior hx hb dX11_goes_125 ?_
                refine lv_iload_n hx hb dX11_goes_126 rfl (lv_at hl 3 rfl) ?_
                refine lv_iconst hx hb dX11_goes_127 kc_i1 ?_
                refine lv_iadd hx hb dX11_goes_128 ?_
                obtain ⟨g26, hf⟩ := gd_t hf
                obtain ⟨v27, hv27, hf⟩ := ob_s hf
                obtain ⟨o28, hf, hT⟩ := TL_c hT hf
                refine mr_X11_49 (ihR hv27) S hS hB g26 hl.1 ⟨(by show _ ≤ (fE + 6 * (dp + 1)); omega), (by show _ ≤ (lE + 141 * (dp + 1)); omega)⟩ (Nat.le_of_ble_eq_true rfl) ⟨(TL_m hT).1, (TL_m hT).2⟩ dX11_goes_129 (fun H locs _ hB => ?_)
                refine lv_goto (tgt := 142) hx hb dX11_goes_132 (by decide) ?_
                refine lv_iinc (v := (x4 + 1)) (lv' := [(4, .int (x4 + 1)), (0, .ref x0), (1, .int x1), (2, .int x2), (3, .int x3)]) hx hb dX11_goes_142 hl (k := 4) rfl rfl (by decide) rfl (fun ls hl => ?_)
                refine lv_goto (tgt := 38) hx hb dX11_goes_145 (by decide) ?_
                exact (ih) x0 x1 x2 x3 (x4 + 1) v27.2.1 (nc + v27.2.2.1) ls H locs (ce + v27.2.2.1) (sl + v27.2.2.2) o28 hB (by omega) hT (lv_sub (l' := [(0, .ref x0), (1, .int x1), (2, .int x2), (3, .int x3), (4, .int (x4 + 1))]) hl [1, 2, 3, 4, 0] rfl) hf
            · replace hf := it_t c11 hf
              refine lv_goto (tgt := 142) hx hb dX11_goes_79 (by decide) ?_
              refine lv_iinc (v := (x4 + 1)) (lv' := [(4, .int (x4 + 1)), (0, .ref x0), (1, .int x1), (2, .int x2), (3, .int x3)]) hx hb dX11_goes_142 hl (k := 4) rfl rfl (by decide) rfl (fun ls hl => ?_)
              refine lv_goto (tgt := 38) hx hb dX11_goes_145 (by decide) ?_
              exact (ih) x0 x1 x2 x3 (x4 + 1) hc nc ls H locs ce sl o1 hB (by omega) hT (lv_sub (l' := [(0, .ref x0), (1, .int x1), (2, .int x2), (3, .int x3), (4, .int (x4 + 1))]) hl [1, 2, 3, 4, 0] rfl) hf
    have hT : TL out out 0 0 := TL_0
    refine lv_iload_n hx hb dX11_goes_0 rfl (lv_at hl 3 rfl) ?_
    refine lv_aload_n hx hb dX11_goes_1 rfl (lv_at hl 0 rfl) ?_
    obtain ⟨v1, hv1, hf⟩ := ob_s hf
    refine bg_X11_53 S hS hB (vI_s hv1) dX11_goes_2 ?_
    refine lv_icmp_le (tgt := 35) hx hb dX11_goes_5 (by decide) (fun c2 => ?_) (fun c2 => ?_)
    · replace hf := it_t c2 hf
      refine lv_iconst hx hb dX11_goes_35 kc_i0 ?_
      refine lv_istore (lv' := [(4, .int 0), (0, .ref o), (1, .int a0), (2, .int a1), (3, .int a2)]) hx hb dX11_goes_36 hl (by decide) rfl (fun ls hl => ?_)
      exact (w38 FU) o a0 a1 a2 0 h nx ls s.heap [] 0 0 out hB (by omega) hT (lv_sub (l' := [(0, .ref o), (1, .int a0), (2, .int a1), (3, .int a2), (4, .int 0)]) hl [1, 2, 3, 4, 0] rfl) hf
    · replace hf := it_f c2 hf
      refine lv_aload_n hx hb dX11_goes_8 rfl (lv_at hl 0 rfl) ?_
      refine lv_iload_n hx hb dX11_goes_9 rfl (lv_at hl 3 rfl) ?_
      obtain ⟨h3, hh3, hf⟩ := ob_s hf
      refine bp_X11_53 S hS hB hh3 dX11_goes_10 (fun H locs hB => ?_)
      refine lv_aload_n hx hb dX11_goes_13 rfl (lv_at hl 0 rfl) ?_
      refine lv_aload_n hx hb dX11_goes_14 rfl (lv_at hl 0 rfl) ?_
      obtain ⟨v4, hv4, hf⟩ := ob_s hf
      refine bg_X11_22 S hS hB (vI_s hv4) dX11_goes_15 ?_
      obtain ⟨h5, hh5, hf⟩ := ob_s hf
      refine bp_X11_26 S hS hB hh5 dX11_goes_18 (fun H locs hB => ?_)
      refine lv_aload_n hx hb dX11_goes_21 rfl (lv_at hl 0 rfl) ?_
      obtain ⟨v6, hv6, hf⟩ := ob_s hf
      refine bg_X11_15 S hS hB (vR_s hv6) dX11_goes_22 ?_
      refine lv_iconst hx hb dX11_goes_25 kc_i0 ?_
      refine lv_aload_n hx hb dX11_goes_26 rfl (lv_at hl 0 rfl) ?_
      obtain ⟨v7, hv7, hf⟩ := ob_s hf
      refine bg_X11_19 S hS hB (vR_s hv7) dX11_goes_27 ?_
      refine lv_iconst hx hb dX11_goes_30 kc_i0 ?_
      refine lv_iload_n hx hb dX11_goes_31 rfl (lv_at hl 3 rfl) ?_
      obtain ⟨h8, hh8, hf⟩ := ob_s hf
      refine b_copyI S hS.1 hB (by rw [hml]; exact hl.1.symm) (hts _ q1741) (hts _ q257) (hts _ q256) (hts _ q179) 0 rfl rfl hh8 (by show _ ≤ (fE + 6 * (dp + 1)); omega) (by show _ ≤ (lE + 141 * (dp + 1)); simp only [List.map, List.sum_cons, List.sum_nil, Value.category]; exact Nat.le_trans (Nat.le_of_ble_eq_true rfl : _ ≤ 120) (by omega)) dX11_goes_32 (fun H locs hB => ?_)
      refine lv_iconst hx hb dX11_goes_35 kc_i0 ?_
      refine lv_istore (lv' := [(4, .int 0), (0, .ref o), (1, .int a0), (2, .int a1), (3, .int a2)]) hx hb dX11_goes_36 hl (by decide) rfl (fun ls hl => ?_)
      exact (w38 FU) o a0 a1 a2 0 h8 nx ls H locs 0 0 out hB (by omega) hT (lv_sub (l' := [(0, .ref o), (1, .int a0), (2, .int a1), (3, .int a2), (4, .int 0)]) hl [1, 2, 3, 4, 0] rfl) hf
set_option maxRecDepth 100000 in
theorem mc_X11_49 {o : Nat} {a0 : Int32} {a1 : Int32} {a2 : Int32} {out : Unit × AH × Nat × Nat} (S : CallFix p m c cc nL s args lw_all RX11) (hS : SK G E.1 hSites A s) (hB : BI G A s.heap h nx H locs) (ho : isO h o 10 = true) (hf : f_X11_goes 12 E h nx o a0 a1 a2 = some out) (hsz : ls.size = nL) (hR : (fE + 72) + 1 ≤ R.frames ∧ 8 + (5 + 11) + (lE + 1692) ≤ R.locals) (hW : (rest.map fun v => v.category).sum ≤ 8) (hcs : cells + out.2.2.1 ≤ R.cells ∧ slots + out.2.2.2 ≤ R.slots) (hdg : decode cc pc = .ok (.invokevirtual 49, 3))  (kk : ∀ (H1 : Heap) (locs1 : List Loc), True → BI G A s.heap out.2.1 (nx + out.2.2.1) H1 locs1 → W p l e R s m args below meth c H1 locs1 (cells + out.2.2.1) (slots + out.2.2.2) Q (F0 m (pc + 3) ls (rest))) : W p l e R s m args below meth c H locs cells slots Q (F0 m pc ls (.int a2 :: .int a1 :: .int a0 :: .ref o :: rest)) := by
  have hN := hS.2.1
  obtain ⟨fs, he⟩ := isO_s ho
  exact br_v (va_runV (As := [.int a0, .int a1, .int a2]) S (mm_X11_goes (l := l) (G := G) (fE := fE) (lE := lE) 12 (nx := nx) hf) (cwV 3 S.2.2.2.2 (lw_V q1737 q1739 qs85 q205 q1740) rfl rfl rfl hd_X11_goes hR) (bPreV hS hB (ci := 10) rfl he) rfl rfl hsz rfl (lv_room hW) hdg hcs) hB kk
theorem hd_X11_init : yX11_init.cls ≠ "java/lang/invoke/MethodHandle" ∧ yX11_init.cls ≠ "java/lang/invoke/VarHandle" ∧ (parseMethodDescriptor yX11_init.desc).map (fun d => d.parameters.length) = some 1 := by decide +kernel
set_option maxHeartbeats 4000000 in
set_option maxRecDepth 100000 in
theorem mm_X11_init {o : Nat} {a0 : Nat} {out : Unit × AH × Nat × Nat} (hf : f_X11_init E h nx o a0 = some out) : Met l yX11_init (ws_ yX11_init cX11_init 3 none) (rC (fE + 73) (lE + 1716) out.2.2.1 out.2.2.2) (bPc G E.1 hSites h nx [.ref o, .ref a0]) (bQ G none True out.2.1 (nx + out.2.2.1) (AA h nx)) out.2.2.1 out.2.2.2 (AA h nx) := by
  refine bGo (by decide +kernel) (Nat.le_of_ble_eq_true rfl) (fun p e s m below meth c ls S hr hlocks hin hnm hS hB hl => ?_)
  have S : CallFix p m c cX11_init 3 s _ lw_all RX11 := S
  obtain ⟨hx, hb, hml, hown, hts⟩ := id S
  have hl : lv_has ls 3 [(0, .ref o), (1, .ref a0)] := hl
  have w37 : ∀ (n : Nat) , ∀ (x0 : Nat) (x1 : Nat) (x2 : Int32) (hc : AH) (nc : Nat) (ls : Array Slot) (H : Heap) (locs : List Loc) (ce sl : Nat) (o1 : Unit × AH × Nat × Nat), BI G (AA h nx) s.heap hc nc H locs → nc = nx + ce → TL out o1 ce sl → lv_has ls 3 [(0, .ref x0), (1, .ref x1), (2, .int x2)] → f_X11_init_37 n E x0 x1 x2 hc nc = some o1 → W p l e (rC (fE + 73) (lE + 1716) out.2.2.1 out.2.2.2) s m ([.ref o, .ref a0] : List Value).toArray below meth c H locs ce sl (MQ below (bQ G none True out.2.1 (nx + out.2.2.1) (AA h nx)) ([.ref o, .ref a0] : List Value).toArray s out.2.2.1 out.2.2.2 (AA h nx)) (F0 m 37 ls []) := by
    intro n
    induction n with
    | zero =>
      intro x0 x1 x2 hc nc ls H locs ce sl o1 hB hn hT hl hf
      exact absurd hf (by rw [f_X11_init_37]; exact nofun)
    | succ n ih =>
      intro x0 x1 x2 hc nc ls H locs ce sl o1 hB hn hT hl hf
      rw [f_X11_init_37] at hf
      refine lv_iload_n hx hb dX11_init_37 rfl (lv_at hl 2 rfl) ?_
      refine lv_aload_n hx hb dX11_init_38 rfl (lv_at hl 1 rfl) ?_
      obtain ⟨v1, hv1, hf⟩ := ob_s hf
      refine bg_X11_29 S hS hB (vR_s hv1) dX11_init_39 ?_
      obtain ⟨g2, hf⟩ := gd_t hf
      obtain ⟨v3, hv3, hf⟩ := ob_s hf
      refine mc_X11_33 (fE := fE) (lE := lE) S hS hB g2 hv3 hl.1 ⟨(by show _ ≤ (fE + 73); omega), (by show _ ≤ (lE + 1716); omega)⟩ (Nat.le_of_ble_eq_true rfl) ⟨(TL_m hT).1, (TL_m hT).2⟩ dX11_init_42 (fun _ => ?_)
      refine lv_icmp_ge (tgt := 77) hx hb dX11_init_45 (by decide) (fun c4 => ?_) (fun c4 => ?_)
      · replace hf := it_t c4 hf
        have hE9 := TL_e hT hf
        subst hE9
        exact bt_v S hr hlocks hB (by omega) trivial dX11_init_77
      · replace hf := it_f c4 hf
        refine lv_aload_n hx hb dX11_init_48 rfl (lv_at hl 0 rfl) ?_
        refine lv_iload_n hx hb dX11_init_49 rfl (lv_at hl 2 rfl) ?_
        obtain ⟨h5, hh5, hf⟩ := ob_s hf
        refine bp_X11_22 S hS hB hh5 dX11_init_50 (fun H locs hB => ?_)
        refine lv_aload_n hx hb dX11_init_53 rfl (lv_at hl 1 rfl) ?_
        obtain ⟨v6, hv6, hf⟩ := ob_s hf
        refine bg_X11_39 S hS hB (vR_s hv6) dX11_init_54 ?_
        refine lv_iload_n hx hb dX11_init_57 rfl (lv_at hl 2 rfl) ?_
        obtain ⟨g7, hf⟩ := gd_t hf
        obtain ⟨v8, hv8, hf⟩ := ob_s hf
        refine mc_X11_43 (fE := fE) (lE := lE) S hS hB g7 hv8 hl.1 ⟨(by show _ ≤ (fE + 73); omega), (by show _ ≤ (lE + 1716); omega)⟩ (Nat.le_of_ble_eq_true rfl) ⟨(TL_m hT).1, (TL_m hT).2⟩ dX11_init_58 (fun hnv8 => ?_)
        refine lv_if_eq (tgt := 71) hx hb dX11_init_61 (by decide) (fun c9 => ?_) (fun c9 => ?_)
        · replace hf := it_t c9 hf
          refine lv_iinc (v := (x2 + 1)) (lv' := [(2, .int (x2 + 1)), (0, .ref x0), (1, .ref x1)]) hx hb dX11_init_71 hl (k := 2) rfl rfl (by decide) rfl (fun ls hl => ?_)
          refine lv_goto (tgt := 37) hx hb dX11_init_74 (by decide) ?_
          exact (ih) x0 x1 (x2 + 1) h5 nc ls H locs ce sl o1 hB (by omega) hT (lv_sub (l' := [(0, .ref x0), (1, .ref x1), (2, .int (x2 + 1))]) hl [1, 2, 0] rfl) hf
        · replace hf := it_f c9 hf
          refine lv_aload_n hx hb dX11_init_64 rfl (lv_at hl 0 rfl) ?_
          refine lv_iload_n hx hb dX11_init_65 rfl (lv_at hl 2 rfl) ?_
          refine lv_iconst hx hb dX11_init_66 kc_i0 ?_
          refine lv_iconst hx hb dX11_init_67 kc_i0 ?_
          obtain ⟨g10, hf⟩ := gd_t hf
          obtain ⟨v11, hv11, hf⟩ := ob_s hf
          obtain ⟨o12, hf, hT⟩ := TL_c hT hf
          refine mc_X11_49 (fE := fE) (lE := lE) S hS hB g10 hv11 hl.1 ⟨(by show _ ≤ (fE + 73); omega), (by show _ ≤ (lE + 1716); omega)⟩ (Nat.le_of_ble_eq_true rfl) ⟨(TL_m hT).1, (TL_m hT).2⟩ dX11_init_68 (fun H locs _ hB => ?_)
          refine lv_iinc (v := (x2 + 1)) (lv' := [(2, .int (x2 + 1)), (0, .ref x0), (1, .ref x1)]) hx hb dX11_init_71 hl (k := 2) rfl rfl (by decide) rfl (fun ls hl => ?_)
          refine lv_goto (tgt := 37) hx hb dX11_init_74 (by decide) ?_
          exact (ih) x0 x1 (x2 + 1) v11.2.1 (nc + v11.2.2.1) ls H locs (ce + v11.2.2.1) (sl + v11.2.2.2) o12 hB (by omega) hT (lv_sub (l' := [(0, .ref x0), (1, .ref x1), (2, .int (x2 + 1))]) hl [1, 2, 0] rfl) hf
  have hT : TL out out 0 0 := TL_0
  rw [f_X11_init] at hf
  refine lv_aload_n hx hb dX11_init_0 rfl (lv_at hl 0 rfl) ?_
  refine lv_aload_n hx hb dX11_init_1 rfl (lv_at hl 1 rfl) ?_
  obtain ⟨h1, hh1, hf⟩ := ob_s hf
  refine bp_X11_3 S hS hB hin hh1 dX11_init_2 (fun H locs hB => ?_)
  refine lv_aload_n hx hb dX11_init_5 rfl (lv_at hl 0 rfl) ?_
  refine W.objInit hx hb hown (hts _ q1734) (hts _ q212) (hts _ q213) rfl (by rw [hml]; exact hl.1) rfl dX11_init_6 (by show _ ≤ (fE + 73); omega) (by show _ ≤ (lE + 1716); simp only [F0, JFrame.monitorRoom, List.map, List.sum_cons, List.sum_nil, Value.category]; omega) ?_
  refine W.eq (g2 := F0 m 9 ls []) rfl ?_
  refine lv_aload_n hx hb dX11_init_9 rfl (lv_at hl 0 rfl) ?_
  refine lv_bipush hx hb dX11_init_10 kc_b9 ?_
  obtain ⟨o2, hf, hT⟩ := TL_c hT hf
  refine b_newI S hS hB kn_9 kna_9 (TL_m hT).1 (TL_m hT).2 dX11_init_12 (fun H hB => ?_)
  obtain ⟨h3, hh3, hf⟩ := ob_s hf
  refine bp_X11_15 S hS hB hin hh3 dX11_init_14 (fun H locs hB => ?_)
  refine lv_aload_n hx hb dX11_init_17 rfl (lv_at hl 0 rfl) ?_
  refine lv_bipush hx hb dX11_init_18 kc_b9 ?_
  obtain ⟨o4, hf, hT⟩ := TL_c hT hf
  refine b_newI S hS hB kn_9 kna_9 (TL_m hT).1 (TL_m hT).2 dX11_init_20 (fun H hB => ?_)
  obtain ⟨h5, hh5, hf⟩ := ob_s hf
  refine bp_X11_19 S hS hB hin hh5 dX11_init_22 (fun H locs hB => ?_)
  refine lv_aload_n hx hb dX11_init_25 rfl (lv_at hl 0 rfl) ?_
  refine lv_iconst hx hb dX11_init_26 kc_im1 ?_
  obtain ⟨h6, hh6, hf⟩ := ob_s hf
  refine bp_X11_22 S hS hB hh6 dX11_init_27 (fun H locs hB => ?_)
  refine lv_aload_n hx hb dX11_init_30 rfl (lv_at hl 0 rfl) ?_
  refine lv_iconst hx hb dX11_init_31 kc_im1 ?_
  obtain ⟨h7, hh7, hf⟩ := ob_s hf
  refine bp_X11_26 S hS hB hh7 dX11_init_32 (fun H locs hB => ?_)
  refine lv_iconst hx hb dX11_init_35 kc_i0 ?_
  refine lv_istore_n (i := 2) (lv' := [(2, .int 0), (0, .ref o), (1, .ref a0)]) hx hb dX11_init_36 rfl hl (by decide) rfl (fun ls hl => ?_)
  exact (w37 FU) o a0 0 h7 ((nx + 1) + 1) ls H locs ((0 + 1) + 1) ((0 + 9) + 9) o4 hB (by omega) hT (lv_sub (l' := [(0, .ref o), (1, .ref a0), (2, .int 0)]) hl [1, 2, 0] rfl) hf
set_option maxRecDepth 100000 in
theorem mc_X1_524 {o : Nat} {a0 : Nat} {out : Unit × AH × Nat × Nat} (S : CallFix p m c cc nL s args lw_all RX1) (hS : SK G E.1 hSites A s) (hB : BI G A s.heap h nx H locs) (hf : f_X11_init E h nx o a0 = some out) (hsz : ls.size = nL) (hR : (fE + 73) + 1 ≤ R.frames ∧ 8 + (3 + 11) + (lE + 1716) ≤ R.locals) (hW : (rest.map fun v => v.category).sum ≤ 8) (hcs : cells + out.2.2.1 ≤ R.cells ∧ slots + out.2.2.2 ≤ R.slots) (hdg : decode cc pc = .ok (.invokespecial 524, 3))  (kk : ∀ (H1 : Heap) (locs1 : List Loc), True → BI G A s.heap out.2.1 (nx + out.2.2.1) H1 locs1 → W p l e R s m args below meth c H1 locs1 (cells + out.2.2.1) (slots + out.2.2.2) Q (F0 m (pc + 3) ls (rest))) : W p l e R s m args below meth c H locs cells slots Q (F0 m pc ls (.ref a0 :: .ref o :: rest)) := by
  have hN := hS.2.1
  exact br_v (va_runI (As := [.ref a0]) S (mm_X11_init (l := l) (G := G) (fE := fE) (lE := lE) hf) (⟨callB_of 1 S.2.2.2.2 (lw_meth q1733) rfl rfl rfl (S.2.2.2.2 _ q205) (S.2.2.2.2 _ q1731) hd_X11_init hR, rfl, S.2.2.2.2 _ q1732⟩) (bPreS hS hB) rfl rfl hsz rfl (lv_room hW) hdg hcs) hB kk
theorem hd_X11_homeOf : yX11_homeOf.cls = RX11 ∧ yX11_homeOf.cls ≠ "java/lang/invoke/MethodHandle" ∧ yX11_homeOf.cls ≠ "java/lang/invoke/VarHandle" ∧ (parseMethodDescriptor yX11_homeOf.desc).map (fun d => d.parameters.length) = some 1 := by decide +kernel
set_option maxHeartbeats 4000000 in
set_option maxRecDepth 100000 in
theorem mm_X11_homeOf {o : Nat} {a0 : Int32} {out : Int32} (hf : f_X11_homeOf E h o a0 = some out) : Met l yX11_homeOf (ws_ yX11_homeOf cX11_homeOf 2 (some .int)) (rM (fE + 0) (lE + 0)) (bPc G E.1 hSites h nx [.ref o, .int a0]) (gR (some (.int out)) True) 0 0 (fun _ => False) := by
  refine bGo (by decide +kernel) (Nat.le_of_ble_eq_true rfl) (fun p e s m below meth c ls S hr hlocks hin hnm hS hB hl => ?_)
  have S : CallFix p m c cX11_homeOf 2 s _ lw_all RX11 := S
  obtain ⟨hx, hb, hml, hown, hts⟩ := id S
  have hl : lv_has ls 2 [(0, .ref o), (1, .int a0)] := hl
  rw [f_X11_homeOf] at hf
  refine lv_iload_n hx hb dX11_homeOf_0 rfl (lv_at hl 1 rfl) ?_
  refine lv_if_ne (tgt := 11) hx hb dX11_homeOf_1 (by decide) (fun c1 => ?_) (fun c1 => ?_)
  · replace hf := it_f c1 hf
    refine lv_aload_n hx hb dX11_homeOf_11 rfl (lv_at hl 0 rfl) ?_
    obtain ⟨v2, hv2, hf⟩ := ob_s hf
    refine bg_X11_3 S hS hB (vR_s hv2) dX11_homeOf_12 ?_
    obtain ⟨v3, hv3, hf⟩ := ob_s hf
    refine bg_X11_39 S hS hB (vR_s hv3) dX11_homeOf_15 ?_
    obtain ⟨v4, hv4, hf⟩ := ob_s hf
    refine bg_X11_69 S hS hB (vR_s hv4) dX11_homeOf_18 ?_
    refine lv_aload_n hx hb dX11_homeOf_21 rfl (lv_at hl 0 rfl) ?_
    obtain ⟨v5, hv5, hf⟩ := ob_s hf
    refine bg_X11_19 S hS hB (vR_s hv5) dX11_homeOf_22 ?_
    refine lv_iload_n hx hb dX11_homeOf_25 rfl (lv_at hl 1 rfl) ?_
    refine lv_iconst hx hb dX11_homeOf_26 kc_i1 ?_
    refine lv_isub hx hb dX11_homeOf_27 ?_
    obtain ⟨v6, hv6, hf⟩ := ob_s hf
    refine b_iald S hS.1 hB hv6 dX11_homeOf_28 ?_
    obtain ⟨v7, hv7, hf⟩ := ob_s hf
    refine b_iald S hS.1 hB hv7 dX11_homeOf_29 ?_
    have hE9 := Option.some.inj hf
    subst hE9
    exact gt_ri S hr hlocks trivial dX11_homeOf_30
  · replace hf := it_t c1 hf
    refine lv_aload_n hx hb dX11_homeOf_4 rfl (lv_at hl 0 rfl) ?_
    obtain ⟨v8, hv8, hf⟩ := ob_s hf
    refine bg_X11_26 S hS hB (vI_s hv8) dX11_homeOf_5 ?_
    refine lv_goto (tgt := 30) hx hb dX11_homeOf_8 (by decide) ?_
    have hE9 := Option.some.inj hf
    subst hE9
    exact gt_ri S hr hlocks trivial dX11_homeOf_30
set_option maxRecDepth 100000 in
theorem mc_X1_528 {o : Nat} {a0 : Int32} {out : Int32} (S : CallFix p m c cc nL s args lw_all RX1) (hS : SK G E.1 hSites A s) (hB : BI G A s.heap h nx H locs) (ho : isO h o 10 = true) (hf : f_X11_homeOf E h o a0 = some out) (hsz : ls.size = nL) (hR : (fE + 0) + 1 ≤ R.frames ∧ 8 + (2 + 11) + (lE + 0) ≤ R.locals) (hW : (rest.map fun v => v.category).sum ≤ 8) (hcs : cells ≤ R.cells ∧ slots ≤ R.slots) (hdg : decode cc pc = .ok (.invokevirtual 528, 3))  (kk : True → W p l e R s m args below meth c H locs cells slots Q (F0 m (pc + 3) ls (.int out :: rest))) : W p l e R s m args below meth c H locs cells slots Q (F0 m pc ls (.int a0 :: .ref o :: rest)) := by
  have hN := hS.2.1
  obtain ⟨fs, he⟩ := isO_s ho
  exact br_r (va_runV (As := [.int a0]) S (mm_X11_homeOf (l := l) (G := G) (nx := nx) (fE := fE) (lE := lE) hf) (cwV 1 S.2.2.2.2 (lw_V q1768 q1769 q1770 q205 q1771) rfl rfl rfl hd_X11_homeOf hR) (bPreV hS hB (ci := 10) rfl he) rfl rfl hsz rfl (lv_room hW) hdg hcs) kk
theorem hd_J7_init : yJ7_init.cls ≠ "java/lang/invoke/MethodHandle" ∧ yJ7_init.cls ≠ "java/lang/invoke/VarHandle" ∧ (parseMethodDescriptor yJ7_init.desc).map (fun d => d.parameters.length) = some 1 := by decide +kernel
set_option maxHeartbeats 4000000 in
set_option maxRecDepth 100000 in
theorem mm_J7_init {o : Nat} {a0 : Int32} {out : Unit × AH × Nat × Nat} (hf : f_J7_init E h nx o a0 = some out) : Met l yJ7_init (ws_ yJ7_init cJ7_init 2 none) (rC (fE + 1) (lE + 40) out.2.2.1 out.2.2.2) (bPc G E.1 hSites h nx [.ref o, .int a0]) (bQ G none True out.2.1 (nx + out.2.2.1) (AA h nx)) out.2.2.1 out.2.2.2 (AA h nx) := by
  refine bGo (by decide +kernel) (Nat.le_of_ble_eq_true rfl) (fun p e s m below meth c ls S hr hlocks hin hnm hS hB hl => ?_)
  have S : CallFix p m c cJ7_init 2 s _ lw_all RJ7 := S
  obtain ⟨hx, hb, hml, hown, hts⟩ := id S
  have hl : lv_has ls 2 [(0, .ref o), (1, .int a0)] := hl
  have hT : TL out out 0 0 := TL_0
  rw [f_J7_init] at hf
  refine lv_aload_n hx hb dJ7_init_0 rfl (lv_at hl 0 rfl) ?_
  refine W.objInit hx hb hown (hts _ q557) (hts _ q212) (hts _ q213) rfl (by rw [hml]; exact hl.1) rfl dJ7_init_1 (by show _ ≤ (fE + 1); omega) (by show _ ≤ (lE + 40); simp only [F0, JFrame.monitorRoom, List.map, List.sum_cons, List.sum_nil, Value.category]; omega) ?_
  refine W.eq (g2 := F0 m 4 ls []) rfl ?_
  refine b_gets S hS hB 5 rfl (hts _ q558) dJ7_init_4 ?_
  refine lv_if_eq (tgt := 25) hx hb dJ7_init_7 (by decide) (fun c1 => ?_) (fun c1 => ?_)
  · replace hf := it_t c1 hf
    exact absurd hf (by nofun)
  · replace hf := it_f c1 hf
    refine lv_aload_n hx hb dJ7_init_10 rfl (lv_at hl 0 rfl) ?_
    refine lv_iload_n hx hb dJ7_init_11 rfl (lv_at hl 1 rfl) ?_
    obtain ⟨g2, hf⟩ := gd_t hf
    obtain ⟨o3, hf, hT⟩ := TL_c hT hf
    refine b_newB S hS hB rfl g2 (TL_m hT).1 (TL_m hT).2 dJ7_init_12 (fun H hB => ?_)
    obtain ⟨h4, hh4, hf⟩ := ob_s hf
    refine bp_J7_15 S hS hB hh4 dJ7_init_14 (fun H locs hB => ?_)
    refine lv_aload_n hx hb dJ7_init_17 rfl (lv_at hl 0 rfl) ?_
    refine lv_iconst hx hb dJ7_init_18 kc_i0 ?_
    obtain ⟨g5, hf⟩ := gd_t hf
    obtain ⟨h6, hh6, hf⟩ := ob_s hf
    refine bp_J7_22 S hS hB (isY_n g5) (isY_f g5) hh6 dJ7_init_19 (fun H locs hB => ?_)
    refine lv_goto (tgt := 38) hx hb dJ7_init_22 (by decide) ?_
    have hE9 := TL_e hT hf
    subst hE9
    exact bt_v S hr hlocks hB (by omega) trivial dJ7_init_38
set_option maxRecDepth 100000 in
theorem mc_J8_1 {o : Nat} {a0 : Int32} {out : Unit × AH × Nat × Nat} (S : CallFix p m c cc nL s args lw_all RJ8) (hS : SK G E.1 hSites A s) (hB : BI G A s.heap h nx H locs) (hf : f_J7_init E h nx o a0 = some out) (hsz : ls.size = nL) (hR : (fE + 1) + 1 ≤ R.frames ∧ 8 + (2 + 11) + (lE + 40) ≤ R.locals) (hW : (rest.map fun v => v.category).sum ≤ 8) (hcs : cells + out.2.2.1 ≤ R.cells ∧ slots + out.2.2.2 ≤ R.slots) (hdg : decode cc pc = .ok (.invokespecial 1, 3))  (kk : ∀ (H1 : Heap) (locs1 : List Loc), True → BI G A s.heap out.2.1 (nx + out.2.2.1) H1 locs1 → W p l e R s m args below meth c H1 locs1 (cells + out.2.2.1) (slots + out.2.2.2) Q (F0 m (pc + 3) ls (rest))) : W p l e R s m args below meth c H locs cells slots Q (F0 m pc ls (.int a0 :: .ref o :: rest)) := by
  have hN := hS.2.1
  exact br_v (va_runI (As := [.int a0]) S (mm_J7_init (l := l) (G := G) (fE := fE) (lE := lE) hf) (⟨callB_of 1 S.2.2.2.2 (lw_meth q556) rfl rfl rfl (S.2.2.2.2 _ q185) (S.2.2.2.2 _ q554) hd_J7_init hR, rfl, S.2.2.2.2 _ q555⟩) (bPreS hS hB) rfl rfl hsz rfl (lv_room hW) hdg hcs) hB kk
theorem hd_J8_init : yJ8_init.cls ≠ "java/lang/invoke/MethodHandle" ∧ yJ8_init.cls ≠ "java/lang/invoke/VarHandle" ∧ (parseMethodDescriptor yJ8_init.desc).map (fun d => d.parameters.length) = some 0 := by decide +kernel
set_option maxHeartbeats 4000000 in
set_option maxRecDepth 100000 in
theorem mm_J8_init {o : Nat} {out : Unit × AH × Nat × Nat} (hf : f_J8_init E h nx o = some out) : Met l yJ8_init (ws_ yJ8_init cJ8_init 1 none) (rC (fE + 2) (lE + 61) out.2.2.1 out.2.2.2) (bPc G E.1 hSites h nx [.ref o]) (bQ G none True out.2.1 (nx + out.2.2.1) (AA h nx)) out.2.2.1 out.2.2.2 (AA h nx) := by
  refine bGo (by decide +kernel) (Nat.le_of_ble_eq_true rfl) (fun p e s m below meth c ls S hr hlocks hin hnm hS hB hl => ?_)
  have S : CallFix p m c cJ8_init 1 s _ lw_all RJ8 := S
  obtain ⟨hx, hb, hml, hown, hts⟩ := id S
  have hl : lv_has ls 1 [(0, .ref o)] := hl
  have hT : TL out out 0 0 := TL_0
  rw [f_J8_init] at hf
  refine lv_aload_n hx hb dJ8_init_0 rfl (lv_at hl 0 rfl) ?_
  refine lv_bipush hx hb dJ8_init_1 kc_b16 ?_
  obtain ⟨v1, hv1, hf⟩ := ob_s hf
  obtain ⟨o2, hf, hT⟩ := TL_c hT hf
  refine mc_J8_1 (fE := fE) (lE := lE) S hS hB hv1 hl.1 ⟨(by show _ ≤ (fE + 2); omega), (by show _ ≤ (lE + 61); omega)⟩ (Nat.le_of_ble_eq_true rfl) ⟨(TL_m hT).1, (TL_m hT).2⟩ dJ8_init_3 (fun H locs _ hB => ?_)
  have hE9 := TL_e hT hf
  subst hE9
  exact bt_v S hr hlocks hB (by omega) trivial dJ8_init_6
set_option maxRecDepth 100000 in
theorem mc_X1_122 {o : Nat} {out : Unit × AH × Nat × Nat} (S : CallFix p m c cc nL s args lw_all RX1) (hS : SK G E.1 hSites A s) (hB : BI G A s.heap h nx H locs) (hf : f_J8_init E h nx o = some out) (hsz : ls.size = nL) (hR : (fE + 2) + 1 ≤ R.frames ∧ 8 + (1 + 11) + (lE + 61) ≤ R.locals) (hW : (rest.map fun v => v.category).sum ≤ 8) (hcs : cells + out.2.2.1 ≤ R.cells ∧ slots + out.2.2.2 ≤ R.slots) (hdg : decode cc pc = .ok (.invokespecial 122, 3))  (kk : ∀ (H1 : Heap) (locs1 : List Loc), True → BI G A s.heap out.2.1 (nx + out.2.2.1) H1 locs1 → W p l e R s m args below meth c H1 locs1 (cells + out.2.2.1) (slots + out.2.2.2) Q (F0 m (pc + 3) ls (rest))) : W p l e R s m args below meth c H locs cells slots Q (F0 m pc ls (.ref o :: rest)) := by
  have hN := hS.2.1
  exact br_v (va_runI (As := []) S (mm_J8_init (l := l) (G := G) (fE := fE) (lE := lE) hf) (⟨callB_of 0 S.2.2.2.2 (lw_meth q553) rfl rfl rfl (S.2.2.2.2 _ q186) (S.2.2.2.2 _ q551) hd_J8_init hR, rfl, S.2.2.2.2 _ q552⟩) (bPreS hS hB) rfl rfl hsz rfl (lv_room hW) hdg hcs) hB kk
set_option maxRecDepth 100000 in
theorem mc_X4_72 {o : Nat} {out : Unit × AH × Nat × Nat} (S : CallFix p m c cc nL s args lw_all RX4) (hS : SK G E.1 hSites A s) (hB : BI G A s.heap h nx H locs) (hf : f_J8_init E h nx o = some out) (hsz : ls.size = nL) (hR : (fE + 2) + 1 ≤ R.frames ∧ 8 + (1 + 11) + (lE + 61) ≤ R.locals) (hW : (rest.map fun v => v.category).sum ≤ 8) (hcs : cells + out.2.2.1 ≤ R.cells ∧ slots + out.2.2.2 ≤ R.slots) (hdg : decode cc pc = .ok (.invokespecial 72, 3))  (kk : ∀ (H1 : Heap) (locs1 : List Loc), True → BI G A s.heap out.2.1 (nx + out.2.2.1) H1 locs1 → W p l e R s m args below meth c H1 locs1 (cells + out.2.2.1) (slots + out.2.2.2) Q (F0 m (pc + 3) ls (rest))) : W p l e R s m args below meth c H locs cells slots Q (F0 m pc ls (.ref o :: rest)) := by
  have hN := hS.2.1
  exact br_v (va_runI (As := []) S (mm_J8_init (l := l) (G := G) (fE := fE) (lE := lE) hf) (⟨callB_of 0 S.2.2.2.2 (lw_meth q553) rfl rfl rfl (S.2.2.2.2 _ q186) (S.2.2.2.2 _ q678) hd_J8_init hR, rfl, S.2.2.2.2 _ q552⟩) (bPreS hS hB) rfl rfl hsz rfl (lv_room hW) hdg hcs) hB kk
theorem hd_X1_init : yX1_init.cls ≠ "java/lang/invoke/MethodHandle" ∧ yX1_init.cls ≠ "java/lang/invoke/VarHandle" ∧ (parseMethodDescriptor yX1_init.desc).map (fun d => d.parameters.length) = some 0 := by decide +kernel
set_option maxHeartbeats 4000000 in
set_option maxRecDepth 100000 in
theorem mm_X1_init {o : Nat} {out : Unit × AH × Nat × Nat} (hf : f_X1_init E h nx o = some out) : Met l yX1_init (ws_ yX1_init cX1_init 1 none) (rC (fE + 5) (lE + 3142) out.2.2.1 out.2.2.2) (bPc G E.1 hSites h nx [.ref o]) (bQ G none True out.2.1 (nx + out.2.2.1) (AA h nx)) out.2.2.1 out.2.2.2 (AA h nx) := by
  refine bGo (by decide +kernel) (Nat.le_of_ble_eq_true rfl) (fun p e s m below meth c ls S hr hlocks hin hnm hS hB hl => ?_)
  have S : CallFix p m c cX1_init 1 s _ lw_all RX1 := S
  obtain ⟨hx, hb, hml, hown, hts⟩ := id S
  have hl : lv_has ls 1 [(0, .ref o)] := hl
  have hT : TL out out 0 0 := TL_0
  rw [f_X1_init] at hf
  refine lv_aload_n hx hb dX1_init_0 rfl (lv_at hl 0 rfl) ?_
  refine W.objInit hx hb hown (hts _ q211) (hts _ q212) (hts _ q213) rfl (by rw [hml]; exact hl.1) rfl dX1_init_1 (by show _ ≤ (fE + 5); omega) (by show _ ≤ (lE + 3142); simp only [F0, JFrame.monitorRoom, List.map, List.sum_cons, List.sum_nil, Value.category]; omega) ?_
  refine W.eq (g2 := F0 m 4 ls []) rfl ?_
  refine lv_aload_n hx hb dX1_init_4 rfl (lv_at hl 0 rfl) ?_
  obtain ⟨o1, hf, hT⟩ := TL_c hT hf
  refine bn_X1_44 S hS hB (TL_m hT).1 (TL_m hT).2 dX1_init_5 (fun H hB => ?_)
  refine lv_dup hx hb dX1_init_8 rfl ?_
  refine lv_iconst hx hb dX1_init_9 kc_i2 ?_
  obtain ⟨v2, hv2, hf⟩ := ob_s hf
  obtain ⟨o3, hf, hT⟩ := TL_c hT hf
  refine mc_X1_62 (fE := fE) (lE := lE) S hS hB hv2 hl.1 ⟨(by show _ ≤ (fE + 5); omega), (by show _ ≤ (lE + 3142); omega)⟩ (Nat.le_of_ble_eq_true rfl) ⟨(TL_m hT).1, (TL_m hT).2⟩ dX1_init_10 (fun H locs _ hB => ?_)
  obtain ⟨h4, hh4, hf⟩ := ob_s hf
  refine bp_X1_39 S hS hB hh4 dX1_init_13 (fun H locs hB => ?_)
  refine lv_aload_n hx hb dX1_init_16 rfl (lv_at hl 0 rfl) ?_
  obtain ⟨o5, hf, hT⟩ := TL_c hT hf
  refine bn_X1_44 S hS hB (TL_m hT).1 (TL_m hT).2 dX1_init_17 (fun H hB => ?_)
  refine lv_dup hx hb dX1_init_20 rfl ?_
  refine lv_iconst hx hb dX1_init_21 kc_i2 ?_
  obtain ⟨v6, hv6, hf⟩ := ob_s hf
  obtain ⟨o7, hf, hT⟩ := TL_c hT hf
  refine mc_X1_62 (fE := fE) (lE := lE) S hS hB hv6 hl.1 ⟨(by show _ ≤ (fE + 5); omega), (by show _ ≤ (lE + 3142); omega)⟩ (Nat.le_of_ble_eq_true rfl) ⟨(TL_m hT).1, (TL_m hT).2⟩ dX1_init_22 (fun H locs _ hB => ?_)
  obtain ⟨h8, hh8, hf⟩ := ob_s hf
  refine bp_X1_51 S hS hB hh8 dX1_init_25 (fun H locs hB => ?_)
  refine lv_aload_n hx hb dX1_init_28 rfl (lv_at hl 0 rfl) ?_
  obtain ⟨o9, hf, hT⟩ := TL_c hT hf
  refine bn_X1_65 S hS hB (TL_m hT).1 (TL_m hT).2 dX1_init_29 (fun H hB => ?_)
  obtain ⟨h10, eh10⟩ : ∃ z, z = (hu h8 ((((nx + 1) + v2.2.2.1) + 1) + v6.2.2.1) (.inr (.inl (1, df_X2)))) := ⟨_, rfl⟩
  replace hf := bd_e eh10 hf
  rw [← eh10] at hB
  refine lv_dup hx hb dX1_init_32 rfl ?_
  refine lv_aload_n hx hb dX1_init_33 rfl (lv_at hl 0 rfl) ?_
  obtain ⟨v11, hv11, hf⟩ := ob_s hf
  obtain ⟨o12, hf, hT⟩ := TL_c hT hf
  refine mc_X1_67 (fE := fE) (lE := lE) S hS hB hv11 hl.1 ⟨(by show _ ≤ (fE + 5); omega), (by show _ ≤ (lE + 3142); omega)⟩ (Nat.le_of_ble_eq_true rfl) ⟨(TL_m hT).1, (TL_m hT).2⟩ dX1_init_34 (fun H locs _ hB => ?_)
  obtain ⟨h13, hh13, hf⟩ := ob_s hf
  refine bp_X1_70 S hS hB hh13 dX1_init_37 (fun H locs hB => ?_)
  refine lv_aload_n hx hb dX1_init_40 rfl (lv_at hl 0 rfl) ?_
  obtain ⟨o14, hf, hT⟩ := TL_c hT hf
  refine bn_X1_65 S hS hB (TL_m hT).1 (TL_m hT).2 dX1_init_41 (fun H hB => ?_)
  obtain ⟨h15, eh15⟩ : ∃ z, z = (hu h13 ((((((nx + 1) + v2.2.2.1) + 1) + v6.2.2.1) + 1) + v11.2.2.1) (.inr (.inl (1, df_X2)))) := ⟨_, rfl⟩
  replace hf := bd_e eh15 hf
  rw [← eh15] at hB
  refine lv_dup hx hb dX1_init_44 rfl ?_
  refine lv_aload_n hx hb dX1_init_45 rfl (lv_at hl 0 rfl) ?_
  obtain ⟨v16, hv16, hf⟩ := ob_s hf
  obtain ⟨o17, hf, hT⟩ := TL_c hT hf
  refine mc_X1_67 (fE := fE) (lE := lE) S hS hB hv16 hl.1 ⟨(by show _ ≤ (fE + 5); omega), (by show _ ≤ (lE + 3142); omega)⟩ (Nat.le_of_ble_eq_true rfl) ⟨(TL_m hT).1, (TL_m hT).2⟩ dX1_init_46 (fun H locs _ hB => ?_)
  obtain ⟨h18, hh18, hf⟩ := ob_s hf
  refine bp_X1_74 S hS hB hin hh18 dX1_init_49 (fun H locs hB => ?_)
  refine lv_aload_n hx hb dX1_init_52 rfl (lv_at hl 0 rfl) ?_
  obtain ⟨o19, hf, hT⟩ := TL_c hT hf
  refine bn_X1_44 S hS hB (TL_m hT).1 (TL_m hT).2 dX1_init_53 (fun H hB => ?_)
  obtain ⟨h20, eh20⟩ : ∃ z, z = (hu h18 ((((((((nx + 1) + v2.2.2.1) + 1) + v6.2.2.1) + 1) + v11.2.2.1) + 1) + v16.2.2.1) (.inr (.inl (11, df_J2)))) := ⟨_, rfl⟩
  replace hf := bd_e eh20 hf
  rw [← eh20] at hB
  refine lv_dup hx hb dX1_init_56 rfl ?_
  refine lv_iconst hx hb dX1_init_57 kc_i2 ?_
  obtain ⟨v21, hv21, hf⟩ := ob_s hf
  obtain ⟨o22, hf, hT⟩ := TL_c hT hf
  refine mc_X1_62 (fE := fE) (lE := lE) S hS hB hv21 hl.1 ⟨(by show _ ≤ (fE + 5); omega), (by show _ ≤ (lE + 3142); omega)⟩ (Nat.le_of_ble_eq_true rfl) ⟨(TL_m hT).1, (TL_m hT).2⟩ dX1_init_58 (fun H locs _ hB => ?_)
  obtain ⟨h23, hh23, hf⟩ := ob_s hf
  refine bp_X1_77 S hS hB hin hh23 dX1_init_61 (fun H locs hB => ?_)
  refine lv_aload_n hx hb dX1_init_64 rfl (lv_at hl 0 rfl) ?_
  refine lv_iconst hx hb dX1_init_65 kc_im1 ?_
  obtain ⟨h24, hh24, hf⟩ := ob_s hf
  refine bp_X1_80 S hS hB hh24 dX1_init_66 (fun H locs hB => ?_)
  refine lv_aload_n hx hb dX1_init_69 rfl (lv_at hl 0 rfl) ?_
  refine lv_iconst hx hb dX1_init_70 kc_im1 ?_
  obtain ⟨h25, hh25, hf⟩ := ob_s hf
  refine bp_X1_84 S hS hB hh25 dX1_init_71 (fun H locs hB => ?_)
  refine lv_aload_n hx hb dX1_init_74 rfl (lv_at hl 0 rfl) ?_
  refine lv_bipush hx hb dX1_init_75 kc_b6 ?_
  obtain ⟨o26, hf, hT⟩ := TL_c hT hf
  refine b_anewN S hS hB 8 rfl (hts _ q537) q538 kn_6 kna_6 (TL_m hT).1 (TL_m hT).2 dX1_init_77 (fun H hB => ?_)
  obtain ⟨h27, eh27⟩ : ∃ z, z = (hu h25 ((((((((((nx + 1) + v2.2.2.1) + 1) + v6.2.2.1) + 1) + v11.2.2.1) + 1) + v16.2.2.1) + 1) + v21.2.2.1) (.inl (8, 6, .inr (.inr (.inr (.inr (fun _ => none))))))) := ⟨_, rfl⟩
  replace hf := bd_e eh27 hf
  rw [← eh27] at hB
  refine lv_dup hx hb dX1_init_80 rfl ?_
  refine lv_iconst hx hb dX1_init_81 kc_i0 ?_
  refine b_ldcS S hS 0 rfl rfl rfl dX1_init_82 ?_
  obtain ⟨g28, hf⟩ := gd_t hf
  obtain ⟨h29, hh29, hf⟩ := ob_s hf
  refine b_aast S hS hB 8 rfl g28 hh29 dX1_init_84 (fun H locs hB => ?_)
  refine lv_dup hx hb dX1_init_85 rfl ?_
  refine lv_iconst hx hb dX1_init_86 kc_i1 ?_
  refine b_ldcS S hS 1 rfl rfl rfl dX1_init_87 ?_
  obtain ⟨g30, hf⟩ := gd_t hf
  obtain ⟨h31, hh31, hf⟩ := ob_s hf
  refine b_aast S hS hB 8 rfl g30 hh31 dX1_init_89 (fun H locs hB => ?_)
  refine lv_dup hx hb dX1_init_90 rfl ?_
  refine lv_iconst hx hb dX1_init_91 kc_i2 ?_
  refine b_ldcS S hS 2 rfl rfl rfl dX1_init_92 ?_
  obtain ⟨g32, hf⟩ := gd_t hf
  obtain ⟨h33, hh33, hf⟩ := ob_s hf
  refine b_aast S hS hB 8 rfl g32 hh33 dX1_init_94 (fun H locs hB => ?_)
  refine lv_dup hx hb dX1_init_95 rfl ?_
  refine lv_iconst hx hb dX1_init_96 kc_i3 ?_
  refine b_ldcS S hS 3 rfl rfl rfl dX1_init_97 ?_
  obtain ⟨g34, hf⟩ := gd_t hf
  obtain ⟨h35, hh35, hf⟩ := ob_s hf
  refine b_aast S hS hB 8 rfl g34 hh35 dX1_init_99 (fun H locs hB => ?_)
  refine lv_dup hx hb dX1_init_100 rfl ?_
  refine lv_iconst hx hb dX1_init_101 kc_i4 ?_
  refine b_ldcS S hS 4 rfl rfl rfl dX1_init_102 ?_
  obtain ⟨g36, hf⟩ := gd_t hf
  obtain ⟨h37, hh37, hf⟩ := ob_s hf
  refine b_aast S hS hB 8 rfl g36 hh37 dX1_init_104 (fun H locs hB => ?_)
  refine lv_dup hx hb dX1_init_105 rfl ?_
  refine lv_iconst hx hb dX1_init_106 kc_i5 ?_
  refine b_ldcS S hS 5 rfl rfl rfl dX1_init_107 ?_
  obtain ⟨g38, hf⟩ := gd_t hf
  obtain ⟨h39, hh39, hf⟩ := ob_s hf
  refine b_aast S hS hB 8 rfl g38 hh39 dX1_init_109 (fun H locs hB => ?_)
  obtain ⟨h40, hh40, hf⟩ := ob_s hf
  refine bp_X1_101 S hS hB hin hh40 dX1_init_110 (fun H locs hB => ?_)
  refine lv_aload_n hx hb dX1_init_113 rfl (lv_at hl 0 rfl) ?_
  refine lv_iconst hx hb dX1_init_114 kc_i4 ?_
  obtain ⟨o41, hf, hT⟩ := TL_c hT hf
  refine b_anewN S hS hB 8 rfl (hts _ q537) q538 kn_4 kna_4 (TL_m hT).1 (TL_m hT).2 dX1_init_115 (fun H hB => ?_)
  obtain ⟨h42, eh42⟩ : ∃ z, z = (hu h40 (((((((((((nx + 1) + v2.2.2.1) + 1) + v6.2.2.1) + 1) + v11.2.2.1) + 1) + v16.2.2.1) + 1) + v21.2.2.1) + 1) (.inl (8, 4, .inr (.inr (.inr (.inr (fun _ => none))))))) := ⟨_, rfl⟩
  replace hf := bd_e eh42 hf
  rw [← eh42] at hB
  refine lv_dup hx hb dX1_init_118 rfl ?_
  refine lv_iconst hx hb dX1_init_119 kc_i0 ?_
  refine b_ldcS S hS 6 rfl rfl rfl dX1_init_120 ?_
  obtain ⟨g43, hf⟩ := gd_t hf
  obtain ⟨h44, hh44, hf⟩ := ob_s hf
  refine b_aast S hS hB 8 rfl g43 hh44 dX1_init_122 (fun H locs hB => ?_)
  refine lv_dup hx hb dX1_init_123 rfl ?_
  refine lv_iconst hx hb dX1_init_124 kc_i1 ?_
  refine b_ldcS S hS 7 rfl rfl rfl dX1_init_125 ?_
  obtain ⟨g45, hf⟩ := gd_t hf
  obtain ⟨h46, hh46, hf⟩ := ob_s hf
  refine b_aast S hS hB 8 rfl g45 hh46 dX1_init_127 (fun H locs hB => ?_)
  refine lv_dup hx hb dX1_init_128 rfl ?_
  refine lv_iconst hx hb dX1_init_129 kc_i2 ?_
  refine b_ldcS S hS 8 rfl rfl rfl dX1_init_130 ?_
  obtain ⟨g47, hf⟩ := gd_t hf
  obtain ⟨h48, hh48, hf⟩ := ob_s hf
  refine b_aast S hS hB 8 rfl g47 hh48 dX1_init_132 (fun H locs hB => ?_)
  refine lv_dup hx hb dX1_init_133 rfl ?_
  refine lv_iconst hx hb dX1_init_134 kc_i3 ?_
  refine b_ldcS S hS 9 rfl rfl rfl dX1_init_135 ?_
  obtain ⟨g49, hf⟩ := gd_t hf
  obtain ⟨h50, hh50, hf⟩ := ob_s hf
  refine b_aast S hS hB 8 rfl g49 hh50 dX1_init_137 (fun H locs hB => ?_)
  obtain ⟨h51, hh51, hf⟩ := ob_s hf
  refine bp_X1_113 S hS hB hin hh51 dX1_init_138 (fun H locs hB => ?_)
  refine lv_aload_n hx hb dX1_init_141 rfl (lv_at hl 0 rfl) ?_
  refine lv_sipush hx hb dX1_init_142 kc_s900 ?_
  obtain ⟨o52, hf, hT⟩ := TL_c hT hf
  refine b_newB S hS hB kn_900 kna_900 (TL_m hT).1 (TL_m hT).2 dX1_init_145 (fun H hB => ?_)
  obtain ⟨h53, eh53⟩ : ∃ z, z = (hu h51 ((((((((((((nx + 1) + v2.2.2.1) + 1) + v6.2.2.1) + 1) + v11.2.2.1) + 1) + v16.2.2.1) + 1) + v21.2.2.1) + 1) + 1) (.inl (2, 900, .inl (fun _ => 0)))) := ⟨_, rfl⟩
  replace hf := bd_e eh53 hf
  rw [← eh53] at hB
  obtain ⟨h54, hh54, hf⟩ := ob_s hf
  refine bp_X1_116 S hS hB hin hh54 dX1_init_147 (fun H locs hB => ?_)
  refine lv_aload_n hx hb dX1_init_150 rfl (lv_at hl 0 rfl) ?_
  obtain ⟨o55, hf, hT⟩ := TL_c hT hf
  refine bn_X1_120 S hS hB (TL_m hT).1 (TL_m hT).2 dX1_init_151 (fun H hB => ?_)
  obtain ⟨h56, eh56⟩ : ∃ z, z = (hu h54 (((((((((((((nx + 1) + v2.2.2.1) + 1) + v6.2.2.1) + 1) + v11.2.2.1) + 1) + v16.2.2.1) + 1) + v21.2.2.1) + 1) + 1) + 1) (.inr (.inl (12, df_J8)))) := ⟨_, rfl⟩
  replace hf := bd_e eh56 hf
  rw [← eh56] at hB
  refine lv_dup hx hb dX1_init_154 rfl ?_
  obtain ⟨v57, hv57, hf⟩ := ob_s hf
  obtain ⟨o58, hf, hT⟩ := TL_c hT hf
  refine mc_X1_122 (fE := fE) (lE := lE) S hS hB hv57 hl.1 ⟨(by show _ ≤ (fE + 5); omega), (by show _ ≤ (lE + 3142); omega)⟩ (Nat.le_of_ble_eq_true rfl) ⟨(TL_m hT).1, (TL_m hT).2⟩ dX1_init_155 (fun H locs _ hB => ?_)
  obtain ⟨h59, hh59, hf⟩ := ob_s hf
  refine bp_X1_123 S hS hB hin hh59 dX1_init_158 (fun H locs hB => ?_)
  have hE9 := TL_e hT hf
  subst hE9
  exact bt_v S hr hlocks hB (by omega) trivial dX1_init_161
theorem hd_X1_lambda_rising_1 : yX1_lambda_rising_1.cls ≠ "java/lang/invoke/MethodHandle" ∧ yX1_lambda_rising_1.cls ≠ "java/lang/invoke/VarHandle" ∧ (parseMethodDescriptor yX1_lambda_rising_1.desc).map (fun d => d.parameters.length) = some 3 := by decide +kernel
set_option maxHeartbeats 4000000 in
set_option maxRecDepth 100000 in
theorem mm_X1_lambda_rising_1 {a0 : Nat} {a1 : Int32} {a2 : Int32} {out : Int32 × AH × Nat × Nat} (hE : IfOK l G E fE lE) (hf : f_X1_lambda_rising_1 E h nx a0 a1 a2 = some out) : Met l yX1_lambda_rising_1 (ws_ yX1_lambda_rising_1 cX1_lambda_rising_1 3 (some .int)) (rC (fE + 1) (lE + 40) out.2.2.1 out.2.2.2) (bPc G E.1 hSites h nx [.ref a0, .int a1, .int a2]) (bQ G (some (.int out.1)) True out.2.1 (nx + out.2.2.1) (AA h nx)) out.2.2.1 out.2.2.2 (AA h nx) := by
  refine bGo (by decide +kernel) (Nat.le_of_ble_eq_true rfl) (fun p e s m below meth c ls S hr hlocks hin hnm hS hB hl => ?_)
  have S : CallFix p m c cX1_lambda_rising_1 3 s _ lw_all RX1 := S
  obtain ⟨hx, hb, hml, hown, hts⟩ := id S
  have hl : lv_has ls 3 [(0, .ref a0), (1, .int a1), (2, .int a2)] := hl
  have hT : TL out out 0 0 := TL_0
  rw [f_X1_lambda_rising_1] at hf
  refine lv_aload_n hx hb dX1_lambda_rising_1_0 rfl (lv_at hl 0 rfl) ?_
  refine lv_iload_n hx hb dX1_lambda_rising_1_1 rfl (lv_at hl 1 rfl) ?_
  obtain ⟨v1, hv1, hf⟩ := ob_s hf
  obtain ⟨o2, hf, hT⟩ := TL_c hT hf
  refine hE.2.2 _ _ _ _ _ _ _ _ _ _ _ _ _ _ _ _ _ _ _ _ _ _ _ _ _ _ _ _ S hS hB (hts _ q365) hv1 hl.1 ⟨(by show _ ≤ (fE + 1); omega), (by show _ ≤ (lE + 40); omega)⟩ (Nat.le_of_ble_eq_true rfl) ⟨(TL_m hT).1, (TL_m hT).2⟩ dX1_lambda_rising_1_2 (fun H locs _ hB => ?_)
  refine lv_aload_n hx hb dX1_lambda_rising_1_7 rfl (lv_at hl 0 rfl) ?_
  refine lv_iload_n hx hb dX1_lambda_rising_1_8 rfl (lv_at hl 2 rfl) ?_
  obtain ⟨v3, hv3, hf⟩ := ob_s hf
  obtain ⟨o4, hf, hT⟩ := TL_c hT hf
  refine hE.2.2 _ _ _ _ _ _ _ _ _ _ _ _ _ _ _ _ _ _ _ _ _ _ _ _ _ _ _ _ S hS hB (hts _ q365) hv3 hl.1 ⟨(by show _ ≤ (fE + 1); omega), (by show _ ≤ (lE + 40); omega)⟩ (Nat.le_of_ble_eq_true rfl) ⟨(TL_m hT).1, (TL_m hT).2⟩ dX1_lambda_rising_1_9 (fun H locs _ hB => ?_)
  refine lv_isub hx hb dX1_lambda_rising_1_14 ?_
  have hE9 := TL_e hT hf
  subst hE9
  exact bt_i S hr hlocks hB (by omega) trivial dX1_lambda_rising_1_15
theorem hd_X1_lambda_inTurn_0 : yX1_lambda_inTurn_0.cls ≠ "java/lang/invoke/MethodHandle" ∧ yX1_lambda_inTurn_0.cls ≠ "java/lang/invoke/VarHandle" ∧ (parseMethodDescriptor yX1_lambda_inTurn_0.desc).map (fun d => d.parameters.length) = some 3 := by decide +kernel
set_option maxHeartbeats 4000000 in
set_option maxRecDepth 100000 in
theorem mm_X1_lambda_inTurn_0 {a0 : Nat} {a1 : Int32} {a2 : Int32} {out : Int32 × AH × Nat × Nat} (hE : IfOK l G E fE lE) (hf : f_X1_lambda_inTurn_0 E h nx a0 a1 a2 = some out) : Met l yX1_lambda_inTurn_0 (ws_ yX1_lambda_inTurn_0 cX1_lambda_inTurn_0 8 (some .int)) (rC (fE + 1) (lE + 40) out.2.2.1 out.2.2.2) (bPc G E.1 hSites h nx [.ref a0, .int a1, .int a2]) (bQ G (some (.int out.1)) True out.2.1 (nx + out.2.2.1) (AA h nx)) out.2.2.1 out.2.2.2 (AA h nx) := by
  refine bGo (by decide +kernel) (Nat.le_of_ble_eq_true rfl) (fun p e s m below meth c ls S hr hlocks hin hnm hS hB hl => ?_)
  have S : CallFix p m c cX1_lambda_inTurn_0 8 s _ lw_all RX1 := S
  obtain ⟨hx, hb, hml, hown, hts⟩ := id S
  have hl : lv_has ls 8 [(0, .ref a0), (1, .int a1), (2, .int a2)] := hl
  have w9 : ∀ (n : Nat) , ∀ (x1 : Int32) (x2 : Int32) (x3 : Nat) (x4 : Int32) (x5 : Int32) (hc : AH) (nc : Nat) (ls : Array Slot) (H : Heap) (locs : List Loc) (ce sl : Nat) (o1 : Int32 × AH × Nat × Nat), BI G (AA h nx) s.heap hc nc H locs → nc = nx + ce → TL out o1 ce sl → lv_has ls 8 [(1, .int x1), (2, .int x2), (3, .ref x3), (4, .int x4), (5, .int x5)] → f_X1_lambda_inTurn_0_9 n E x1 x2 x3 x4 x5 hc nc = some o1 → W p l e (rC (fE + 1) (lE + 40) out.2.2.1 out.2.2.2) s m ([.ref a0, .int a1, .int a2] : List Value).toArray below meth c H locs ce sl (MQ below (bQ G (some (.int out.1)) True out.2.1 (nx + out.2.2.1) (AA h nx)) ([.ref a0, .int a1, .int a2] : List Value).toArray s out.2.2.1 out.2.2.2 (AA h nx)) (F0 m 9 ls []) := by
    intro n
    induction n with
    | zero =>
      intro x1 x2 x3 x4 x5 hc nc ls H locs ce sl o1 hB hn hT hl hf
      exact absurd hf (by rw [f_X1_lambda_inTurn_0_9]; exact nofun)
    | succ n ih =>
      intro x1 x2 x3 x4 x5 hc nc ls H locs ce sl o1 hB hn hT hl hf
      rw [f_X1_lambda_inTurn_0_9] at hf
      refine lv_iload hx hb dX1_lambda_inTurn_0_9 (lv_at hl 4 rfl) ?_
      refine lv_iload hx hb dX1_lambda_inTurn_0_11 (lv_at hl 3 rfl) ?_
      refine lv_icmp_ge (tgt := 47) hx hb dX1_lambda_inTurn_0_13 (by decide) (fun c1 => ?_) (fun c1 => ?_)
      · replace hf := it_t c1 hf
        refine lv_iconst hx hb dX1_lambda_inTurn_0_47 kc_i0 ?_
        have hE9 := TL_e hT hf
        subst hE9
        exact bt_i S hr hlocks hB (by omega) trivial dX1_lambda_inTurn_0_48
      · replace hf := it_f c1 hf
        refine lv_aload_n hx hb dX1_lambda_inTurn_0_16 rfl (lv_at hl 2 rfl) ?_
        refine lv_iload hx hb dX1_lambda_inTurn_0_17 (lv_at hl 4 rfl) ?_
        obtain ⟨v2, hv2, hf⟩ := ob_s hf
        refine b_aald S hS.1 hB 6 rfl rfl hv2 dX1_lambda_inTurn_0_19 ?_
        refine lv_astore (lv' := [(6, .ref v2), (1, .int x1), (2, .int x2), (3, .ref x3), (4, .int x4), (5, .int x5)]) hx hb dX1_lambda_inTurn_0_20 hl (by decide) rfl (fun ls hl => ?_)
        refine lv_aload hx hb dX1_lambda_inTurn_0_22 (lv_at hl 0 rfl) ?_
        refine lv_iload_n hx hb dX1_lambda_inTurn_0_24 rfl (lv_at hl 1 rfl) ?_
        refine lv_iload_n hx hb dX1_lambda_inTurn_0_25 rfl (lv_at hl 2 rfl) ?_
        obtain ⟨v3, hv3, hf⟩ := ob_s hf
        obtain ⟨o4, hf, hT⟩ := TL_c hT hf
        refine hE.2.1 _ _ _ _ _ _ _ _ _ _ _ _ _ _ _ _ _ _ _ _ _ _ _ _ _ _ _ _ _ S hS hB (hts _ q380) hv3 hl.1 ⟨(by show _ ≤ (fE + 1); omega), (by show _ ≤ (lE + 40); omega)⟩ (Nat.le_of_ble_eq_true rfl) ⟨(TL_m hT).1, (TL_m hT).2⟩ dX1_lambda_inTurn_0_26 (fun H locs _ hB => ?_)
        refine lv_istore (lv' := [(7, .int v3.1), (6, .ref v2), (1, .int x1), (2, .int x2), (3, .ref x3), (4, .int x4), (5, .int x5)]) hx hb dX1_lambda_inTurn_0_31 hl (by decide) rfl (fun ls hl => ?_)
        refine lv_iload hx hb dX1_lambda_inTurn_0_33 (lv_at hl 0 rfl) ?_
        refine lv_if_eq (tgt := 41) hx hb dX1_lambda_inTurn_0_35 (by decide) (fun c5 => ?_) (fun c5 => ?_)
        · replace hf := it_t c5 hf
          refine lv_iinc (v := (x5 + 1)) (lv' := [(5, .int (x5 + 1)), (7, .int v3.1), (6, .ref v2), (1, .int x1), (2, .int x2), (3, .ref x3), (4, .int x4)]) hx hb dX1_lambda_inTurn_0_41 hl (k := 6) rfl rfl (by decide) rfl (fun ls hl => ?_)
          refine lv_goto (tgt := 9) hx hb dX1_lambda_inTurn_0_44 (by decide) ?_
          exact (ih) x1 x2 x3 x4 (x5 + 1) v3.2.1 (nc + v3.2.2.1) ls H locs (ce + v3.2.2.1) (sl + v3.2.2.2) o4 hB (by omega) hT (lv_sub (l' := [(1, .int x1), (2, .int x2), (3, .ref x3), (4, .int x4), (5, .int (x5 + 1))]) hl [3, 4, 5, 6, 0] rfl) hf
        · replace hf := it_f c5 hf
          refine lv_iload hx hb dX1_lambda_inTurn_0_38 (lv_at hl 0 rfl) ?_
          have hE9 := TL_e hT hf
          subst hE9
          exact bt_i S hr hlocks hB (by omega) trivial dX1_lambda_inTurn_0_40
  have hT : TL out out 0 0 := TL_0
  rw [f_X1_lambda_inTurn_0] at hf
  refine lv_aload_n hx hb dX1_lambda_inTurn_0_0 rfl (lv_at hl 0 rfl) ?_
  refine lv_astore_n (i := 3) (lv' := [(3, .ref a0), (0, .ref a0), (1, .int a1), (2, .int a2)]) hx hb dX1_lambda_inTurn_0_1 rfl hl (by decide) rfl (fun ls hl => ?_)
  refine lv_aload_n hx hb dX1_lambda_inTurn_0_2 rfl (lv_at hl 0 rfl) ?_
  obtain ⟨v1, hv1, hf⟩ := ob_s hf
  refine b_alen S hS.1 hB hv1 dX1_lambda_inTurn_0_3 ?_
  refine lv_istore (lv' := [(4, .int v1), (3, .ref a0), (0, .ref a0), (1, .int a1), (2, .int a2)]) hx hb dX1_lambda_inTurn_0_4 hl (by decide) rfl (fun ls hl => ?_)
  refine lv_iconst hx hb dX1_lambda_inTurn_0_6 kc_i0 ?_
  refine lv_istore (lv' := [(5, .int 0), (4, .int v1), (3, .ref a0), (0, .ref a0), (1, .int a1), (2, .int a2)]) hx hb dX1_lambda_inTurn_0_7 hl (by decide) rfl (fun ls hl => ?_)
  exact (w9 FU) a1 a2 a0 v1 0 h nx ls s.heap [] 0 0 out hB (by omega) hT (lv_sub (l' := [(1, .int a1), (2, .int a2), (3, .ref a0), (4, .int v1), (5, .int 0)]) hl [4, 5, 2, 1, 0] rfl) hf
theorem hd_X1_lambda_sooner_2 : yX1_lambda_sooner_2.cls ≠ "java/lang/invoke/MethodHandle" ∧ yX1_lambda_sooner_2.cls ≠ "java/lang/invoke/VarHandle" ∧ (parseMethodDescriptor yX1_lambda_sooner_2.desc).map (fun d => d.parameters.length) = some 3 := by decide +kernel
set_option maxHeartbeats 4000000 in
set_option maxRecDepth 100000 in
theorem mm_X1_lambda_sooner_2 {a0 : Nat} {a1 : Int32} {a2 : Int32} {out : Int32 × AH × Nat × Nat} (hE : IfOK l G E fE lE) (hf : f_X1_lambda_sooner_2 E h nx a0 a1 a2 = some out) : Met l yX1_lambda_sooner_2 (ws_ yX1_lambda_sooner_2 cX1_lambda_sooner_2 3 (some .int)) (rC (fE + 1) (lE + 40) out.2.2.1 out.2.2.2) (bPc G E.1 hSites h nx [.ref a0, .int a1, .int a2]) (bQ G (some (.int out.1)) True out.2.1 (nx + out.2.2.1) (AA h nx)) out.2.2.1 out.2.2.2 (AA h nx) := by
  refine bGo (by decide +kernel) (Nat.le_of_ble_eq_true rfl) (fun p e s m below meth c ls S hr hlocks hin hnm hS hB hl => ?_)
  have S : CallFix p m c cX1_lambda_sooner_2 3 s _ lw_all RX1 := S
  obtain ⟨hx, hb, hml, hown, hts⟩ := id S
  have hl : lv_has ls 3 [(0, .ref a0), (1, .int a1), (2, .int a2)] := hl
  have hT : TL out out 0 0 := TL_0
  rw [f_X1_lambda_sooner_2] at hf
  refine lv_aload_n hx hb dX1_lambda_sooner_2_0 rfl (lv_at hl 0 rfl) ?_
  refine lv_iload_n hx hb dX1_lambda_sooner_2_1 rfl (lv_at hl 2 rfl) ?_
  obtain ⟨v1, hv1, hf⟩ := ob_s hf
  obtain ⟨o2, hf, hT⟩ := TL_c hT hf
  refine hE.1 _ _ _ _ _ _ _ _ _ _ _ _ _ _ _ _ _ _ _ _ _ _ _ _ _ _ _ _ S hS hB (hts _ q413) hv1 hl.1 ⟨(by show _ ≤ (fE + 1); omega), (by show _ ≤ (lE + 40); omega)⟩ (Nat.le_of_ble_eq_true rfl) ⟨(TL_m hT).1, (TL_m hT).2⟩ dX1_lambda_sooner_2_2 (fun H locs hnv1 hB => ?_)
  obtain ⟨v3, hv3, hf⟩ := ob_s hf
  refine mc_X1_7 S hS.1 hv3 hl.1 ⟨(by show _ ≤ (fE + 1); omega), (by show _ ≤ (lE + 40); omega)⟩ (Nat.le_of_ble_eq_true rfl) ⟨(TL_m hT).1, (TL_m hT).2⟩ dX1_lambda_sooner_2_7 (fun _ => ?_)
  refine lv_aload_n hx hb dX1_lambda_sooner_2_10 rfl (lv_at hl 0 rfl) ?_
  refine lv_iload_n hx hb dX1_lambda_sooner_2_11 rfl (lv_at hl 1 rfl) ?_
  obtain ⟨v4, hv4, hf⟩ := ob_s hf
  obtain ⟨o5, hf, hT⟩ := TL_c hT hf
  refine hE.1 _ _ _ _ _ _ _ _ _ _ _ _ _ _ _ _ _ _ _ _ _ _ _ _ _ _ _ _ S hS hB (hts _ q413) hv4 hl.1 ⟨(by show _ ≤ (fE + 1); omega), (by show _ ≤ (lE + 40); omega)⟩ (Nat.le_of_ble_eq_true rfl) ⟨(TL_m hT).1, (TL_m hT).2⟩ dX1_lambda_sooner_2_12 (fun H locs hnv4 hB => ?_)
  obtain ⟨v6, hv6, hf⟩ := ob_s hf
  refine mc_X1_7 S hS.1 hv6 hl.1 ⟨(by show _ ≤ (fE + 1); omega), (by show _ ≤ (lE + 40); omega)⟩ (Nat.le_of_ble_eq_true rfl) ⟨(TL_m hT).1, (TL_m hT).2⟩ dX1_lambda_sooner_2_17 (fun _ => ?_)
  refine lv_isub hx hb dX1_lambda_sooner_2_20 ?_
  have hE9 := TL_e hT hf
  subst hE9
  exact bt_i S hr hlocks hB (by omega) trivial dX1_lambda_sooner_2_21
theorem hd_X1_status : yX1_status.cls = RX1 ∧ yX1_status.cls ≠ "java/lang/invoke/MethodHandle" ∧ yX1_status.cls ≠ "java/lang/invoke/VarHandle" ∧ (parseMethodDescriptor yX1_status.desc).map (fun d => d.parameters.length) = some 0 := by decide +kernel
set_option maxHeartbeats 4000000 in
set_option maxRecDepth 100000 in
theorem mm_X1_status {o : Nat} {out : Int32} (hf : f_X1_status E h o = some out) : Met l yX1_status (ws_ yX1_status cX1_status 1 (some .int)) (rM (fE + 0) (lE + 0)) (bPc G E.1 hSites h nx [.ref o]) (gR (some (.int out)) True) 0 0 (fun _ => False) := by
  refine bGo (by decide +kernel) (Nat.le_of_ble_eq_true rfl) (fun p e s m below meth c ls S hr hlocks hin hnm hS hB hl => ?_)
  have S : CallFix p m c cX1_status 1 s _ lw_all RX1 := S
  obtain ⟨hx, hb, hml, hown, hts⟩ := id S
  have hl : lv_has ls 1 [(0, .ref o)] := hl
  rw [f_X1_status] at hf
  refine lv_aload_n hx hb dX1_status_0 rfl (lv_at hl 0 rfl) ?_
  obtain ⟨v1, hv1, hf⟩ := ob_s hf
  refine bg_X1_127 S hS hB (vI_s hv1) dX1_status_1 ?_
  have hE9 := Option.some.inj hf
  subst hE9
  exact gt_ri S hr hlocks trivial dX1_status_4
theorem hd_X1_feeds : yX1_feeds.cls = RX1 ∧ yX1_feeds.cls ≠ "java/lang/invoke/MethodHandle" ∧ yX1_feeds.cls ≠ "java/lang/invoke/VarHandle" ∧ (parseMethodDescriptor yX1_feeds.desc).map (fun d => d.parameters.length) = some 1 := by decide +kernel
set_option maxHeartbeats 4000000 in
set_option maxRecDepth 100000 in
theorem mm_X1_feeds {o : Nat} {a0 : Nat} {out : Int32 × AH × Nat × Nat} (hf : f_X1_feeds E h nx o a0 = some out) : Met l yX1_feeds (ws_ yX1_feeds cX1_feeds 7 (some .int)) (rC (fE + 0) (lE + 0) out.2.2.1 out.2.2.2) (bPc G E.1 hSites h nx [.ref o, .ref a0]) (bQ G (some (.int out.1)) True out.2.1 (nx + out.2.2.1) (AA h nx)) out.2.2.1 out.2.2.2 (AA h nx) := by
  refine bGo (by decide +kernel) (Nat.le_of_ble_eq_true rfl) (fun p e s m below meth c ls S hr hlocks hin hnm hS hB hl => ?_)
  have S : CallFix p m c cX1_feeds 7 s _ lw_all RX1 := S
  obtain ⟨hx, hb, hml, hown, hts⟩ := id S
  have hl : lv_has ls 7 [(0, .ref o), (1, .ref a0)] := hl
  have w24 : ∀ (n : Nat) (k8 : Nat → Nat → Int32 → Int32 → AH → Nat → Option (Int32 × AH × Nat × Nat)), (∀ (b0 : Nat) (b1 : Nat) (b2 : Int32) (b3 : Int32) (b4 : AH) (b5 : Nat) (ls : Array Slot) (H : Heap) (locs : List Loc) (ce sl : Nat) (o1 : Int32 × AH × Nat × Nat), BI G (AA h nx) s.heap b4 b5 H locs → b5 = nx + ce → TL out o1 ce sl → lv_has ls 7 [(0, .ref b0), (2, .ref b1), (3, .int b2), (4, .int b3)] → k8 b0 b1 b2 b3 b4 b5 = some o1 → W p l e (rC (fE + 0) (lE + 0) out.2.2.1 out.2.2.2) s m ([.ref o, .ref a0] : List Value).toArray below meth c H locs ce sl (MQ below (bQ G (some (.int out.1)) True out.2.1 (nx + out.2.2.1) (AA h nx)) ([.ref o, .ref a0] : List Value).toArray s out.2.2.1 out.2.2.2 (AA h nx)) (F0 m 8 ls [])) → ∀ (x0 : Nat) (x2 : Nat) (x3 : Int32) (x4 : Int32) (x5 : Int32) (x6 : Int32) (hc : AH) (nc : Nat) (ls : Array Slot) (H : Heap) (locs : List Loc) (ce sl : Nat) (o1 : Int32 × AH × Nat × Nat), BI G (AA h nx) s.heap hc nc H locs → nc = nx + ce → TL out o1 ce sl → lv_has ls 7 [(0, .ref x0), (2, .ref x2), (3, .int x3), (4, .int x4), (5, .int x5), (6, .int x6)] → f_X1_feeds_24 n k8 E x0 x2 x3 x4 x5 x6 hc nc = some o1 → W p l e (rC (fE + 0) (lE + 0) out.2.2.1 out.2.2.2) s m ([.ref o, .ref a0] : List Value).toArray below meth c H locs ce sl (MQ below (bQ G (some (.int out.1)) True out.2.1 (nx + out.2.2.1) (AA h nx)) ([.ref o, .ref a0] : List Value).toArray s out.2.2.1 out.2.2.2 (AA h nx)) (F0 m 24 ls []) := by
    intro n
    induction n with
    | zero =>
      intro k8 hk8 x0 x2 x3 x4 x5 x6 hc nc ls H locs ce sl o1 hB hn hT hl hf
      exact absurd hf (by rw [f_X1_feeds_24]; exact nofun)
    | succ n ih =>
      intro k8 hk8 x0 x2 x3 x4 x5 x6 hc nc ls H locs ce sl o1 hB hn hT hl hf
      rw [f_X1_feeds_24] at hf
      refine lv_iload hx hb dX1_feeds_24 (lv_at hl 5 rfl) ?_
      refine lv_if_lt (tgt := 60) hx hb dX1_feeds_26 (by decide) (fun c1 => ?_) (fun c1 => ?_)
      · replace hf := it_t c1 hf
        refine lv_iinc (v := (x4 + 1)) (lv' := [(4, .int (x4 + 1)), (0, .ref x0), (2, .ref x2), (3, .int x3), (5, .int x5), (6, .int x6)]) hx hb dX1_feeds_60 hl (k := 3) rfl rfl (by decide) rfl (fun ls hl => ?_)
        refine lv_goto (tgt := 8) hx hb dX1_feeds_63 (by decide) ?_
        exact hk8 x0 x2 x3 (x4 + 1) hc nc ls H locs ce sl o1 hB (by omega) hT (lv_sub (l' := [(0, .ref x0), (2, .ref x2), (3, .int x3), (4, .int (x4 + 1))]) hl [1, 2, 3, 0] rfl) hf
      · replace hf := it_f c1 hf
        refine lv_aload_n hx hb dX1_feeds_29 rfl (lv_at hl 0 rfl) ?_
        obtain ⟨v2, hv2, hf⟩ := ob_s hf
        refine bg_X1_116 S hS hB (vR_s hv2) dX1_feeds_30 ?_
        refine lv_aload_n hx hb dX1_feeds_33 rfl (lv_at hl 0 rfl) ?_
        obtain ⟨v3, hv3, hf⟩ := ob_s hf
        refine bg_X1_148 S hS hB (vI_s hv3) dX1_feeds_34 ?_
        refine lv_iload hx hb dX1_feeds_37 (lv_at hl 4 rfl) ?_
        refine lv_iload hx hb dX1_feeds_39 (lv_at hl 5 rfl) ?_
        refine lv_ishr hx hb dX1_feeds_41 ?_
        refine lv_i2b hx hb dX1_feeds_42 rfl ?_
        obtain ⟨h4, hh4, hf⟩ := ob_s hf
        refine b_bast S hS.1 hB hh4 dX1_feeds_43 (fun H locs hB => ?_)
        refine lv_aload_n hx hb dX1_feeds_44 rfl (lv_at hl 0 rfl) ?_
        refine lv_dup hx hb dX1_feeds_45 rfl ?_
        obtain ⟨v5, hv5, hf⟩ := ob_s hf
        refine bg_X1_148 S hS hB (vI_s hv5) dX1_feeds_46 ?_
        refine lv_iconst hx hb dX1_feeds_49 kc_i1 ?_
        refine lv_iadd hx hb dX1_feeds_50 ?_
        obtain ⟨h6, hh6, hf⟩ := ob_s hf
        refine bp_X1_148 S hS hB hh6 dX1_feeds_51 (fun H locs hB => ?_)
        refine lv_iinc (v := (x6 + (-8))) (lv' := [(6, .int (x6 + (-8))), (0, .ref x0), (2, .ref x2), (3, .int x3), (4, .int x4), (5, .int x5)]) hx hb dX1_feeds_54 hl (k := 5) rfl rfl (by decide) rfl (fun ls hl => ?_)
        refine lv_goto (tgt := 24) hx hb dX1_feeds_57 (by decide) ?_
        exact (ih k8 hk8) x0 x2 x3 x4 x5 (x6 + (-8)) h6 nc ls H locs ce sl o1 hB (by omega) hT (lv_sub (l' := [(0, .ref x0), (2, .ref x2), (3, .int x3), (4, .int x4), (5, .int x5), (6, .int (x6 + (-8)))]) hl [1, 2, 3, 4, 5, 0] rfl) hf
  have w8 : ∀ (n : Nat) , ∀ (x0 : Nat) (x2 : Nat) (x3 : Int32) (x4 : Int32) (hc : AH) (nc : Nat) (ls : Array Slot) (H : Heap) (locs : List Loc) (ce sl : Nat) (o1 : Int32 × AH × Nat × Nat), BI G (AA h nx) s.heap hc nc H locs → nc = nx + ce → TL out o1 ce sl → lv_has ls 7 [(0, .ref x0), (2, .ref x2), (3, .int x3), (4, .int x4)] → f_X1_feeds_8 n E x0 x2 x3 x4 hc nc = some o1 → W p l e (rC (fE + 0) (lE + 0) out.2.2.1 out.2.2.2) s m ([.ref o, .ref a0] : List Value).toArray below meth c H locs ce sl (MQ below (bQ G (some (.int out.1)) True out.2.1 (nx + out.2.2.1) (AA h nx)) ([.ref o, .ref a0] : List Value).toArray s out.2.2.1 out.2.2.2 (AA h nx)) (F0 m 8 ls []) := by
    intro n
    induction n with
    | zero =>
      intro x0 x2 x3 x4 hc nc ls H locs ce sl o1 hB hn hT hl hf
      exact absurd hf (by rw [f_X1_feeds_8]; exact nofun)
    | succ n ih =>
      intro x0 x2 x3 x4 hc nc ls H locs ce sl o1 hB hn hT hl hf
      rw [f_X1_feeds_8] at hf
      refine lv_iload hx hb dX1_feeds_8 (lv_at hl 3 rfl) ?_
      refine lv_iload_n hx hb dX1_feeds_10 rfl (lv_at hl 2 rfl) ?_
      refine lv_icmp_ge (tgt := 66) hx hb dX1_feeds_11 (by decide) (fun c1 => ?_) (fun c1 => ?_)
      · replace hf := it_t c1 hf
        refine lv_aload_n hx hb dX1_feeds_66 rfl (lv_at hl 0 rfl) ?_
        obtain ⟨v2, hv2, hf⟩ := ob_s hf
        refine bg_X1_148 S hS hB (vI_s hv2) dX1_feeds_67 ?_
        have hE9 := TL_e hT hf
        subst hE9
        exact bt_i S hr hlocks hB (by omega) trivial dX1_feeds_70
      · replace hf := it_f c1 hf
        refine lv_aload_n hx hb dX1_feeds_14 rfl (lv_at hl 1 rfl) ?_
        refine lv_iload hx hb dX1_feeds_15 (lv_at hl 3 rfl) ?_
        obtain ⟨v3, hv3, hf⟩ := ob_s hf
        refine b_iald S hS.1 hB hv3 dX1_feeds_17 ?_
        refine lv_istore (lv' := [(5, .int v3), (0, .ref x0), (2, .ref x2), (3, .int x3), (4, .int x4)]) hx hb dX1_feeds_18 hl (by decide) rfl (fun ls hl => ?_)
        refine lv_bipush hx hb dX1_feeds_20 kc_b24 ?_
        refine lv_istore (lv' := [(6, .int (nI 24)), (5, .int v3), (0, .ref x0), (2, .ref x2), (3, .int x3), (4, .int x4)]) hx hb dX1_feeds_22 hl (by decide) rfl (fun ls hl => ?_)
        exact (w24 FU (f_X1_feeds_8 n E) (ih)) x0 x2 x3 x4 v3 (nI 24) hc nc ls H locs ce sl o1 hB (by omega) hT (lv_sub (l' := [(0, .ref x0), (2, .ref x2), (3, .int x3), (4, .int x4), (5, .int v3), (6, .int (nI 24))]) hl [2, 3, 4, 5, 1, 0] rfl) hf
  have hT : TL out out 0 0 := TL_0
  rw [f_X1_feeds] at hf
  refine lv_aload_n hx hb dX1_feeds_0 rfl (lv_at hl 1 rfl) ?_
  refine lv_astore_n (i := 2) (lv' := [(2, .ref a0), (0, .ref o), (1, .ref a0)]) hx hb dX1_feeds_1 rfl hl (by decide) rfl (fun ls hl => ?_)
  refine lv_aload_n hx hb dX1_feeds_2 rfl (lv_at hl 0 rfl) ?_
  obtain ⟨v1, hv1, hf⟩ := ob_s hf
  refine b_alen S hS.1 hB hv1 dX1_feeds_3 ?_
  refine lv_istore_n (i := 3) (lv' := [(3, .int v1), (2, .ref a0), (0, .ref o), (1, .ref a0)]) hx hb dX1_feeds_4 rfl hl (by decide) rfl (fun ls hl => ?_)
  refine lv_iconst hx hb dX1_feeds_5 kc_i0 ?_
  refine lv_istore (lv' := [(4, .int 0), (3, .int v1), (2, .ref a0), (0, .ref o), (1, .ref a0)]) hx hb dX1_feeds_6 hl (by decide) rfl (fun ls hl => ?_)
  exact (w8 FU) o a0 v1 0 h nx ls s.heap [] 0 0 out hB (by omega) hT (lv_sub (l' := [(0, .ref o), (2, .ref a0), (3, .int v1), (4, .int 0)]) hl [3, 2, 1, 0] rfl) hf
set_option maxRecDepth 100000 in
theorem mc_X1_151 {o : Nat} {a0 : Nat} {out : Int32 × AH × Nat × Nat} (S : CallFix p m c cc nL s args lw_all RX1) (hS : SK G E.1 hSites A s) (hB : BI G A s.heap h nx H locs) (ho : isO h o 0 = true) (hf : f_X1_feeds E h nx o a0 = some out) (hsz : ls.size = nL) (hR : (fE + 0) + 1 ≤ R.frames ∧ 8 + (7 + 11) + (lE + 0) ≤ R.locals) (hW : (rest.map fun v => v.category).sum ≤ 8) (hcs : cells + out.2.2.1 ≤ R.cells ∧ slots + out.2.2.2 ≤ R.slots) (hdg : decode cc pc = .ok (.invokevirtual 151, 3))  (kk : ∀ (H1 : Heap) (locs1 : List Loc), True → BI G A s.heap out.2.1 (nx + out.2.2.1) H1 locs1 → W p l e R s m args below meth c H1 locs1 (cells + out.2.2.1) (slots + out.2.2.2) Q (F0 m (pc + 3) ls (.int out.1 :: rest))) : W p l e R s m args below meth c H locs cells slots Q (F0 m pc ls (.ref a0 :: .ref o :: rest)) := by
  have hN := hS.2.1
  obtain ⟨fs, he⟩ := isO_s ho
  exact br_w (va_runV (As := [.ref a0]) S (mm_X1_feeds (l := l) (G := G) (fE := fE) (lE := lE) hf) (cwV 1 S.2.2.2.2 (lw_V q643 q645 qs14 q174 q646) rfl rfl rfl hd_X1_feeds hR) (bPreV hS hB (ci := 0) rfl he) rfl rfl hsz rfl (lv_room hW) hdg hcs) hB kk
theorem hd_X1_feed : yX1_feed.cls = RX1 ∧ yX1_feed.cls ≠ "java/lang/invoke/MethodHandle" ∧ yX1_feed.cls ≠ "java/lang/invoke/VarHandle" ∧ (parseMethodDescriptor yX1_feed.desc).map (fun d => d.parameters.length) = some 5 := by decide +kernel
set_option maxHeartbeats 4000000 in
set_option maxRecDepth 100000 in
theorem mm_X1_feed {o : Nat} {a0 : Int32} {a1 : Int32} {a2 : Int32} {a3 : Int32} {a4 : Int32} {out : Int32 × AH × Nat × Nat} (hf : f_X1_feed E h nx o a0 a1 a2 a3 a4 = some out) : Met l yX1_feed (ws_ yX1_feed cX1_feed 6 (some .int)) (rC (fE + 1) (lE + 26) out.2.2.1 out.2.2.2) (bPc G E.1 hSites h nx [.ref o, .int a0, .int a1, .int a2, .int a3, .int a4]) (bQ G (some (.int out.1)) True out.2.1 (nx + out.2.2.1) (AA h nx)) out.2.2.1 out.2.2.2 (AA h nx) := by
  refine bGo (by decide +kernel) (Nat.le_of_ble_eq_true rfl) (fun p e s m below meth c ls S hr hlocks hin hnm hS hB hl => ?_)
  have S : CallFix p m c cX1_feed 6 s _ lw_all RX1 := S
  obtain ⟨hx, hb, hml, hown, hts⟩ := id S
  have hl : lv_has ls 6 [(0, .ref o), (1, .int a0), (2, .int a1), (3, .int a2), (4, .int a3), (5, .int a4)] := hl
  have hT : TL out out 0 0 := TL_0
  rw [f_X1_feed] at hf
  refine lv_aload_n hx hb dX1_feed_0 rfl (lv_at hl 0 rfl) ?_
  obtain ⟨v1, hv1, hf⟩ := ob_s hf
  refine bg_X1_148 S hS hB (vI_s hv1) dX1_feed_1 ?_
  refine lv_bipush hx hb dX1_feed_4 kc_b20 ?_
  refine lv_iadd hx hb dX1_feed_6 ?_
  refine lv_sipush hx hb dX1_feed_7 kc_s900 ?_
  refine lv_icmp_le (tgt := 17) hx hb dX1_feed_10 (by decide) (fun c2 => ?_) (fun c2 => ?_)
  · replace hf := it_t c2 hf
    refine lv_aload_n hx hb dX1_feed_17 rfl (lv_at hl 0 rfl) ?_
    refine lv_iconst hx hb dX1_feed_18 kc_i5 ?_
    obtain ⟨o3, hf, hT⟩ := TL_c hT hf
    refine b_newI S hS hB kn_5 kna_5 (TL_m hT).1 (TL_m hT).2 dX1_feed_19 (fun H hB => ?_)
    refine lv_dup hx hb dX1_feed_21 rfl ?_
    refine lv_iconst hx hb dX1_feed_22 kc_i0 ?_
    refine lv_iload_n hx hb dX1_feed_23 rfl (lv_at hl 1 rfl) ?_
    obtain ⟨h4, hh4, hf⟩ := ob_s hf
    refine b_iast S hS.1 hB hh4 dX1_feed_24 (fun H locs hB => ?_)
    refine lv_dup hx hb dX1_feed_25 rfl ?_
    refine lv_iconst hx hb dX1_feed_26 kc_i1 ?_
    refine lv_iload_n hx hb dX1_feed_27 rfl (lv_at hl 2 rfl) ?_
    obtain ⟨h5, hh5, hf⟩ := ob_s hf
    refine b_iast S hS.1 hB hh5 dX1_feed_28 (fun H locs hB => ?_)
    refine lv_dup hx hb dX1_feed_29 rfl ?_
    refine lv_iconst hx hb dX1_feed_30 kc_i2 ?_
    refine lv_iload_n hx hb dX1_feed_31 rfl (lv_at hl 3 rfl) ?_
    obtain ⟨h6, hh6, hf⟩ := ob_s hf
    refine b_iast S hS.1 hB hh6 dX1_feed_32 (fun H locs hB => ?_)
    refine lv_dup hx hb dX1_feed_33 rfl ?_
    refine lv_iconst hx hb dX1_feed_34 kc_i3 ?_
    refine lv_iload hx hb dX1_feed_35 (lv_at hl 4 rfl) ?_
    obtain ⟨h7, hh7, hf⟩ := ob_s hf
    refine b_iast S hS.1 hB hh7 dX1_feed_37 (fun H locs hB => ?_)
    refine lv_dup hx hb dX1_feed_38 rfl ?_
    refine lv_iconst hx hb dX1_feed_39 kc_i4 ?_
    refine lv_iload hx hb dX1_feed_40 (lv_at hl 5 rfl) ?_
    obtain ⟨h8, hh8, hf⟩ := ob_s hf
    refine b_iast S hS.1 hB hh8 dX1_feed_42 (fun H locs hB => ?_)
    obtain ⟨g9, hf⟩ := gd_t hf
    obtain ⟨v10, hv10, hf⟩ := ob_s hf
    obtain ⟨o11, hf, hT⟩ := TL_c hT hf
    refine mc_X1_151 (fE := fE) (lE := lE) S hS hB g9 hv10 hl.1 ⟨(by show _ ≤ (fE + 1); omega), (by show _ ≤ (lE + 26); omega)⟩ (Nat.le_of_ble_eq_true rfl) ⟨(TL_m hT).1, (TL_m hT).2⟩ dX1_feed_43 (fun H locs _ hB => ?_)
    have hE9 := TL_e hT hf
    subst hE9
    exact bt_i S hr hlocks hB (by omega) trivial dX1_feed_46
  · replace hf := it_f c2 hf
    refine lv_iconst hx hb dX1_feed_13 kc_im1 ?_
    refine lv_goto (tgt := 46) hx hb dX1_feed_14 (by decide) ?_
    have hE9 := TL_e hT hf
    subst hE9
    exact bt_i S hr hlocks hB (by omega) trivial dX1_feed_46
end
