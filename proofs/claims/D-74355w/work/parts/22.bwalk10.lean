section
variable {l : Launch} {D : va_G} {cl : List vw_C} {tys : List (ClassId × FieldType)} {G : hG} {E : bE} {fE lE : Nat} {h : AH} {nx : Nat} {A : Nat → Prop}
variable {p : Program} {e : Env} {R : Room} {s : State} {m : MethodId} {args : Array Value} {below : List Frame} {meth : Method} {c : Code} {H H0 : Heap} {locs : List Loc} {cells slots : Nat} {Q : State → Prop} {cc : ByteArray} {nL pc : Nat} {ls : Array Slot} {rest : List Value}
theorem hd_X1_gap : yX1_gap.cls = RX1 ∧ yX1_gap.cls ≠ "java/lang/invoke/MethodHandle" ∧ yX1_gap.cls ≠ "java/lang/invoke/VarHandle" ∧ (parseMethodDescriptor yX1_gap.desc).map (fun d => d.parameters.length) = some 2 := by decide +kernel
set_option maxHeartbeats 4000000 in
set_option maxRecDepth 100000 in
theorem mm_X1_gap {o : Nat} {a0 : Int32} {a1 : Int32} {out : Int32 × AH × Nat × Nat} (hE : IfOK l G E fE lE) (hf : f_X1_gap E h nx o a0 a1 = some out) : Met l yX1_gap (ws_ yX1_gap cX1_gap 5 (some .int)) (rC (fE + 6) (lE + 129) out.2.2.1 out.2.2.2) (bPc G E.1 hSites h nx [.ref o, .int a0, .int a1]) (bQ G (some (.int out.1)) True out.2.1 (nx + out.2.2.1) (AA h nx)) out.2.2.1 out.2.2.2 (AA h nx) := by
  refine bGo (by decide +kernel) (Nat.le_of_ble_eq_true rfl) (fun p e s m below meth c ls S hr hlocks hin hnm hS hB hl => ?_)
  have S : CallFix p m c cX1_gap 5 s _ lw_all RX1 := S
  obtain ⟨hx, hb, hml, hown, hts⟩ := id S
  have hl : lv_has ls 5 [(0, .ref o), (1, .int a0), (2, .int a1)] := hl
  have w37 : ∀ (n : Nat) , ∀ (x0 : Nat) (x1 : Int32) (x2 : Int32) (x4 : Int32) (hc : AH) (nc : Nat) (ls : Array Slot) (H : Heap) (locs : List Loc) (ce sl : Nat) (o1 : Int32 × AH × Nat × Nat), BI G (AA h nx) s.heap hc nc H locs → nc = nx + ce → TL out o1 ce sl → lv_has ls 5 [(0, .ref x0), (1, .int x1), (2, .int x2), (4, .int x4)] → f_X1_gap_37 n E x0 x1 x2 x4 hc nc = some o1 → W p l e (rC (fE + 6) (lE + 129) out.2.2.1 out.2.2.2) s m ([.ref o, .int a0, .int a1] : List Value).toArray below meth c H locs ce sl (MQ below (bQ G (some (.int out.1)) True out.2.1 (nx + out.2.2.1) (AA h nx)) ([.ref o, .int a0, .int a1] : List Value).toArray s out.2.2.1 out.2.2.2 (AA h nx)) (F0 m 37 ls []) := by
    intro n
    induction n with
    | zero =>
      intro x0 x1 x2 x4 hc nc ls H locs ce sl o1 hB hn hT hl hf
      exact absurd hf (by rw [f_X1_gap_37]; exact nofun)
    | succ n ih =>
      intro x0 x1 x2 x4 hc nc ls H locs ce sl o1 hB hn hT hl hf
      rw [f_X1_gap_37] at hf
      refine lv_iload hx hb dX1_gap_37 (lv_at hl 3 rfl) ?_
      refine lv_aload_n hx hb dX1_gap_39 rfl (lv_at hl 0 rfl) ?_
      obtain ⟨v1, hv1, hf⟩ := ob_s hf
      refine bg_X1_70 S hS hB (vR_s hv1) dX1_gap_40 ?_
      refine lv_iload_n hx hb dX1_gap_43 rfl (lv_at hl 1 rfl) ?_
      obtain ⟨g2, hf⟩ := gd_t hf
      obtain ⟨v3, hv3, hf⟩ := ob_s hf
      refine mc_X1_284 (fE := fE) (lE := lE) S hS hB g2 hv3 hl.1 ⟨(by show _ ≤ (fE + 6); omega), (by show _ ≤ (lE + 129); omega)⟩ (Nat.le_of_ble_eq_true rfl) ⟨(TL_m hT).1, (TL_m hT).2⟩ dX1_gap_44 (fun _ => ?_)
      refine lv_icmp_ge (tgt := 70) hx hb dX1_gap_47 (by decide) (fun c4 => ?_) (fun c4 => ?_)
      · replace hf := it_t c4 hf
        refine lv_aload_n hx hb dX1_gap_70 rfl (lv_at hl 0 rfl) ?_
        refine lv_iconst hx hb dX1_gap_71 kc_i5 ?_
        obtain ⟨g5, hf⟩ := gd_t hf
        obtain ⟨v6, hv6, hf⟩ := ob_s hf
        obtain ⟨o7, hf, hT⟩ := TL_c hT hf
        refine mc_X1_174 (fE := fE) (lE := lE) S hS hB g5 hv6 hl.1 ⟨(by show _ ≤ (fE + 6); omega), (by show _ ≤ (lE + 129); omega)⟩ (Nat.le_of_ble_eq_true rfl) ⟨(TL_m hT).1, (TL_m hT).2⟩ dX1_gap_72 (fun H locs _ hB => ?_)
        have hE9 := TL_e hT hf
        subst hE9
        exact bt_i S hr hlocks hB (by omega) trivial dX1_gap_75
      · replace hf := it_f c4 hf
        refine lv_aload_n hx hb dX1_gap_50 rfl (lv_at hl 0 rfl) ?_
        refine lv_iload_n hx hb dX1_gap_51 rfl (lv_at hl 1 rfl) ?_
        refine lv_iload_n hx hb dX1_gap_52 rfl (lv_at hl 2 rfl) ?_
        refine lv_iload hx hb dX1_gap_53 (lv_at hl 3 rfl) ?_
        obtain ⟨g8, hf⟩ := gd_t hf
        obtain ⟨v9, hv9, hf⟩ := ob_s hf
        obtain ⟨o10, hf, hT⟩ := TL_c hT hf
        refine mc_X1_538 (fE := fE) (lE := lE) S hE hS hB g8 hv9 hl.1 ⟨(by show _ ≤ (fE + 6); omega), (by show _ ≤ (lE + 129); omega)⟩ (Nat.le_of_ble_eq_true rfl) ⟨(TL_m hT).1, (TL_m hT).2⟩ dX1_gap_55 (fun H locs hnv9 hB => ?_)
        refine lv_if_eq (tgt := 64) hx hb dX1_gap_58 (by decide) (fun c11 => ?_) (fun c11 => ?_)
        · replace hf := it_t c11 hf
          refine lv_iinc (v := (x4 + 1)) (lv' := [(4, .int (x4 + 1)), (0, .ref x0), (1, .int x1), (2, .int x2)]) hx hb dX1_gap_64 hl (k := 3) rfl rfl (by decide) rfl (fun ls hl => ?_)
          refine lv_goto (tgt := 37) hx hb dX1_gap_67 (by decide) ?_
          exact (ih) x0 x1 x2 (x4 + 1) v9.2.1 (nc + v9.2.2.1) ls H locs (ce + v9.2.2.1) (sl + v9.2.2.2) o10 hB (by omega) hT (lv_sub (l' := [(0, .ref x0), (1, .int x1), (2, .int x2), (4, .int (x4 + 1))]) hl [1, 2, 3, 0] rfl) hf
        · replace hf := it_f c11 hf
          refine lv_iload hx hb dX1_gap_61 (lv_at hl 3 rfl) ?_
          have hE9 := TL_e hT hf
          subst hE9
          exact bt_i S hr hlocks hB (by omega) trivial dX1_gap_63
  have w26 : ∀ (x0 : Nat) (x1 : Int32) (x2 : Int32) (y0 : Nat) (y1 : Int32) (hc : AH) (nc : Nat) (ls : Array Slot) (H : Heap) (locs : List Loc) (ce sl : Nat) (o1 : Int32 × AH × Nat × Nat), BI G (AA h nx) s.heap hc nc H locs → nc = nx + ce → TL out o1 ce sl → lv_has ls 5 [(0, .ref x0), (1, .int x1), (2, .int x2)] → f_X1_gap_26 E x0 x1 x2 y0 y1 hc nc = some o1 → W p l e (rC (fE + 6) (lE + 129) out.2.2.1 out.2.2.2) s m ([.ref o, .int a0, .int a1] : List Value).toArray below meth c H locs ce sl (MQ below (bQ G (some (.int out.1)) True out.2.1 (nx + out.2.2.1) (AA h nx)) ([.ref o, .int a0, .int a1] : List Value).toArray s out.2.2.1 out.2.2.2 (AA h nx)) (F0 m 26 ls [.int y1, .ref y0]) := by
    intro x0 x1 x2 y0 y1 hc nc ls H locs ce sl o1 hB hn hT hl hf
    rw [f_X1_gap_26] at hf
    obtain ⟨g1, hf⟩ := gd_t hf
    obtain ⟨v2, hv2, hf⟩ := ob_s hf
    obtain ⟨o3, hf, hT⟩ := TL_c hT hf
    refine mc_X1_155 (fE := fE) (lE := lE) S hS hB g1 hv2 hl.1 ⟨(by show _ ≤ (fE + 6); omega), (by show _ ≤ (lE + 129); omega)⟩ (Nat.le_of_ble_eq_true rfl) ⟨(TL_m hT).1, (TL_m hT).2⟩ dX1_gap_26 (fun H locs hnv2 hB => ?_)
    refine lv_if_ne (tgt := 34) hx hb dX1_gap_29 (by decide) (fun c4 => ?_) (fun c4 => ?_)
    · replace hf := it_f c4 hf
      refine lv_iconst hx hb dX1_gap_34 kc_i0 ?_
      refine lv_istore (lv' := [(4, .int 0), (0, .ref x0), (1, .int x1), (2, .int x2)]) hx hb dX1_gap_35 hl (by decide) rfl (fun ls hl => ?_)
      exact (w37 FU) x0 x1 x2 0 v2.2.1 (nc + v2.2.2.1) ls H locs (ce + v2.2.2.1) (sl + v2.2.2.2) o3 hB (by omega) hT (lv_sub (l' := [(0, .ref x0), (1, .int x1), (2, .int x2), (4, .int 0)]) hl [1, 2, 3, 0] rfl) hf
    · replace hf := it_t c4 hf
      refine lv_iconst hx hb dX1_gap_32 kc_im1 ?_
      have hE9 := TL_e hT hf
      subst hE9
      exact bt_i S hr hlocks hB (by omega) trivial dX1_gap_33
  have hT : TL out out 0 0 := TL_0
  rw [f_X1_gap] at hf
  refine lv_aload_n hx hb dX1_gap_0 rfl (lv_at hl 0 rfl) ?_
  refine lv_iload_n hx hb dX1_gap_1 rfl (lv_at hl 1 rfl) ?_
  refine lv_iload_n hx hb dX1_gap_2 rfl (lv_at hl 2 rfl) ?_
  obtain ⟨g1, hf⟩ := gd_t hf
  obtain ⟨v2, hv2, hf⟩ := ob_s hf
  refine mc_X1_319 (fE := fE) (lE := lE) S hS hB g1 hv2 hl.1 ⟨(by show _ ≤ (fE + 6); omega), (by show _ ≤ (lE + 129); omega)⟩ (Nat.le_of_ble_eq_true rfl) ⟨(TL_m hT).1, (TL_m hT).2⟩ dX1_gap_3 (fun _ => ?_)
  refine lv_istore_n (i := 3) (lv' := [(3, .int v2), (0, .ref o), (1, .int a0), (2, .int a1)]) hx hb dX1_gap_6 rfl hl (by decide) rfl (fun ls hl => ?_)
  refine lv_aload_n hx hb dX1_gap_7 rfl (lv_at hl 1 rfl) ?_
  refine lv_iload_n hx hb dX1_gap_8 rfl (lv_at hl 0 rfl) ?_
  refine lv_if_ne (tgt := 25) hx hb dX1_gap_9 (by decide) (fun c3 => ?_) (fun c3 => ?_)
  · replace hf := it_f c3 hf
    refine lv_iload_n hx hb dX1_gap_25 rfl (lv_at hl 0 rfl) ?_
    exact (w26) o a0 a1 o v2 h nx ls s.heap [] 0 0 out hB (by omega) hT (lv_sub (l' := [(0, .ref o), (1, .int a0), (2, .int a1)]) hl [1, 2, 3] rfl) hf
  · replace hf := it_t c3 hf
    refine lv_aload_n hx hb dX1_gap_12 rfl (lv_at hl 1 rfl) ?_
    refine lv_iload_n hx hb dX1_gap_13 rfl (lv_at hl 2 rfl) ?_
    refine lv_iload_n hx hb dX1_gap_14 rfl (lv_at hl 3 rfl) ?_
    obtain ⟨g4, hf⟩ := gd_t hf
    obtain ⟨v5, hv5, hf⟩ := ob_s hf
    refine mc_X1_341 (fE := fE) (lE := lE) S hS hB g4 hv5 hl.1 ⟨(by show _ ≤ (fE + 6); omega), (by show _ ≤ (lE + 129); omega)⟩ (Nat.le_of_ble_eq_true rfl) ⟨(TL_m hT).1, (TL_m hT).2⟩ dX1_gap_15 (fun hnv5 => ?_)
    refine lv_if_ne (tgt := 25) hx hb dX1_gap_18 (by decide) (fun c6 => ?_) (fun c6 => ?_)
    · replace hf := it_f c6 hf
      refine lv_iload_n hx hb dX1_gap_25 rfl (lv_at hl 0 rfl) ?_
      exact (w26) o a0 a1 o v2 h nx ls s.heap [] 0 0 out hB (by omega) hT (lv_sub (l' := [(0, .ref o), (1, .int a0), (2, .int a1)]) hl [1, 2, 3] rfl) hf
    · replace hf := it_t c6 hf
      refine lv_iconst hx hb dX1_gap_21 kc_i5 ?_
      refine lv_goto (tgt := 26) hx hb dX1_gap_22 (by decide) ?_
      exact (w26) o a0 a1 o (nI 5) h nx ls s.heap [] 0 0 out hB (by omega) hT (lv_sub (l' := [(0, .ref o), (1, .int a0), (2, .int a1)]) hl [1, 2, 3] rfl) hf
theorem hd_X1_remembers : yX1_remembers.cls = RX1 ∧ yX1_remembers.cls ≠ "java/lang/invoke/MethodHandle" ∧ yX1_remembers.cls ≠ "java/lang/invoke/VarHandle" ∧ (parseMethodDescriptor yX1_remembers.desc).map (fun d => d.parameters.length) = some 0 := by decide +kernel
set_option maxHeartbeats 4000000 in
set_option maxRecDepth 100000 in
theorem mm_X1_remembers {o : Nat} {out : Unit × AH × Nat × Nat} (hf : f_X1_remembers E h nx o = some out) : Met l yX1_remembers (ws_ yX1_remembers cX1_remembers 2 none) (rC (fE + 7) (lE + 3142) out.2.2.1 out.2.2.2) (bPc G E.1 hSites h nx [.ref o]) (bQ G none True out.2.1 (nx + out.2.2.1) (AA h nx)) out.2.2.1 out.2.2.2 (AA h nx) := by
  refine bGo (by decide +kernel) (Nat.le_of_ble_eq_true rfl) (fun p e s m below meth c ls S hr hlocks hin hnm hS hB hl => ?_)
  have S : CallFix p m c cX1_remembers 2 s _ lw_all RX1 := S
  obtain ⟨hx, hb, hml, hown, hts⟩ := id S
  have hl : lv_has ls 2 [(0, .ref o)] := hl
  have w38 : ∀ (x0 : Nat) (x1 : Nat) (hc : AH) (nc : Nat) (ls : Array Slot) (H : Heap) (locs : List Loc) (ce sl : Nat) (o1 : Unit × AH × Nat × Nat), BI G (AA h nx) s.heap hc nc H locs → nc = nx + ce → TL out o1 ce sl → lv_has ls 2 [(0, .ref x0), (1, .ref x1)] → f_X1_remembers_38 E x0 x1 hc nc = some o1 → W p l e (rC (fE + 7) (lE + 3142) out.2.2.1 out.2.2.2) s m ([.ref o] : List Value).toArray below meth c H locs ce sl (MQ below (bQ G none True out.2.1 (nx + out.2.2.1) (AA h nx)) ([.ref o] : List Value).toArray s out.2.2.1 out.2.2.2 (AA h nx)) (F0 m 38 ls []) := by
    intro x0 x1 hc nc ls H locs ce sl o1 hB hn hT hl hf
    rw [f_X1_remembers_38] at hf
    refine lv_aload_n hx hb dX1_remembers_38 rfl (lv_at hl 0 rfl) ?_
    obtain ⟨v1, hv1, hf⟩ := ob_s hf
    refine bg_X1_77 S hS hB (vR_s hv1) dX1_remembers_39 ?_
    refine lv_aload_n hx hb dX1_remembers_42 rfl (lv_at hl 1 rfl) ?_
    obtain ⟨g2, hf⟩ := gd_t hf
    obtain ⟨v3, hv3, hf⟩ := ob_s hf
    obtain ⟨o4, hf, hT⟩ := TL_c hT hf
    refine mc_X1_545 (fE := fE) (lE := lE) S hS hB g2 hv3 hl.1 ⟨(by show _ ≤ (fE + 7); omega), (by show _ ≤ (lE + 3142); omega)⟩ (Nat.le_of_ble_eq_true rfl) ⟨(TL_m hT).1, (TL_m hT).2⟩ dX1_remembers_43 (fun H locs hnv3 hB => ?_)
    refine lv_pop hx hb dX1_remembers_46 rfl ?_
    have hE9 := TL_e hT hf
    subst hE9
    exact bt_v S hr hlocks hB (by omega) trivial dX1_remembers_47
  have hT : TL out out 0 0 := TL_0
  rw [f_X1_remembers] at hf
  obtain ⟨o1, hf, hT⟩ := TL_c hT hf
  refine bn_X1_65 S hS hB (TL_m hT).1 (TL_m hT).2 dX1_remembers_0 (fun H hB => ?_)
  refine lv_dup hx hb dX1_remembers_3 rfl ?_
  refine lv_aload_n hx hb dX1_remembers_4 rfl (lv_at hl 0 rfl) ?_
  obtain ⟨v2, hv2, hf⟩ := ob_s hf
  obtain ⟨o3, hf, hT⟩ := TL_c hT hf
  refine mc_X1_67 (fE := fE) (lE := lE) S hS hB hv2 hl.1 ⟨(by show _ ≤ (fE + 7); omega), (by show _ ≤ (lE + 3142); omega)⟩ (Nat.le_of_ble_eq_true rfl) ⟨(TL_m hT).1, (TL_m hT).2⟩ dX1_remembers_5 (fun H locs _ hB => ?_)
  refine lv_astore_n (i := 1) (lv' := [(1, .ref nx), (0, .ref o)]) hx hb dX1_remembers_8 rfl hl (by decide) rfl (fun ls hl => ?_)
  refine lv_aload_n hx hb dX1_remembers_9 rfl (lv_at hl 0 rfl) ?_
  refine lv_aload_n hx hb dX1_remembers_10 rfl (lv_at hl 1 rfl) ?_
  obtain ⟨v4, hv4, hf⟩ := ob_s hf
  refine bg_X1_70 S hS hB (vR_s hv4) dX1_remembers_11 ?_
  obtain ⟨g5, hf⟩ := gd_t hf
  obtain ⟨v6, hv6, hf⟩ := ob_s hf
  obtain ⟨o7, hf, hT⟩ := TL_c hT hf
  refine mc_X1_396 (fE := fE) (lE := lE) S hS hB g5 hv6 hl.1 ⟨(by show _ ≤ (fE + 7); omega), (by show _ ≤ (lE + 3142); omega)⟩ (Nat.le_of_ble_eq_true rfl) ⟨(TL_m hT).1, (TL_m hT).2⟩ dX1_remembers_14 (fun H locs _ hB => ?_)
  refine lv_aload_n hx hb dX1_remembers_17 rfl (lv_at hl 1 rfl) ?_
  obtain ⟨v8, hv8, hf⟩ := ob_s hf
  refine bg_X1_77 S hS hB (vR_s hv8) dX1_remembers_18 ?_
  obtain ⟨g9, hf⟩ := gd_t hf
  obtain ⟨v10, hv10, hf⟩ := ob_s hf
  refine mc_X1_130 (fE := fE) (lE := lE) S hS hB g9 hv10 hl.1 ⟨(by show _ ≤ (fE + 7); omega), (by show _ ≤ (lE + 3142); omega)⟩ (Nat.le_of_ble_eq_true rfl) ⟨(TL_m hT).1, (TL_m hT).2⟩ dX1_remembers_21 (fun _ => ?_)
  refine lv_bipush hx hb dX1_remembers_24 kc_b12 ?_
  refine lv_icmp_ne (tgt := 38) hx hb dX1_remembers_26 (by decide) (fun c11 => ?_) (fun c11 => ?_)
  · replace hf := it_f c11 hf
    exact (w38) o nx v6.2.1 (((nx + 1) + v2.2.2.1) + v6.2.2.1) ls H locs (((0 + 1) + v2.2.2.1) + v6.2.2.1) (((0 + 27) + v2.2.2.2) + v6.2.2.2) o7 hB (by omega) hT (lv_sub (l' := [(0, .ref o), (1, .ref nx)]) hl [1, 0] rfl) hf
  · replace hf := it_t c11 hf
    refine lv_aload_n hx hb dX1_remembers_29 rfl (lv_at hl 1 rfl) ?_
    obtain ⟨v12, hv12, hf⟩ := ob_s hf
    refine bg_X1_77 S hS hB (vR_s hv12) dX1_remembers_30 ?_
    refine lv_iconst hx hb dX1_remembers_33 kc_i0 ?_
    obtain ⟨g13, hf⟩ := gd_t hf
    obtain ⟨v14, hv14, hf⟩ := ob_s hf
    obtain ⟨o15, hf, hT⟩ := TL_c hT hf
    refine mc_X1_542 (fE := fE) (lE := lE) S hS hB g13 hv14 hl.1 ⟨(by show _ ≤ (fE + 7); omega), (by show _ ≤ (lE + 3142); omega)⟩ (Nat.le_of_ble_eq_true rfl) ⟨(TL_m hT).1, (TL_m hT).2⟩ dX1_remembers_34 (fun H locs _ hB => ?_)
    refine lv_pop hx hb dX1_remembers_37 rfl ?_
    exact (w38) o nx v14.2.1 ((((nx + 1) + v2.2.2.1) + v6.2.2.1) + v14.2.2.1) ls H locs ((((0 + 1) + v2.2.2.1) + v6.2.2.1) + v14.2.2.1) ((((0 + 27) + v2.2.2.2) + v6.2.2.2) + v14.2.2.2) o15 hB (by omega) hT (lv_sub (l' := [(0, .ref o), (1, .ref nx)]) hl [1, 0] rfl) hf
set_option maxRecDepth 100000 in
theorem mc_X1_548 {o : Nat} {out : Unit × AH × Nat × Nat} (S : CallFix p m c cc nL s args lw_all RX1) (hS : SK G E.1 hSites A s) (hB : BI G A s.heap h nx H locs) (ho : isO h o 0 = true) (hf : f_X1_remembers E h nx o = some out) (hsz : ls.size = nL) (hR : (fE + 7) + 1 ≤ R.frames ∧ 8 + (2 + 11) + (lE + 3142) ≤ R.locals) (hW : (rest.map fun v => v.category).sum ≤ 8) (hcs : cells + out.2.2.1 ≤ R.cells ∧ slots + out.2.2.2 ≤ R.slots) (hdg : decode cc pc = .ok (.invokevirtual 548, 3))  (kk : ∀ (H1 : Heap) (locs1 : List Loc), True → BI G A s.heap out.2.1 (nx + out.2.2.1) H1 locs1 → W p l e R s m args below meth c H1 locs1 (cells + out.2.2.1) (slots + out.2.2.2) Q (F0 m (pc + 3) ls (rest))) : W p l e R s m args below meth c H locs cells slots Q (F0 m pc ls (.ref o :: rest)) := by
  have hN := hS.2.1
  obtain ⟨fs, he⟩ := isO_s ho
  exact br_v (va_runV (As := []) S (mm_X1_remembers (l := l) (G := G) (fE := fE) (lE := lE) hf) (cwV 0 S.2.2.2.2 (lw_V q1788 q1790 qs88 q174 q1791) rfl rfl rfl hd_X1_remembers hR) (bPreV hS hB (ci := 0) rfl he) rfl rfl hsz rfl (lv_room hW) hdg hcs) hB kk
theorem hd_X1_bid : yX1_bid.cls = RX1 ∧ yX1_bid.cls ≠ "java/lang/invoke/MethodHandle" ∧ yX1_bid.cls ≠ "java/lang/invoke/VarHandle" ∧ (parseMethodDescriptor yX1_bid.desc).map (fun d => d.parameters.length) = some 2 := by decide +kernel
set_option maxHeartbeats 4000000 in
set_option maxRecDepth 100000 in
theorem mm_X1_bid {o : Nat} {a0 : Int32} {a1 : Int32} {out : Int32 × AH × Nat × Nat} (hE : IfOK l G E fE lE) (hf : f_X1_bid E h nx o a0 a1 = some out) : Met l yX1_bid (ws_ yX1_bid cX1_bid 4 (some .int)) (rC (fE + 8) (lE + 3163) out.2.2.1 out.2.2.2) (bPc G E.1 hSites h nx [.ref o, .int a0, .int a1]) (bQ G (some (.int out.1)) True out.2.1 (nx + out.2.2.1) (AA h nx)) out.2.2.1 out.2.2.2 (AA h nx) := by
  refine bGo (by decide +kernel) (Nat.le_of_ble_eq_true rfl) (fun p e s m below meth c ls S hr hlocks hin hnm hS hB hl => ?_)
  have S : CallFix p m c cX1_bid 4 s _ lw_all RX1 := S
  obtain ⟨hx, hb, hml, hown, hts⟩ := id S
  have hl : lv_has ls 4 [(0, .ref o), (1, .int a0), (2, .int a1)] := hl
  have w30 : ∀ (x0 : Nat) (x1 : Int32) (x2 : Int32) (y0 : Nat) (y1 : Int32) (hc : AH) (nc : Nat) (ls : Array Slot) (H : Heap) (locs : List Loc) (ce sl : Nat) (o1 : Int32 × AH × Nat × Nat), BI G (AA h nx) s.heap hc nc H locs → nc = nx + ce → TL out o1 ce sl → lv_has ls 4 [(0, .ref x0), (1, .int x1), (2, .int x2)] → f_X1_bid_30 E x0 x1 x2 y0 y1 hc nc = some o1 → W p l e (rC (fE + 8) (lE + 3163) out.2.2.1 out.2.2.2) s m ([.ref o, .int a0, .int a1] : List Value).toArray below meth c H locs ce sl (MQ below (bQ G (some (.int out.1)) True out.2.1 (nx + out.2.2.1) (AA h nx)) ([.ref o, .int a0, .int a1] : List Value).toArray s out.2.2.1 out.2.2.2 (AA h nx)) (F0 m 30 ls [.int y1, .ref y0]) := by
    intro x0 x1 x2 y0 y1 hc nc ls H locs ce sl o1 hB hn hT hl hf
    rw [f_X1_bid_30] at hf
    obtain ⟨g1, hf⟩ := gd_t hf
    obtain ⟨v2, hv2, hf⟩ := ob_s hf
    obtain ⟨o3, hf, hT⟩ := TL_c hT hf
    refine mc_X1_155 (fE := fE) (lE := lE) S hS hB g1 hv2 hl.1 ⟨(by show _ ≤ (fE + 8); omega), (by show _ ≤ (lE + 3163); omega)⟩ (Nat.le_of_ble_eq_true rfl) ⟨(TL_m hT).1, (TL_m hT).2⟩ dX1_bid_30 (fun H locs hnv2 hB => ?_)
    refine lv_if_ne (tgt := 38) hx hb dX1_bid_33 (by decide) (fun c4 => ?_) (fun c4 => ?_)
    · replace hf := it_f c4 hf
      refine lv_aload_n hx hb dX1_bid_38 rfl (lv_at hl 0 rfl) ?_
      obtain ⟨g5, hf⟩ := gd_t hf
      obtain ⟨v6, hv6, hf⟩ := ob_s hf
      obtain ⟨o7, hf, hT⟩ := TL_c hT hf
      refine mc_X1_548 (fE := fE) (lE := lE) S hS hB g5 hv6 hl.1 ⟨(by show _ ≤ (fE + 8); omega), (by show _ ≤ (lE + 3163); omega)⟩ (Nat.le_of_ble_eq_true rfl) ⟨(TL_m hT).1, (TL_m hT).2⟩ dX1_bid_39 (fun H locs _ hB => ?_)
      refine lv_aload_n hx hb dX1_bid_42 rfl (lv_at hl 0 rfl) ?_
      obtain ⟨v8, hv8, hf⟩ := ob_s hf
      refine bg_X1_70 S hS hB (vR_s hv8) dX1_bid_43 ?_
      refine lv_iload_n hx hb dX1_bid_46 rfl (lv_at hl 1 rfl) ?_
      refine lv_iload_n hx hb dX1_bid_47 rfl (lv_at hl 2 rfl) ?_
      obtain ⟨g9, hf⟩ := gd_t hf
      obtain ⟨v10, hv10, hf⟩ := ob_s hf
      obtain ⟨o11, hf, hT⟩ := TL_c hT hf
      refine mc_X1_551 (fE := fE) (lE := lE) S hS hB g9 hv10 hl.1 ⟨(by show _ ≤ (fE + 8); omega), (by show _ ≤ (lE + 3163); omega)⟩ (Nat.le_of_ble_eq_true rfl) ⟨(TL_m hT).1, (TL_m hT).2⟩ dX1_bid_48 (fun H locs _ hB => ?_)
      refine lv_aload_n hx hb dX1_bid_51 rfl (lv_at hl 0 rfl) ?_
      obtain ⟨v12, hv12, hf⟩ := ob_s hf
      refine bg_X1_70 S hS hB (vR_s hv12) dX1_bid_52 ?_
      refine lv_iload_n hx hb dX1_bid_55 rfl (lv_at hl 1 rfl) ?_
      obtain ⟨g13, hf⟩ := gd_t hf
      obtain ⟨v14, hv14, hf⟩ := ob_s hf
      refine mc_X1_308 (fE := fE) (lE := lE) S hS hB g13 hv14 hl.1 ⟨(by show _ ≤ (fE + 8); omega), (by show _ ≤ (lE + 3163); omega)⟩ (Nat.le_of_ble_eq_true rfl) ⟨(TL_m hT).1, (TL_m hT).2⟩ dX1_bid_56 (fun _ => ?_)
      have hE9 := TL_e hT hf
      subst hE9
      exact bt_i S hr hlocks hB (by omega) trivial dX1_bid_59
    · replace hf := it_t c4 hf
      refine lv_iconst hx hb dX1_bid_36 kc_im1 ?_
      have hE9 := TL_e hT hf
      subst hE9
      exact bt_i S hr hlocks hB (by omega) trivial dX1_bid_37
  have hT : TL out out 0 0 := TL_0
  rw [f_X1_bid] at hf
  refine lv_aload_n hx hb dX1_bid_0 rfl (lv_at hl 0 rfl) ?_
  refine lv_iload_n hx hb dX1_bid_1 rfl (lv_at hl 1 rfl) ?_
  refine lv_iload_n hx hb dX1_bid_2 rfl (lv_at hl 2 rfl) ?_
  obtain ⟨g1, hf⟩ := gd_t hf
  obtain ⟨v2, hv2, hf⟩ := ob_s hf
  refine mc_X1_319 (fE := fE) (lE := lE) S hS hB g1 hv2 hl.1 ⟨(by show _ ≤ (fE + 8); omega), (by show _ ≤ (lE + 3163); omega)⟩ (Nat.le_of_ble_eq_true rfl) ⟨(TL_m hT).1, (TL_m hT).2⟩ dX1_bid_3 (fun _ => ?_)
  refine lv_istore_n (i := 3) (lv' := [(3, .int v2), (0, .ref o), (1, .int a0), (2, .int a1)]) hx hb dX1_bid_6 rfl hl (by decide) rfl (fun ls hl => ?_)
  refine lv_aload_n hx hb dX1_bid_7 rfl (lv_at hl 1 rfl) ?_
  refine lv_iload_n hx hb dX1_bid_8 rfl (lv_at hl 0 rfl) ?_
  refine lv_if_ne (tgt := 29) hx hb dX1_bid_9 (by decide) (fun c3 => ?_) (fun c3 => ?_)
  · replace hf := it_f c3 hf
    refine lv_iload_n hx hb dX1_bid_29 rfl (lv_at hl 0 rfl) ?_
    exact (w30) o a0 a1 o v2 h nx ls s.heap [] 0 0 out hB (by omega) hT (lv_sub (l' := [(0, .ref o), (1, .int a0), (2, .int a1)]) hl [1, 2, 3] rfl) hf
  · replace hf := it_t c3 hf
    refine lv_aload_n hx hb dX1_bid_12 rfl (lv_at hl 1 rfl) ?_
    obtain ⟨v4, hv4, hf⟩ := ob_s hf
    refine bg_X1_70 S hS hB (vR_s hv4) dX1_bid_13 ?_
    refine lv_iload_n hx hb dX1_bid_16 rfl (lv_at hl 2 rfl) ?_
    refine lv_iload_n hx hb dX1_bid_17 rfl (lv_at hl 3 rfl) ?_
    obtain ⟨g5, hf⟩ := gd_t hf
    obtain ⟨v6, hv6, hf⟩ := ob_s hf
    obtain ⟨o7, hf, hT⟩ := TL_c hT hf
    refine mc_X1_322 (fE := fE) (lE := lE) S hE hS hB g5 hv6 hl.1 ⟨(by show _ ≤ (fE + 8); omega), (by show _ ≤ (lE + 3163); omega)⟩ (Nat.le_of_ble_eq_true rfl) ⟨(TL_m hT).1, (TL_m hT).2⟩ dX1_bid_18 (fun H locs _ hB => ?_)
    refine lv_if_le (tgt := 29) hx hb dX1_bid_21 (by decide) (fun c8 => ?_) (fun c8 => ?_)
    · replace hf := it_t c8 hf
      refine lv_iload_n hx hb dX1_bid_29 rfl (lv_at hl 0 rfl) ?_
      exact (w30) o a0 a1 o v2 v6.2.1 (nx + v6.2.2.1) ls H locs (0 + v6.2.2.1) (0 + v6.2.2.2) o7 hB (by omega) hT (lv_sub (l' := [(0, .ref o), (1, .int a0), (2, .int a1)]) hl [1, 2, 3] rfl) hf
    · replace hf := it_f c8 hf
      refine lv_bipush hx hb dX1_bid_24 kc_b7 ?_
      refine lv_goto (tgt := 30) hx hb dX1_bid_26 (by decide) ?_
      exact (w30) o a0 a1 o (nI 7) v6.2.1 (nx + v6.2.2.1) ls H locs (0 + v6.2.2.1) (0 + v6.2.2.2) o7 hB (by omega) hT (lv_sub (l' := [(0, .ref o), (1, .int a0), (2, .int a1)]) hl [1, 2, 3] rfl) hf
theorem hd_X1_unbid : yX1_unbid.cls = RX1 ∧ yX1_unbid.cls ≠ "java/lang/invoke/MethodHandle" ∧ yX1_unbid.cls ≠ "java/lang/invoke/VarHandle" ∧ (parseMethodDescriptor yX1_unbid.desc).map (fun d => d.parameters.length) = some 2 := by decide +kernel
set_option maxHeartbeats 4000000 in
set_option maxRecDepth 100000 in
theorem mm_X1_unbid {o : Nat} {a0 : Int32} {a1 : Int32} {out : Int32 × AH × Nat × Nat} (hf : f_X1_unbid E h nx o a0 a1 = some out) : Met l yX1_unbid (ws_ yX1_unbid cX1_unbid 4 (some .int)) (rC (fE + 8) (lE + 3163) out.2.2.1 out.2.2.2) (bPc G E.1 hSites h nx [.ref o, .int a0, .int a1]) (bQ G (some (.int out.1)) True out.2.1 (nx + out.2.2.1) (AA h nx)) out.2.2.1 out.2.2.2 (AA h nx) := by
  refine bGo (by decide +kernel) (Nat.le_of_ble_eq_true rfl) (fun p e s m below meth c ls S hr hlocks hin hnm hS hB hl => ?_)
  have S : CallFix p m c cX1_unbid 4 s _ lw_all RX1 := S
  obtain ⟨hx, hb, hml, hown, hts⟩ := id S
  have hl : lv_has ls 4 [(0, .ref o), (1, .int a0), (2, .int a1)] := hl
  have w29 : ∀ (x0 : Nat) (x1 : Int32) (x2 : Int32) (y0 : Nat) (y1 : Int32) (hc : AH) (nc : Nat) (ls : Array Slot) (H : Heap) (locs : List Loc) (ce sl : Nat) (o1 : Int32 × AH × Nat × Nat), BI G (AA h nx) s.heap hc nc H locs → nc = nx + ce → TL out o1 ce sl → lv_has ls 4 [(0, .ref x0), (1, .int x1), (2, .int x2)] → f_X1_unbid_29 E x0 x1 x2 y0 y1 hc nc = some o1 → W p l e (rC (fE + 8) (lE + 3163) out.2.2.1 out.2.2.2) s m ([.ref o, .int a0, .int a1] : List Value).toArray below meth c H locs ce sl (MQ below (bQ G (some (.int out.1)) True out.2.1 (nx + out.2.2.1) (AA h nx)) ([.ref o, .int a0, .int a1] : List Value).toArray s out.2.2.1 out.2.2.2 (AA h nx)) (F0 m 29 ls [.int y1, .ref y0]) := by
    intro x0 x1 x2 y0 y1 hc nc ls H locs ce sl o1 hB hn hT hl hf
    rw [f_X1_unbid_29] at hf
    obtain ⟨g1, hf⟩ := gd_t hf
    obtain ⟨v2, hv2, hf⟩ := ob_s hf
    obtain ⟨o3, hf, hT⟩ := TL_c hT hf
    refine mc_X1_155 (fE := fE) (lE := lE) S hS hB g1 hv2 hl.1 ⟨(by show _ ≤ (fE + 8); omega), (by show _ ≤ (lE + 3163); omega)⟩ (Nat.le_of_ble_eq_true rfl) ⟨(TL_m hT).1, (TL_m hT).2⟩ dX1_unbid_29 (fun H locs hnv2 hB => ?_)
    refine lv_if_ne (tgt := 37) hx hb dX1_unbid_32 (by decide) (fun c4 => ?_) (fun c4 => ?_)
    · replace hf := it_f c4 hf
      refine lv_aload_n hx hb dX1_unbid_37 rfl (lv_at hl 0 rfl) ?_
      obtain ⟨g5, hf⟩ := gd_t hf
      obtain ⟨v6, hv6, hf⟩ := ob_s hf
      obtain ⟨o7, hf, hT⟩ := TL_c hT hf
      refine mc_X1_548 (fE := fE) (lE := lE) S hS hB g5 hv6 hl.1 ⟨(by show _ ≤ (fE + 8); omega), (by show _ ≤ (lE + 3163); omega)⟩ (Nat.le_of_ble_eq_true rfl) ⟨(TL_m hT).1, (TL_m hT).2⟩ dX1_unbid_38 (fun H locs _ hB => ?_)
      refine lv_aload_n hx hb dX1_unbid_41 rfl (lv_at hl 0 rfl) ?_
      obtain ⟨v8, hv8, hf⟩ := ob_s hf
      refine bg_X1_70 S hS hB (vR_s hv8) dX1_unbid_42 ?_
      obtain ⟨v9, hv9, hf⟩ := ob_s hf
      refine bg_X1_432 S hS hB (vR_s hv9) dX1_unbid_45 ?_
      refine lv_iload_n hx hb dX1_unbid_48 rfl (lv_at hl 1 rfl) ?_
      refine lv_dup2_11 hx hb dX1_unbid_49 rfl rfl ?_
      obtain ⟨v10, hv10, hf⟩ := ob_s hf
      refine b_iald S hS.1 hB hv10 dX1_unbid_50 ?_
      refine lv_iconst hx hb dX1_unbid_51 kc_i1 ?_
      refine lv_iload_n hx hb dX1_unbid_52 rfl (lv_at hl 2 rfl) ?_
      refine lv_ishl hx hb dX1_unbid_53 ?_
      refine lv_iconst hx hb dX1_unbid_54 kc_im1 ?_
      refine lv_ixor hx hb dX1_unbid_55 ?_
      refine lv_iand hx hb dX1_unbid_56 ?_
      obtain ⟨h11, hh11, hf⟩ := ob_s hf
      refine b_iast S hS.1 hB hh11 dX1_unbid_57 (fun H locs hB => ?_)
      refine lv_aload_n hx hb dX1_unbid_58 rfl (lv_at hl 0 rfl) ?_
      obtain ⟨v12, hv12, hf⟩ := ob_s hf
      refine bg_X1_70 S hS hB (vR_s hv12) dX1_unbid_59 ?_
      refine lv_iload_n hx hb dX1_unbid_62 rfl (lv_at hl 1 rfl) ?_
      obtain ⟨g13, hf⟩ := gd_t hf
      obtain ⟨v14, hv14, hf⟩ := ob_s hf
      refine mc_X1_308 (fE := fE) (lE := lE) S hS hB g13 hv14 hl.1 ⟨(by show _ ≤ (fE + 8); omega), (by show _ ≤ (lE + 3163); omega)⟩ (Nat.le_of_ble_eq_true rfl) ⟨(TL_m hT).1, (TL_m hT).2⟩ dX1_unbid_63 (fun _ => ?_)
      have hE9 := TL_e hT hf
      subst hE9
      exact bt_i S hr hlocks hB (by omega) trivial dX1_unbid_66
    · replace hf := it_t c4 hf
      refine lv_iconst hx hb dX1_unbid_35 kc_im1 ?_
      have hE9 := TL_e hT hf
      subst hE9
      exact bt_i S hr hlocks hB (by omega) trivial dX1_unbid_36
  have hT : TL out out 0 0 := TL_0
  rw [f_X1_unbid] at hf
  refine lv_aload_n hx hb dX1_unbid_0 rfl (lv_at hl 0 rfl) ?_
  refine lv_iload_n hx hb dX1_unbid_1 rfl (lv_at hl 1 rfl) ?_
  refine lv_iload_n hx hb dX1_unbid_2 rfl (lv_at hl 2 rfl) ?_
  obtain ⟨g1, hf⟩ := gd_t hf
  obtain ⟨v2, hv2, hf⟩ := ob_s hf
  refine mc_X1_319 (fE := fE) (lE := lE) S hS hB g1 hv2 hl.1 ⟨(by show _ ≤ (fE + 8); omega), (by show _ ≤ (lE + 3163); omega)⟩ (Nat.le_of_ble_eq_true rfl) ⟨(TL_m hT).1, (TL_m hT).2⟩ dX1_unbid_3 (fun _ => ?_)
  refine lv_istore_n (i := 3) (lv' := [(3, .int v2), (0, .ref o), (1, .int a0), (2, .int a1)]) hx hb dX1_unbid_6 rfl hl (by decide) rfl (fun ls hl => ?_)
  refine lv_aload_n hx hb dX1_unbid_7 rfl (lv_at hl 1 rfl) ?_
  refine lv_iload_n hx hb dX1_unbid_8 rfl (lv_at hl 0 rfl) ?_
  refine lv_if_ne (tgt := 28) hx hb dX1_unbid_9 (by decide) (fun c3 => ?_) (fun c3 => ?_)
  · replace hf := it_f c3 hf
    refine lv_iload_n hx hb dX1_unbid_28 rfl (lv_at hl 0 rfl) ?_
    exact (w29) o a0 a1 o v2 h nx ls s.heap [] 0 0 out hB (by omega) hT (lv_sub (l' := [(0, .ref o), (1, .int a0), (2, .int a1)]) hl [1, 2, 3] rfl) hf
  · replace hf := it_t c3 hf
    refine lv_aload_n hx hb dX1_unbid_12 rfl (lv_at hl 1 rfl) ?_
    obtain ⟨v4, hv4, hf⟩ := ob_s hf
    refine bg_X1_70 S hS hB (vR_s hv4) dX1_unbid_13 ?_
    refine lv_iload_n hx hb dX1_unbid_16 rfl (lv_at hl 2 rfl) ?_
    refine lv_iload_n hx hb dX1_unbid_17 rfl (lv_at hl 3 rfl) ?_
    obtain ⟨g5, hf⟩ := gd_t hf
    obtain ⟨v6, hv6, hf⟩ := ob_s hf
    refine mc_X1_325 (fE := fE) (lE := lE) S hS hB g5 hv6 hl.1 ⟨(by show _ ≤ (fE + 8); omega), (by show _ ≤ (lE + 3163); omega)⟩ (Nat.le_of_ble_eq_true rfl) ⟨(TL_m hT).1, (TL_m hT).2⟩ dX1_unbid_18 (fun hnv6 => ?_)
    refine lv_if_ne (tgt := 28) hx hb dX1_unbid_21 (by decide) (fun c7 => ?_) (fun c7 => ?_)
    · replace hf := it_f c7 hf
      refine lv_iload_n hx hb dX1_unbid_28 rfl (lv_at hl 0 rfl) ?_
      exact (w29) o a0 a1 o v2 h nx ls s.heap [] 0 0 out hB (by omega) hT (lv_sub (l' := [(0, .ref o), (1, .int a0), (2, .int a1)]) hl [1, 2, 3] rfl) hf
    · replace hf := it_t c7 hf
      refine lv_iconst hx hb dX1_unbid_24 kc_i5 ?_
      refine lv_goto (tgt := 29) hx hb dX1_unbid_25 (by decide) ?_
      exact (w29) o a0 a1 o (nI 5) h nx ls s.heap [] 0 0 out hB (by omega) hT (lv_sub (l' := [(0, .ref o), (1, .int a0), (2, .int a1)]) hl [1, 2, 3] rfl) hf
theorem hd_X1_auto : yX1_auto.cls = RX1 ∧ yX1_auto.cls ≠ "java/lang/invoke/MethodHandle" ∧ yX1_auto.cls ≠ "java/lang/invoke/VarHandle" ∧ (parseMethodDescriptor yX1_auto.desc).map (fun d => d.parameters.length) = some 0 := by decide +kernel
set_option maxHeartbeats 4000000 in
set_option maxRecDepth 100000 in
theorem mm_X1_auto {o : Nat} {out : Int32 × AH × Nat × Nat} (hE : IfOK l G E fE lE) (hf : f_X1_auto E h nx o = some out) : Met l yX1_auto (ws_ yX1_auto cX1_auto 1 (some .int)) (rC (fE + 8) (lE + 3163) out.2.2.1 out.2.2.2) (bPc G E.1 hSites h nx [.ref o]) (bQ G (some (.int out.1)) True out.2.1 (nx + out.2.2.1) (AA h nx)) out.2.2.1 out.2.2.2 (AA h nx) := by
  refine bGo (by decide +kernel) (Nat.le_of_ble_eq_true rfl) (fun p e s m below meth c ls S hr hlocks hin hnm hS hB hl => ?_)
  have S : CallFix p m c cX1_auto 1 s _ lw_all RX1 := S
  obtain ⟨hx, hb, hml, hown, hts⟩ := id S
  have hl : lv_has ls 1 [(0, .ref o)] := hl
  have w27 : ∀ (x0 : Nat) (y0 : Nat) (y1 : Int32) (hc : AH) (nc : Nat) (ls : Array Slot) (H : Heap) (locs : List Loc) (ce sl : Nat) (o1 : Int32 × AH × Nat × Nat), BI G (AA h nx) s.heap hc nc H locs → nc = nx + ce → TL out o1 ce sl → lv_has ls 1 [(0, .ref x0)] → f_X1_auto_27 E x0 y0 y1 hc nc = some o1 → W p l e (rC (fE + 8) (lE + 3163) out.2.2.1 out.2.2.2) s m ([.ref o] : List Value).toArray below meth c H locs ce sl (MQ below (bQ G (some (.int out.1)) True out.2.1 (nx + out.2.2.1) (AA h nx)) ([.ref o] : List Value).toArray s out.2.2.1 out.2.2.2 (AA h nx)) (F0 m 27 ls [.int y1, .ref y0]) := by
    intro x0 y0 y1 hc nc ls H locs ce sl o1 hB hn hT hl hf
    rw [f_X1_auto_27] at hf
    obtain ⟨g1, hf⟩ := gd_t hf
    obtain ⟨v2, hv2, hf⟩ := ob_s hf
    obtain ⟨o3, hf, hT⟩ := TL_c hT hf
    refine mc_X1_155 (fE := fE) (lE := lE) S hS hB g1 hv2 hl.1 ⟨(by show _ ≤ (fE + 8); omega), (by show _ ≤ (lE + 3163); omega)⟩ (Nat.le_of_ble_eq_true rfl) ⟨(TL_m hT).1, (TL_m hT).2⟩ dX1_auto_27 (fun H locs hnv2 hB => ?_)
    refine lv_if_ne (tgt := 35) hx hb dX1_auto_30 (by decide) (fun c4 => ?_) (fun c4 => ?_)
    · replace hf := it_f c4 hf
      refine lv_aload_n hx hb dX1_auto_35 rfl (lv_at hl 0 rfl) ?_
      obtain ⟨g5, hf⟩ := gd_t hf
      obtain ⟨v6, hv6, hf⟩ := ob_s hf
      obtain ⟨o7, hf, hT⟩ := TL_c hT hf
      refine mc_X1_548 (fE := fE) (lE := lE) S hS hB g5 hv6 hl.1 ⟨(by show _ ≤ (fE + 8); omega), (by show _ ≤ (lE + 3163); omega)⟩ (Nat.le_of_ble_eq_true rfl) ⟨(TL_m hT).1, (TL_m hT).2⟩ dX1_auto_36 (fun H locs _ hB => ?_)
      refine lv_aload_n hx hb dX1_auto_39 rfl (lv_at hl 0 rfl) ?_
      obtain ⟨v8, hv8, hf⟩ := ob_s hf
      refine bg_X1_70 S hS hB (vR_s hv8) dX1_auto_40 ?_
      obtain ⟨g9, hf⟩ := gd_t hf
      obtain ⟨v10, hv10, hf⟩ := ob_s hf
      obtain ⟨o11, hf, hT⟩ := TL_c hT hf
      refine mc_X1_555 (fE := fE) (lE := lE) S hE hS hB g9 hv10 hl.1 ⟨(by show _ ≤ (fE + 8); omega), (by show _ ≤ (lE + 3163); omega)⟩ (Nat.le_of_ble_eq_true rfl) ⟨(TL_m hT).1, (TL_m hT).2⟩ dX1_auto_43 (fun H locs _ hB => ?_)
      have hE9 := TL_e hT hf
      subst hE9
      exact bt_i S hr hlocks hB (by omega) trivial dX1_auto_46
    · replace hf := it_t c4 hf
      refine lv_iconst hx hb dX1_auto_33 kc_im1 ?_
      have hE9 := TL_e hT hf
      subst hE9
      exact bt_i S hr hlocks hB (by omega) trivial dX1_auto_34
  have hT : TL out out 0 0 := TL_0
  rw [f_X1_auto] at hf
  refine lv_aload_n hx hb dX1_auto_0 rfl (lv_at hl 0 rfl) ?_
  obtain ⟨v1, hv1, hf⟩ := ob_s hf
  refine bg_X1_74 S hS hB (vR_s hv1) dX1_auto_1 ?_
  refine lv_aload_n hx hb dX1_auto_4 rfl (lv_at hl 0 rfl) ?_
  obtain ⟨v2, hv2, hf⟩ := ob_s hf
  refine bg_X1_70 S hS hB (vR_s hv2) dX1_auto_5 ?_
  obtain ⟨g3, hf⟩ := gd_t hf
  obtain ⟨v4, hv4, hf⟩ := ob_s hf
  obtain ⟨o5, hf, hT⟩ := TL_c hT hf
  refine mc_X1_396 (fE := fE) (lE := lE) S hS hB g3 hv4 hl.1 ⟨(by show _ ≤ (fE + 8); omega), (by show _ ≤ (lE + 3163); omega)⟩ (Nat.le_of_ble_eq_true rfl) ⟨(TL_m hT).1, (TL_m hT).2⟩ dX1_auto_8 (fun H locs _ hB => ?_)
  refine lv_aload_n hx hb dX1_auto_11 rfl (lv_at hl 0 rfl) ?_
  refine lv_aload_n hx hb dX1_auto_12 rfl (lv_at hl 0 rfl) ?_
  obtain ⟨v6, hv6, hf⟩ := ob_s hf
  refine bg_X1_74 S hS hB (vR_s hv6) dX1_auto_13 ?_
  obtain ⟨g7, hf⟩ := gd_t hf
  obtain ⟨v8, hv8, hf⟩ := ob_s hf
  obtain ⟨o9, hf, hT⟩ := TL_c hT hf
  refine mc_X1_555 (fE := fE) (lE := lE) S hE hS hB g7 hv8 hl.1 ⟨(by show _ ≤ (fE + 8); omega), (by show _ ≤ (lE + 3163); omega)⟩ (Nat.le_of_ble_eq_true rfl) ⟨(TL_m hT).1, (TL_m hT).2⟩ dX1_auto_16 (fun H locs _ hB => ?_)
  refine lv_if_ne (tgt := 26) hx hb dX1_auto_19 (by decide) (fun c10 => ?_) (fun c10 => ?_)
  · replace hf := it_f c10 hf
    refine lv_iconst hx hb dX1_auto_26 kc_i0 ?_
    exact (w27) o o 0 v8.2.1 ((nx + v4.2.2.1) + v8.2.2.1) ls H locs ((0 + v4.2.2.1) + v8.2.2.1) ((0 + v4.2.2.2) + v8.2.2.2) o9 hB (by omega) hT hl hf
  · replace hf := it_t c10 hf
    refine lv_iconst hx hb dX1_auto_22 kc_i4 ?_
    refine lv_goto (tgt := 27) hx hb dX1_auto_23 (by decide) ?_
    exact (w27) o o (nI 4) v8.2.1 ((nx + v4.2.2.1) + v8.2.2.1) ls H locs ((0 + v4.2.2.1) + v8.2.2.1) ((0 + v4.2.2.2) + v8.2.2.2) o9 hB (by omega) hT hl hf
theorem hd_X1_week : yX1_week.cls = RX1 ∧ yX1_week.cls ≠ "java/lang/invoke/MethodHandle" ∧ yX1_week.cls ≠ "java/lang/invoke/VarHandle" ∧ (parseMethodDescriptor yX1_week.desc).map (fun d => d.parameters.length) = some 0 := by decide +kernel
set_option maxHeartbeats 4000000 in
set_option maxRecDepth 100000 in
theorem mm_X1_week {o : Nat} {out : Int32 × AH × Nat × Nat} (hE : IfOK l G E fE lE) (hf : f_X1_week E h nx o = some out) : Met l yX1_week (ws_ yX1_week cX1_week 1 (some .int)) (rC (fE + 11) (lE + 3163) out.2.2.1 out.2.2.2) (bPc G E.1 hSites h nx [.ref o]) (bQ G (some (.int out.1)) True out.2.1 (nx + out.2.2.1) (AA h nx)) out.2.2.1 out.2.2.2 (AA h nx) := by
  refine bGo (by decide +kernel) (Nat.le_of_ble_eq_true rfl) (fun p e s m below meth c ls S hr hlocks hin hnm hS hB hl => ?_)
  have S : CallFix p m c cX1_week 1 s _ lw_all RX1 := S
  obtain ⟨hx, hb, hml, hown, hts⟩ := id S
  have hl : lv_has ls 1 [(0, .ref o)] := hl
  have w19 : ∀ (x0 : Nat) (y0 : Nat) (y1 : Int32) (hc : AH) (nc : Nat) (ls : Array Slot) (H : Heap) (locs : List Loc) (ce sl : Nat) (o1 : Int32 × AH × Nat × Nat), BI G (AA h nx) s.heap hc nc H locs → nc = nx + ce → TL out o1 ce sl → lv_has ls 1 [(0, .ref x0)] → f_X1_week_19 E x0 y0 y1 hc nc = some o1 → W p l e (rC (fE + 11) (lE + 3163) out.2.2.1 out.2.2.2) s m ([.ref o] : List Value).toArray below meth c H locs ce sl (MQ below (bQ G (some (.int out.1)) True out.2.1 (nx + out.2.2.1) (AA h nx)) ([.ref o] : List Value).toArray s out.2.2.1 out.2.2.2 (AA h nx)) (F0 m 19 ls [.int y1, .ref y0]) := by
    intro x0 y0 y1 hc nc ls H locs ce sl o1 hB hn hT hl hf
    rw [f_X1_week_19] at hf
    obtain ⟨g1, hf⟩ := gd_t hf
    obtain ⟨v2, hv2, hf⟩ := ob_s hf
    obtain ⟨o3, hf, hT⟩ := TL_c hT hf
    refine mc_X1_155 (fE := fE) (lE := lE) S hS hB g1 hv2 hl.1 ⟨(by show _ ≤ (fE + 11); omega), (by show _ ≤ (lE + 3163); omega)⟩ (Nat.le_of_ble_eq_true rfl) ⟨(TL_m hT).1, (TL_m hT).2⟩ dX1_week_19 (fun H locs hnv2 hB => ?_)
    refine lv_if_ne (tgt := 27) hx hb dX1_week_22 (by decide) (fun c4 => ?_) (fun c4 => ?_)
    · replace hf := it_f c4 hf
      refine lv_aload_n hx hb dX1_week_27 rfl (lv_at hl 0 rfl) ?_
      obtain ⟨g5, hf⟩ := gd_t hf
      obtain ⟨v6, hv6, hf⟩ := ob_s hf
      obtain ⟨o7, hf, hT⟩ := TL_c hT hf
      refine mc_X1_548 (fE := fE) (lE := lE) S hS hB g5 hv6 hl.1 ⟨(by show _ ≤ (fE + 11); omega), (by show _ ≤ (lE + 3163); omega)⟩ (Nat.le_of_ble_eq_true rfl) ⟨(TL_m hT).1, (TL_m hT).2⟩ dX1_week_28 (fun H locs _ hB => ?_)
      refine lv_aload_n hx hb dX1_week_31 rfl (lv_at hl 0 rfl) ?_
      obtain ⟨v8, hv8, hf⟩ := ob_s hf
      refine bg_X1_70 S hS hB (vR_s hv8) dX1_week_32 ?_
      obtain ⟨g9, hf⟩ := gd_t hf
      obtain ⟨v10, hv10, hf⟩ := ob_s hf
      obtain ⟨o11, hf, hT⟩ := TL_c hT hf
      refine mc_X1_435 (fE := fE) (lE := lE) S hE hS hB g9 hv10 hl.1 ⟨(by show _ ≤ (fE + 11); omega), (by show _ ≤ (lE + 3163); omega)⟩ (Nat.le_of_ble_eq_true rfl) ⟨(TL_m hT).1, (TL_m hT).2⟩ dX1_week_35 (fun H locs _ hB => ?_)
      have hE9 := TL_e hT hf
      subst hE9
      exact bt_i S hr hlocks hB (by omega) trivial dX1_week_38
    · replace hf := it_t c4 hf
      refine lv_iconst hx hb dX1_week_25 kc_im1 ?_
      have hE9 := TL_e hT hf
      subst hE9
      exact bt_i S hr hlocks hB (by omega) trivial dX1_week_26
  have hT : TL out out 0 0 := TL_0
  rw [f_X1_week] at hf
  refine lv_aload_n hx hb dX1_week_0 rfl (lv_at hl 0 rfl) ?_
  refine lv_aload_n hx hb dX1_week_1 rfl (lv_at hl 0 rfl) ?_
  obtain ⟨v1, hv1, hf⟩ := ob_s hf
  refine bg_X1_70 S hS hB (vR_s hv1) dX1_week_2 ?_
  obtain ⟨v2, hv2, hf⟩ := ob_s hf
  refine bg_X1_213 S hS hB (vI_s hv2) dX1_week_5 ?_
  refine lv_sipush hx hb dX1_week_8 kc_s999 ?_
  refine lv_icmp_ne (tgt := 18) hx hb dX1_week_11 (by decide) (fun c3 => ?_) (fun c3 => ?_)
  · replace hf := it_f c3 hf
    refine lv_iconst hx hb dX1_week_18 kc_i0 ?_
    exact (w19) o o 0 h nx ls s.heap [] 0 0 out hB (by omega) hT hl hf
  · replace hf := it_t c3 hf
    refine lv_iconst hx hb dX1_week_14 kc_i3 ?_
    refine lv_goto (tgt := 19) hx hb dX1_week_15 (by decide) ?_
    exact (w19) o o (nI 3) h nx ls s.heap [] 0 0 out hB (by omega) hT hl hf
theorem hd_X1_wish : yX1_wish.cls = RX1 ∧ yX1_wish.cls ≠ "java/lang/invoke/MethodHandle" ∧ yX1_wish.cls ≠ "java/lang/invoke/VarHandle" ∧ (parseMethodDescriptor yX1_wish.desc).map (fun d => d.parameters.length) = some 2 := by decide +kernel
set_option maxHeartbeats 4000000 in
set_option maxRecDepth 100000 in
theorem mm_X1_wish {o : Nat} {a0 : Int32} {a1 : Int32} {out : Int32 × AH × Nat × Nat} (hf : f_X1_wish E h nx o a0 a1 = some out) : Met l yX1_wish (ws_ yX1_wish cX1_wish 4 (some .int)) (rC (fE + 8) (lE + 3163) out.2.2.1 out.2.2.2) (bPc G E.1 hSites h nx [.ref o, .int a0, .int a1]) (bQ G (some (.int out.1)) True out.2.1 (nx + out.2.2.1) (AA h nx)) out.2.2.1 out.2.2.2 (AA h nx) := by
  refine bGo (by decide +kernel) (Nat.le_of_ble_eq_true rfl) (fun p e s m below meth c ls S hr hlocks hin hnm hS hB hl => ?_)
  have S : CallFix p m c cX1_wish 4 s _ lw_all RX1 := S
  obtain ⟨hx, hb, hml, hown, hts⟩ := id S
  have hl : lv_has ls 4 [(0, .ref o), (1, .int a0), (2, .int a1)] := hl
  have w51 : ∀ (x0 : Nat) (x1 : Int32) (x2 : Int32) (y0 : Nat) (y1 : Int32) (hc : AH) (nc : Nat) (ls : Array Slot) (H : Heap) (locs : List Loc) (ce sl : Nat) (o1 : Int32 × AH × Nat × Nat), BI G (AA h nx) s.heap hc nc H locs → nc = nx + ce → TL out o1 ce sl → lv_has ls 4 [(0, .ref x0), (1, .int x1), (2, .int x2)] → f_X1_wish_51 E x0 x1 x2 y0 y1 hc nc = some o1 → W p l e (rC (fE + 8) (lE + 3163) out.2.2.1 out.2.2.2) s m ([.ref o, .int a0, .int a1] : List Value).toArray below meth c H locs ce sl (MQ below (bQ G (some (.int out.1)) True out.2.1 (nx + out.2.2.1) (AA h nx)) ([.ref o, .int a0, .int a1] : List Value).toArray s out.2.2.1 out.2.2.2 (AA h nx)) (F0 m 51 ls [.int y1, .ref y0]) := by
    intro x0 x1 x2 y0 y1 hc nc ls H locs ce sl o1 hB hn hT hl hf
    rw [f_X1_wish_51] at hf
    obtain ⟨g1, hf⟩ := gd_t hf
    obtain ⟨v2, hv2, hf⟩ := ob_s hf
    obtain ⟨o3, hf, hT⟩ := TL_c hT hf
    refine mc_X1_155 (fE := fE) (lE := lE) S hS hB g1 hv2 hl.1 ⟨(by show _ ≤ (fE + 8); omega), (by show _ ≤ (lE + 3163); omega)⟩ (Nat.le_of_ble_eq_true rfl) ⟨(TL_m hT).1, (TL_m hT).2⟩ dX1_wish_51 (fun H locs hnv2 hB => ?_)
    refine lv_if_ne (tgt := 59) hx hb dX1_wish_54 (by decide) (fun c4 => ?_) (fun c4 => ?_)
    · replace hf := it_f c4 hf
      refine lv_aload_n hx hb dX1_wish_59 rfl (lv_at hl 0 rfl) ?_
      obtain ⟨g5, hf⟩ := gd_t hf
      obtain ⟨v6, hv6, hf⟩ := ob_s hf
      obtain ⟨o7, hf, hT⟩ := TL_c hT hf
      refine mc_X1_548 (fE := fE) (lE := lE) S hS hB g5 hv6 hl.1 ⟨(by show _ ≤ (fE + 8); omega), (by show _ ≤ (lE + 3163); omega)⟩ (Nat.le_of_ble_eq_true rfl) ⟨(TL_m hT).1, (TL_m hT).2⟩ dX1_wish_60 (fun H locs _ hB => ?_)
      refine lv_aload_n hx hb dX1_wish_63 rfl (lv_at hl 0 rfl) ?_
      obtain ⟨v8, hv8, hf⟩ := ob_s hf
      refine bg_X1_70 S hS hB (vR_s hv8) dX1_wish_64 ?_
      obtain ⟨v9, hv9, hf⟩ := ob_s hf
      refine bg_X1_558 S hS hB (vR_s hv9) dX1_wish_67 ?_
      refine lv_bipush hx hb dX1_wish_70 kc_b6 ?_
      refine lv_iload_n hx hb dX1_wish_72 rfl (lv_at hl 1 rfl) ?_
      refine lv_imul hx hb dX1_wish_73 ?_
      refine lv_aload_n hx hb dX1_wish_74 rfl (lv_at hl 0 rfl) ?_
      obtain ⟨v10, hv10, hf⟩ := ob_s hf
      refine bg_X1_70 S hS hB (vR_s hv10) dX1_wish_75 ?_
      obtain ⟨v11, hv11, hf⟩ := ob_s hf
      refine bg_X1_271 S hS hB (vR_s hv11) dX1_wish_78 ?_
      refine lv_iload_n hx hb dX1_wish_81 rfl (lv_at hl 1 rfl) ?_
      obtain ⟨v12, hv12, hf⟩ := ob_s hf
      refine b_iald S hS.1 hB hv12 dX1_wish_82 ?_
      refine lv_iadd hx hb dX1_wish_83 ?_
      refine lv_iload_n hx hb dX1_wish_84 rfl (lv_at hl 2 rfl) ?_
      obtain ⟨h13, hh13, hf⟩ := ob_s hf
      refine b_iast S hS.1 hB hh13 dX1_wish_85 (fun H locs hB => ?_)
      refine lv_aload_n hx hb dX1_wish_86 rfl (lv_at hl 0 rfl) ?_
      obtain ⟨v14, hv14, hf⟩ := ob_s hf
      refine bg_X1_70 S hS hB (vR_s hv14) dX1_wish_87 ?_
      obtain ⟨v15, hv15, hf⟩ := ob_s hf
      refine bg_X1_271 S hS hB (vR_s hv15) dX1_wish_90 ?_
      refine lv_iload_n hx hb dX1_wish_93 rfl (lv_at hl 1 rfl) ?_
      refine lv_dup2_11 hx hb dX1_wish_94 rfl rfl ?_
      obtain ⟨v16, hv16, hf⟩ := ob_s hf
      refine b_iald S hS.1 hB hv16 dX1_wish_95 ?_
      refine lv_iconst hx hb dX1_wish_96 kc_i1 ?_
      refine lv_iadd hx hb dX1_wish_97 ?_
      obtain ⟨h17, hh17, hf⟩ := ob_s hf
      refine b_iast S hS.1 hB hh17 dX1_wish_98 (fun H locs hB => ?_)
      refine lv_aload_n hx hb dX1_wish_99 rfl (lv_at hl 0 rfl) ?_
      obtain ⟨v18, hv18, hf⟩ := ob_s hf
      refine bg_X1_70 S hS hB (vR_s hv18) dX1_wish_100 ?_
      obtain ⟨v19, hv19, hf⟩ := ob_s hf
      refine bg_X1_271 S hS hB (vR_s hv19) dX1_wish_103 ?_
      refine lv_iload_n hx hb dX1_wish_106 rfl (lv_at hl 1 rfl) ?_
      obtain ⟨v20, hv20, hf⟩ := ob_s hf
      refine b_iald S hS.1 hB hv20 dX1_wish_107 ?_
      have hE9 := TL_e hT hf
      subst hE9
      exact bt_i S hr hlocks hB (by omega) trivial dX1_wish_108
    · replace hf := it_t c4 hf
      refine lv_iconst hx hb dX1_wish_57 kc_im1 ?_
      have hE9 := TL_e hT hf
      subst hE9
      exact bt_i S hr hlocks hB (by omega) trivial dX1_wish_58
  have hT : TL out out 0 0 := TL_0
  rw [f_X1_wish] at hf
  refine lv_aload_n hx hb dX1_wish_0 rfl (lv_at hl 0 rfl) ?_
  refine lv_iload_n hx hb dX1_wish_1 rfl (lv_at hl 1 rfl) ?_
  refine lv_iload_n hx hb dX1_wish_2 rfl (lv_at hl 2 rfl) ?_
  obtain ⟨g1, hf⟩ := gd_t hf
  obtain ⟨v2, hv2, hf⟩ := ob_s hf
  refine mc_X1_319 (fE := fE) (lE := lE) S hS hB g1 hv2 hl.1 ⟨(by show _ ≤ (fE + 8); omega), (by show _ ≤ (lE + 3163); omega)⟩ (Nat.le_of_ble_eq_true rfl) ⟨(TL_m hT).1, (TL_m hT).2⟩ dX1_wish_3 (fun _ => ?_)
  refine lv_istore_n (i := 3) (lv' := [(3, .int v2), (0, .ref o), (1, .int a0), (2, .int a1)]) hx hb dX1_wish_6 rfl hl (by decide) rfl (fun ls hl => ?_)
  refine lv_aload_n hx hb dX1_wish_7 rfl (lv_at hl 1 rfl) ?_
  refine lv_iload_n hx hb dX1_wish_8 rfl (lv_at hl 0 rfl) ?_
  refine lv_if_le (tgt := 16) hx hb dX1_wish_9 (by decide) (fun c3 => ?_) (fun c3 => ?_)
  · replace hf := it_t c3 hf
    refine lv_aload_n hx hb dX1_wish_16 rfl (lv_at hl 1 rfl) ?_
    obtain ⟨v4, hv4, hf⟩ := ob_s hf
    refine bg_X1_70 S hS hB (vR_s hv4) dX1_wish_17 ?_
    refine lv_iload_n hx hb dX1_wish_20 rfl (lv_at hl 2 rfl) ?_
    refine lv_iload_n hx hb dX1_wish_21 rfl (lv_at hl 3 rfl) ?_
    obtain ⟨g5, hf⟩ := gd_t hf
    obtain ⟨v6, hv6, hf⟩ := ob_s hf
    refine mc_X1_469 (fE := fE) (lE := lE) S hS hB g5 hv6 hl.1 ⟨(by show _ ≤ (fE + 8); omega), (by show _ ≤ (lE + 3163); omega)⟩ (Nat.le_of_ble_eq_true rfl) ⟨(TL_m hT).1, (TL_m hT).2⟩ dX1_wish_22 (fun hnv6 => ?_)
    refine lv_if_eq (tgt := 32) hx hb dX1_wish_25 (by decide) (fun c7 => ?_) (fun c7 => ?_)
    · replace hf := it_t c7 hf
      refine lv_aload_n hx hb dX1_wish_32 rfl (lv_at hl 1 rfl) ?_
      obtain ⟨v8, hv8, hf⟩ := ob_s hf
      refine bg_X1_70 S hS hB (vR_s hv8) dX1_wish_33 ?_
      obtain ⟨v9, hv9, hf⟩ := ob_s hf
      refine bg_X1_271 S hS hB (vR_s hv9) dX1_wish_36 ?_
      refine lv_iload_n hx hb dX1_wish_39 rfl (lv_at hl 2 rfl) ?_
      obtain ⟨v10, hv10, hf⟩ := ob_s hf
      refine b_iald S hS.1 hB hv10 dX1_wish_40 ?_
      refine lv_bipush hx hb dX1_wish_41 kc_b6 ?_
      refine lv_icmp_ne (tgt := 50) hx hb dX1_wish_43 (by decide) (fun c11 => ?_) (fun c11 => ?_)
      · replace hf := it_f c11 hf
        refine lv_iconst hx hb dX1_wish_50 kc_i0 ?_
        exact (w51) o a0 a1 o 0 h nx ls s.heap [] 0 0 out hB (by omega) hT (lv_sub (l' := [(0, .ref o), (1, .int a0), (2, .int a1)]) hl [1, 2, 3] rfl) hf
      · replace hf := it_t c11 hf
        refine lv_iconst hx hb dX1_wish_46 kc_i3 ?_
        refine lv_goto (tgt := 51) hx hb dX1_wish_47 (by decide) ?_
        exact (w51) o a0 a1 o (nI 3) h nx ls s.heap [] 0 0 out hB (by omega) hT (lv_sub (l' := [(0, .ref o), (1, .int a0), (2, .int a1)]) hl [1, 2, 3] rfl) hf
    · replace hf := it_f c7 hf
      refine lv_iconst hx hb dX1_wish_28 kc_i4 ?_
      refine lv_goto (tgt := 51) hx hb dX1_wish_29 (by decide) ?_
      exact (w51) o a0 a1 o (nI 4) h nx ls s.heap [] 0 0 out hB (by omega) hT (lv_sub (l' := [(0, .ref o), (1, .int a0), (2, .int a1)]) hl [1, 2, 3] rfl) hf
  · replace hf := it_f c3 hf
    refine lv_iload_n hx hb dX1_wish_12 rfl (lv_at hl 0 rfl) ?_
    refine lv_goto (tgt := 51) hx hb dX1_wish_13 (by decide) ?_
    exact (w51) o a0 a1 o v2 h nx ls s.heap [] 0 0 out hB (by omega) hT (lv_sub (l' := [(0, .ref o), (1, .int a0), (2, .int a1)]) hl [1, 2, 3] rfl) hf
theorem hd_X1_unwish : yX1_unwish.cls = RX1 ∧ yX1_unwish.cls ≠ "java/lang/invoke/MethodHandle" ∧ yX1_unwish.cls ≠ "java/lang/invoke/VarHandle" ∧ (parseMethodDescriptor yX1_unwish.desc).map (fun d => d.parameters.length) = some 2 := by decide +kernel
set_option maxHeartbeats 4000000 in
set_option maxRecDepth 100000 in
theorem mm_X1_unwish {o : Nat} {a0 : Int32} {a1 : Int32} {out : Int32 × AH × Nat × Nat} (hf : f_X1_unwish E h nx o a0 a1 = some out) : Met l yX1_unwish (ws_ yX1_unwish cX1_unwish 6 (some .int)) (rC (fE + 8) (lE + 3163) out.2.2.1 out.2.2.2) (bPc G E.1 hSites h nx [.ref o, .int a0, .int a1]) (bQ G (some (.int out.1)) True out.2.1 (nx + out.2.2.1) (AA h nx)) out.2.2.1 out.2.2.2 (AA h nx) := by
  refine bGo (by decide +kernel) (Nat.le_of_ble_eq_true rfl) (fun p e s m below meth c ls S hr hlocks hin hnm hS hB hl => ?_)
  have S : CallFix p m c cX1_unwish 6 s _ lw_all RX1 := S
  obtain ⟨hx, hb, hml, hown, hts⟩ := id S
  have hl : lv_has ls 6 [(0, .ref o), (1, .int a0), (2, .int a1)] := hl
  have w66 : ∀ (n : Nat) , ∀ (x0 : Nat) (x1 : Int32) (x5 : Int32) (hc : AH) (nc : Nat) (ls : Array Slot) (H : Heap) (locs : List Loc) (ce sl : Nat) (o1 : Int32 × AH × Nat × Nat), BI G (AA h nx) s.heap hc nc H locs → nc = nx + ce → TL out o1 ce sl → lv_has ls 6 [(0, .ref x0), (1, .int x1), (5, .int x5)] → f_X1_unwish_66 n E x0 x1 x5 hc nc = some o1 → W p l e (rC (fE + 8) (lE + 3163) out.2.2.1 out.2.2.2) s m ([.ref o, .int a0, .int a1] : List Value).toArray below meth c H locs ce sl (MQ below (bQ G (some (.int out.1)) True out.2.1 (nx + out.2.2.1) (AA h nx)) ([.ref o, .int a0, .int a1] : List Value).toArray s out.2.2.1 out.2.2.2 (AA h nx)) (F0 m 66 ls []) := by
    intro n
    induction n with
    | zero =>
      intro x0 x1 x5 hc nc ls H locs ce sl o1 hB hn hT hl hf
      exact absurd hf (by rw [f_X1_unwish_66]; exact nofun)
    | succ n ih =>
      intro x0 x1 x5 hc nc ls H locs ce sl o1 hB hn hT hl hf
      rw [f_X1_unwish_66] at hf
      refine lv_iload hx hb dX1_unwish_66 (lv_at hl 2 rfl) ?_
      refine lv_aload_n hx hb dX1_unwish_68 rfl (lv_at hl 0 rfl) ?_
      obtain ⟨v1, hv1, hf⟩ := ob_s hf
      refine bg_X1_70 S hS hB (vR_s hv1) dX1_unwish_69 ?_
      obtain ⟨v2, hv2, hf⟩ := ob_s hf
      refine bg_X1_271 S hS hB (vR_s hv2) dX1_unwish_72 ?_
      refine lv_iload_n hx hb dX1_unwish_75 rfl (lv_at hl 1 rfl) ?_
      obtain ⟨v3, hv3, hf⟩ := ob_s hf
      refine b_iald S hS.1 hB hv3 dX1_unwish_76 ?_
      refine lv_icmp_ge (tgt := 118) hx hb dX1_unwish_77 (by decide) (fun c4 => ?_) (fun c4 => ?_)
      · replace hf := it_t c4 hf
        refine lv_aload_n hx hb dX1_unwish_118 rfl (lv_at hl 0 rfl) ?_
        obtain ⟨v5, hv5, hf⟩ := ob_s hf
        refine bg_X1_70 S hS hB (vR_s hv5) dX1_unwish_119 ?_
        obtain ⟨v6, hv6, hf⟩ := ob_s hf
        refine bg_X1_271 S hS hB (vR_s hv6) dX1_unwish_122 ?_
        refine lv_iload_n hx hb dX1_unwish_125 rfl (lv_at hl 1 rfl) ?_
        obtain ⟨v7, hv7, hf⟩ := ob_s hf
        refine b_iald S hS.1 hB hv7 dX1_unwish_126 ?_
        have hE9 := TL_e hT hf
        subst hE9
        exact bt_i S hr hlocks hB (by omega) trivial dX1_unwish_127
      · replace hf := it_f c4 hf
        refine lv_aload_n hx hb dX1_unwish_80 rfl (lv_at hl 0 rfl) ?_
        obtain ⟨v8, hv8, hf⟩ := ob_s hf
        refine bg_X1_70 S hS hB (vR_s hv8) dX1_unwish_81 ?_
        obtain ⟨v9, hv9, hf⟩ := ob_s hf
        refine bg_X1_558 S hS hB (vR_s hv9) dX1_unwish_84 ?_
        refine lv_bipush hx hb dX1_unwish_87 kc_b6 ?_
        refine lv_iload_n hx hb dX1_unwish_89 rfl (lv_at hl 1 rfl) ?_
        refine lv_imul hx hb dX1_unwish_90 ?_
        refine lv_iload hx hb dX1_unwish_91 (lv_at hl 2 rfl) ?_
        refine lv_iadd hx hb dX1_unwish_93 ?_
        refine lv_aload_n hx hb dX1_unwish_94 rfl (lv_at hl 0 rfl) ?_
        obtain ⟨v10, hv10, hf⟩ := ob_s hf
        refine bg_X1_70 S hS hB (vR_s hv10) dX1_unwish_95 ?_
        obtain ⟨v11, hv11, hf⟩ := ob_s hf
        refine bg_X1_558 S hS hB (vR_s hv11) dX1_unwish_98 ?_
        refine lv_bipush hx hb dX1_unwish_101 kc_b6 ?_
        refine lv_iload_n hx hb dX1_unwish_103 rfl (lv_at hl 1 rfl) ?_
        refine lv_imul hx hb dX1_unwish_104 ?_
        refine lv_iload hx hb dX1_unwish_105 (lv_at hl 2 rfl) ?_
        refine lv_iadd hx hb dX1_unwish_107 ?_
        refine lv_iconst hx hb dX1_unwish_108 kc_i1 ?_
        refine lv_iadd hx hb dX1_unwish_109 ?_
        obtain ⟨v12, hv12, hf⟩ := ob_s hf
        refine b_iald S hS.1 hB hv12 dX1_unwish_110 ?_
        obtain ⟨h13, hh13, hf⟩ := ob_s hf
        refine b_iast S hS.1 hB hh13 dX1_unwish_111 (fun H locs hB => ?_)
        refine lv_iinc (v := (x5 + 1)) (lv' := [(5, .int (x5 + 1)), (0, .ref x0), (1, .int x1)]) hx hb dX1_unwish_112 hl (k := 2) rfl rfl (by decide) rfl (fun ls hl => ?_)
        refine lv_goto (tgt := 66) hx hb dX1_unwish_115 (by decide) ?_
        exact (ih) x0 x1 (x5 + 1) h13 nc ls H locs ce sl o1 hB (by omega) hT (lv_sub (l' := [(0, .ref x0), (1, .int x1), (5, .int (x5 + 1))]) hl [1, 2, 0] rfl) hf
  have w29 : ∀ (x0 : Nat) (x1 : Int32) (x2 : Int32) (y0 : Nat) (y1 : Int32) (hc : AH) (nc : Nat) (ls : Array Slot) (H : Heap) (locs : List Loc) (ce sl : Nat) (o1 : Int32 × AH × Nat × Nat), BI G (AA h nx) s.heap hc nc H locs → nc = nx + ce → TL out o1 ce sl → lv_has ls 6 [(0, .ref x0), (1, .int x1), (2, .int x2)] → f_X1_unwish_29 E x0 x1 x2 y0 y1 hc nc = some o1 → W p l e (rC (fE + 8) (lE + 3163) out.2.2.1 out.2.2.2) s m ([.ref o, .int a0, .int a1] : List Value).toArray below meth c H locs ce sl (MQ below (bQ G (some (.int out.1)) True out.2.1 (nx + out.2.2.1) (AA h nx)) ([.ref o, .int a0, .int a1] : List Value).toArray s out.2.2.1 out.2.2.2 (AA h nx)) (F0 m 29 ls [.int y1, .ref y0]) := by
    intro x0 x1 x2 y0 y1 hc nc ls H locs ce sl o1 hB hn hT hl hf
    rw [f_X1_unwish_29] at hf
    obtain ⟨g1, hf⟩ := gd_t hf
    obtain ⟨v2, hv2, hf⟩ := ob_s hf
    obtain ⟨o3, hf, hT⟩ := TL_c hT hf
    refine mc_X1_155 (fE := fE) (lE := lE) S hS hB g1 hv2 hl.1 ⟨(by show _ ≤ (fE + 8); omega), (by show _ ≤ (lE + 3163); omega)⟩ (Nat.le_of_ble_eq_true rfl) ⟨(TL_m hT).1, (TL_m hT).2⟩ dX1_unwish_29 (fun H locs hnv2 hB => ?_)
    refine lv_if_ne (tgt := 37) hx hb dX1_unwish_32 (by decide) (fun c4 => ?_) (fun c4 => ?_)
    · replace hf := it_f c4 hf
      refine lv_aload_n hx hb dX1_unwish_37 rfl (lv_at hl 0 rfl) ?_
      obtain ⟨g5, hf⟩ := gd_t hf
      obtain ⟨v6, hv6, hf⟩ := ob_s hf
      obtain ⟨o7, hf, hT⟩ := TL_c hT hf
      refine mc_X1_548 (fE := fE) (lE := lE) S hS hB g5 hv6 hl.1 ⟨(by show _ ≤ (fE + 8); omega), (by show _ ≤ (lE + 3163); omega)⟩ (Nat.le_of_ble_eq_true rfl) ⟨(TL_m hT).1, (TL_m hT).2⟩ dX1_unwish_38 (fun H locs _ hB => ?_)
      refine lv_aload_n hx hb dX1_unwish_41 rfl (lv_at hl 0 rfl) ?_
      refine lv_iload_n hx hb dX1_unwish_42 rfl (lv_at hl 1 rfl) ?_
      refine lv_iload_n hx hb dX1_unwish_43 rfl (lv_at hl 2 rfl) ?_
      obtain ⟨g8, hf⟩ := gd_t hf
      obtain ⟨v9, hv9, hf⟩ := ob_s hf
      refine mc_X1_472 (fE := fE) (lE := lE) S hS hB g8 hv9 hl.1 ⟨(by show _ ≤ (fE + 8); omega), (by show _ ≤ (lE + 3163); omega)⟩ (Nat.le_of_ble_eq_true rfl) ⟨(TL_m hT).1, (TL_m hT).2⟩ dX1_unwish_44 (fun _ => ?_)
      refine lv_istore (lv' := [(4, .int v9), (0, .ref x0), (1, .int x1), (2, .int x2)]) hx hb dX1_unwish_47 hl (by decide) rfl (fun ls hl => ?_)
      refine lv_aload_n hx hb dX1_unwish_49 rfl (lv_at hl 1 rfl) ?_
      obtain ⟨v10, hv10, hf⟩ := ob_s hf
      refine bg_X1_70 S hS hB (vR_s hv10) dX1_unwish_50 ?_
      obtain ⟨v11, hv11, hf⟩ := ob_s hf
      refine bg_X1_271 S hS hB (vR_s hv11) dX1_unwish_53 ?_
      refine lv_iload_n hx hb dX1_unwish_56 rfl (lv_at hl 2 rfl) ?_
      refine lv_dup2_11 hx hb dX1_unwish_57 rfl rfl ?_
      obtain ⟨v12, hv12, hf⟩ := ob_s hf
      refine b_iald S hS.1 hB hv12 dX1_unwish_58 ?_
      refine lv_iconst hx hb dX1_unwish_59 kc_i1 ?_
      refine lv_isub hx hb dX1_unwish_60 ?_
      obtain ⟨h13, hh13, hf⟩ := ob_s hf
      refine b_iast S hS.1 hB hh13 dX1_unwish_61 (fun H locs hB => ?_)
      refine lv_iload hx hb dX1_unwish_62 (lv_at hl 0 rfl) ?_
      refine lv_istore (lv' := [(5, .int v9), (4, .int v9), (0, .ref x0), (1, .int x1), (2, .int x2)]) hx hb dX1_unwish_64 hl (by decide) rfl (fun ls hl => ?_)
      exact (w66 FU) x0 x1 v9 h13 ((nc + v2.2.2.1) + v6.2.2.1) ls H locs ((ce + v2.2.2.1) + v6.2.2.1) ((sl + v2.2.2.2) + v6.2.2.2) o7 hB (by omega) hT (lv_sub (l' := [(0, .ref x0), (1, .int x1), (5, .int v9)]) hl [2, 3, 0] rfl) hf
    · replace hf := it_t c4 hf
      refine lv_iconst hx hb dX1_unwish_35 kc_im1 ?_
      have hE9 := TL_e hT hf
      subst hE9
      exact bt_i S hr hlocks hB (by omega) trivial dX1_unwish_36
  have hT : TL out out 0 0 := TL_0
  rw [f_X1_unwish] at hf
  refine lv_aload_n hx hb dX1_unwish_0 rfl (lv_at hl 0 rfl) ?_
  refine lv_iload_n hx hb dX1_unwish_1 rfl (lv_at hl 1 rfl) ?_
  refine lv_iload_n hx hb dX1_unwish_2 rfl (lv_at hl 2 rfl) ?_
  obtain ⟨g1, hf⟩ := gd_t hf
  obtain ⟨v2, hv2, hf⟩ := ob_s hf
  refine mc_X1_319 (fE := fE) (lE := lE) S hS hB g1 hv2 hl.1 ⟨(by show _ ≤ (fE + 8); omega), (by show _ ≤ (lE + 3163); omega)⟩ (Nat.le_of_ble_eq_true rfl) ⟨(TL_m hT).1, (TL_m hT).2⟩ dX1_unwish_3 (fun _ => ?_)
  refine lv_istore_n (i := 3) (lv' := [(3, .int v2), (0, .ref o), (1, .int a0), (2, .int a1)]) hx hb dX1_unwish_6 rfl hl (by decide) rfl (fun ls hl => ?_)
  refine lv_aload_n hx hb dX1_unwish_7 rfl (lv_at hl 1 rfl) ?_
  refine lv_iload_n hx hb dX1_unwish_8 rfl (lv_at hl 0 rfl) ?_
  refine lv_if_ne (tgt := 28) hx hb dX1_unwish_9 (by decide) (fun c3 => ?_) (fun c3 => ?_)
  · replace hf := it_f c3 hf
    refine lv_iload_n hx hb dX1_unwish_28 rfl (lv_at hl 0 rfl) ?_
    exact (w29) o a0 a1 o v2 h nx ls s.heap [] 0 0 out hB (by omega) hT (lv_sub (l' := [(0, .ref o), (1, .int a0), (2, .int a1)]) hl [1, 2, 3] rfl) hf
  · replace hf := it_t c3 hf
    refine lv_aload_n hx hb dX1_unwish_12 rfl (lv_at hl 1 rfl) ?_
    obtain ⟨v4, hv4, hf⟩ := ob_s hf
    refine bg_X1_70 S hS hB (vR_s hv4) dX1_unwish_13 ?_
    refine lv_iload_n hx hb dX1_unwish_16 rfl (lv_at hl 2 rfl) ?_
    refine lv_iload_n hx hb dX1_unwish_17 rfl (lv_at hl 3 rfl) ?_
    obtain ⟨g5, hf⟩ := gd_t hf
    obtain ⟨v6, hv6, hf⟩ := ob_s hf
    refine mc_X1_469 (fE := fE) (lE := lE) S hS hB g5 hv6 hl.1 ⟨(by show _ ≤ (fE + 8); omega), (by show _ ≤ (lE + 3163); omega)⟩ (Nat.le_of_ble_eq_true rfl) ⟨(TL_m hT).1, (TL_m hT).2⟩ dX1_unwish_18 (fun hnv6 => ?_)
    refine lv_if_ne (tgt := 28) hx hb dX1_unwish_21 (by decide) (fun c7 => ?_) (fun c7 => ?_)
    · replace hf := it_f c7 hf
      refine lv_iload_n hx hb dX1_unwish_28 rfl (lv_at hl 0 rfl) ?_
      exact (w29) o a0 a1 o v2 h nx ls s.heap [] 0 0 out hB (by omega) hT (lv_sub (l' := [(0, .ref o), (1, .int a0), (2, .int a1)]) hl [1, 2, 3] rfl) hf
    · replace hf := it_t c7 hf
      refine lv_iconst hx hb dX1_unwish_24 kc_i5 ?_
      refine lv_goto (tgt := 29) hx hb dX1_unwish_25 (by decide) ?_
      exact (w29) o a0 a1 o (nI 5) h nx ls s.heap [] 0 0 out hB (by omega) hT (lv_sub (l' := [(0, .ref o), (1, .int a0), (2, .int a1)]) hl [1, 2, 3] rfl) hf
theorem hd_X1_leave : yX1_leave.cls = RX1 ∧ yX1_leave.cls ≠ "java/lang/invoke/MethodHandle" ∧ yX1_leave.cls ≠ "java/lang/invoke/VarHandle" ∧ (parseMethodDescriptor yX1_leave.desc).map (fun d => d.parameters.length) = some 1 := by decide +kernel
set_option maxHeartbeats 4000000 in
set_option maxRecDepth 100000 in
theorem mm_X1_leave {o : Nat} {a0 : Int32} {out : Int32 × AH × Nat × Nat} (hE : IfOK l G E fE lE) (hf : f_X1_leave E h nx o a0 = some out) : Met l yX1_leave (ws_ yX1_leave cX1_leave 2 (some .int)) (rC (fE + 8) (lE + 3163) out.2.2.1 out.2.2.2) (bPc G E.1 hSites h nx [.ref o, .int a0]) (bQ G (some (.int out.1)) True out.2.1 (nx + out.2.2.1) (AA h nx)) out.2.2.1 out.2.2.2 (AA h nx) := by
  refine bGo (by decide +kernel) (Nat.le_of_ble_eq_true rfl) (fun p e s m below meth c ls S hr hlocks hin hnm hS hB hl => ?_)
  have S : CallFix p m c cX1_leave 2 s _ lw_all RX1 := S
  obtain ⟨hx, hb, hml, hown, hts⟩ := id S
  have hl : lv_has ls 2 [(0, .ref o), (1, .int a0)] := hl
  have w30 : ∀ (x0 : Nat) (x1 : Int32) (y0 : Nat) (y1 : Int32) (hc : AH) (nc : Nat) (ls : Array Slot) (H : Heap) (locs : List Loc) (ce sl : Nat) (o1 : Int32 × AH × Nat × Nat), BI G (AA h nx) s.heap hc nc H locs → nc = nx + ce → TL out o1 ce sl → lv_has ls 2 [(0, .ref x0), (1, .int x1)] → f_X1_leave_30 E x0 x1 y0 y1 hc nc = some o1 → W p l e (rC (fE + 8) (lE + 3163) out.2.2.1 out.2.2.2) s m ([.ref o, .int a0] : List Value).toArray below meth c H locs ce sl (MQ below (bQ G (some (.int out.1)) True out.2.1 (nx + out.2.2.1) (AA h nx)) ([.ref o, .int a0] : List Value).toArray s out.2.2.1 out.2.2.2 (AA h nx)) (F0 m 30 ls [.int y1, .ref y0]) := by
    intro x0 x1 y0 y1 hc nc ls H locs ce sl o1 hB hn hT hl hf
    rw [f_X1_leave_30] at hf
    obtain ⟨g1, hf⟩ := gd_t hf
    obtain ⟨v2, hv2, hf⟩ := ob_s hf
    obtain ⟨o3, hf, hT⟩ := TL_c hT hf
    refine mc_X1_155 (fE := fE) (lE := lE) S hS hB g1 hv2 hl.1 ⟨(by show _ ≤ (fE + 8); omega), (by show _ ≤ (lE + 3163); omega)⟩ (Nat.le_of_ble_eq_true rfl) ⟨(TL_m hT).1, (TL_m hT).2⟩ dX1_leave_30 (fun H locs hnv2 hB => ?_)
    refine lv_if_ne (tgt := 38) hx hb dX1_leave_33 (by decide) (fun c4 => ?_) (fun c4 => ?_)
    · replace hf := it_f c4 hf
      refine lv_aload_n hx hb dX1_leave_38 rfl (lv_at hl 0 rfl) ?_
      obtain ⟨g5, hf⟩ := gd_t hf
      obtain ⟨v6, hv6, hf⟩ := ob_s hf
      obtain ⟨o7, hf, hT⟩ := TL_c hT hf
      refine mc_X1_548 (fE := fE) (lE := lE) S hS hB g5 hv6 hl.1 ⟨(by show _ ≤ (fE + 8); omega), (by show _ ≤ (lE + 3163); omega)⟩ (Nat.le_of_ble_eq_true rfl) ⟨(TL_m hT).1, (TL_m hT).2⟩ dX1_leave_39 (fun H locs _ hB => ?_)
      refine lv_aload_n hx hb dX1_leave_42 rfl (lv_at hl 0 rfl) ?_
      obtain ⟨v8, hv8, hf⟩ := ob_s hf
      refine bg_X1_70 S hS hB (vR_s hv8) dX1_leave_43 ?_
      refine lv_iload_n hx hb dX1_leave_46 rfl (lv_at hl 1 rfl) ?_
      obtain ⟨g9, hf⟩ := gd_t hf
      obtain ⟨v10, hv10, hf⟩ := ob_s hf
      obtain ⟨o11, hf, hT⟩ := TL_c hT hf
      refine mc_X1_561 (fE := fE) (lE := lE) S hS hB g9 hv10 hl.1 ⟨(by show _ ≤ (fE + 8); omega), (by show _ ≤ (lE + 3163); omega)⟩ (Nat.le_of_ble_eq_true rfl) ⟨(TL_m hT).1, (TL_m hT).2⟩ dX1_leave_47 (fun H locs _ hB => ?_)
      refine lv_aload_n hx hb dX1_leave_50 rfl (lv_at hl 0 rfl) ?_
      refine lv_aload_n hx hb dX1_leave_51 rfl (lv_at hl 0 rfl) ?_
      obtain ⟨v12, hv12, hf⟩ := ob_s hf
      refine bg_X1_70 S hS hB (vR_s hv12) dX1_leave_52 ?_
      obtain ⟨g13, hf⟩ := gd_t hf
      obtain ⟨v14, hv14, hf⟩ := ob_s hf
      obtain ⟨o15, hf, hT⟩ := TL_c hT hf
      refine mc_X1_223 (fE := fE) (lE := lE) S hE hS hB g13 hv14 hl.1 ⟨(by show _ ≤ (fE + 8); omega), (by show _ ≤ (lE + 3163); omega)⟩ (Nat.le_of_ble_eq_true rfl) ⟨(TL_m hT).1, (TL_m hT).2⟩ dX1_leave_55 (fun H locs _ hB => ?_)
      have hE9 := TL_e hT hf
      subst hE9
      exact bt_i S hr hlocks hB (by omega) trivial dX1_leave_58
    · replace hf := it_t c4 hf
      refine lv_iconst hx hb dX1_leave_36 kc_im1 ?_
      have hE9 := TL_e hT hf
      subst hE9
      exact bt_i S hr hlocks hB (by omega) trivial dX1_leave_37
  have hT : TL out out 0 0 := TL_0
  rw [f_X1_leave] at hf
  refine lv_aload_n hx hb dX1_leave_0 rfl (lv_at hl 0 rfl) ?_
  refine lv_aload_n hx hb dX1_leave_1 rfl (lv_at hl 0 rfl) ?_
  refine lv_iload_n hx hb dX1_leave_2 rfl (lv_at hl 1 rfl) ?_
  obtain ⟨g1, hf⟩ := gd_t hf
  obtain ⟨v2, hv2, hf⟩ := ob_s hf
  refine mc_X1_138 (fE := fE) (lE := lE) S hS hB g1 hv2 hl.1 ⟨(by show _ ≤ (fE + 8); omega), (by show _ ≤ (lE + 3163); omega)⟩ (Nat.le_of_ble_eq_true rfl) ⟨(TL_m hT).1, (TL_m hT).2⟩ dX1_leave_3 (fun hnv2 => ?_)
  refine lv_if_ne (tgt := 13) hx hb dX1_leave_6 (by decide) (fun c3 => ?_) (fun c3 => ?_)
  · replace hf := it_f c3 hf
    refine lv_aload_n hx hb dX1_leave_13 rfl (lv_at hl 0 rfl) ?_
    obtain ⟨v4, hv4, hf⟩ := ob_s hf
    refine bg_X1_70 S hS hB (vR_s hv4) dX1_leave_14 ?_
    obtain ⟨v5, hv5, hf⟩ := ob_s hf
    refine bg_X1_305 S hS hB (vR_s hv5) dX1_leave_17 ?_
    refine lv_iload_n hx hb dX1_leave_20 rfl (lv_at hl 1 rfl) ?_
    obtain ⟨v6, hv6, hf⟩ := ob_s hf
    refine b_zald S hS.1 hB hv6 dX1_leave_21 ?_
    refine lv_if_eq (tgt := 29) hx hb dX1_leave_22 (by decide) (fun c7 => ?_) (fun c7 => ?_)
    · replace hf := it_t c7 hf
      refine lv_iconst hx hb dX1_leave_29 kc_i0 ?_
      exact (w30) o a0 o 0 h nx ls s.heap [] 0 0 out hB (by omega) hT hl hf
    · replace hf := it_f c7 hf
      refine lv_iconst hx hb dX1_leave_25 kc_i4 ?_
      refine lv_goto (tgt := 30) hx hb dX1_leave_26 (by decide) ?_
      exact (w30) o a0 o (nI 4) h nx ls s.heap [] 0 0 out hB (by omega) hT hl hf
  · replace hf := it_t c3 hf
    refine lv_iconst hx hb dX1_leave_9 kc_i2 ?_
    refine lv_goto (tgt := 30) hx hb dX1_leave_10 (by decide) ?_
    exact (w30) o a0 o (nI 2) h nx ls s.heap [] 0 0 out hB (by omega) hT hl hf
theorem hd_X1_shut : yX1_shut.cls = RX1 ∧ yX1_shut.cls ≠ "java/lang/invoke/MethodHandle" ∧ yX1_shut.cls ≠ "java/lang/invoke/VarHandle" ∧ (parseMethodDescriptor yX1_shut.desc).map (fun d => d.parameters.length) = some 2 := by decide +kernel
set_option maxHeartbeats 4000000 in
set_option maxRecDepth 100000 in
theorem mm_X1_shut {o : Nat} {a0 : Int32} {a1 : Int32} {out : Int32 × AH × Nat × Nat} (hE : IfOK l G E fE lE) (hf : f_X1_shut E h nx o a0 a1 = some out) : Met l yX1_shut (ws_ yX1_shut cX1_shut 4 (some .int)) (rC (fE + 8) (lE + 3163) out.2.2.1 out.2.2.2) (bPc G E.1 hSites h nx [.ref o, .int a0, .int a1]) (bQ G (some (.int out.1)) True out.2.1 (nx + out.2.2.1) (AA h nx)) out.2.2.1 out.2.2.2 (AA h nx) := by
  refine bGo (by decide +kernel) (Nat.le_of_ble_eq_true rfl) (fun p e s m below meth c ls S hr hlocks hin hnm hS hB hl => ?_)
  have S : CallFix p m c cX1_shut 4 s _ lw_all RX1 := S
  obtain ⟨hx, hb, hml, hown, hts⟩ := id S
  have hl : lv_has ls 4 [(0, .ref o), (1, .int a0), (2, .int a1)] := hl
  have w93 : ∀ (x0 : Nat) (hc : AH) (nc : Nat) (ls : Array Slot) (H : Heap) (locs : List Loc) (ce sl : Nat) (o1 : Int32 × AH × Nat × Nat), BI G (AA h nx) s.heap hc nc H locs → nc = nx + ce → TL out o1 ce sl → lv_has ls 4 [(0, .ref x0)] → f_X1_shut_93 E x0 hc nc = some o1 → W p l e (rC (fE + 8) (lE + 3163) out.2.2.1 out.2.2.2) s m ([.ref o, .int a0, .int a1] : List Value).toArray below meth c H locs ce sl (MQ below (bQ G (some (.int out.1)) True out.2.1 (nx + out.2.2.1) (AA h nx)) ([.ref o, .int a0, .int a1] : List Value).toArray s out.2.2.1 out.2.2.2 (AA h nx)) (F0 m 93 ls []) := by
    intro x0 hc nc ls H locs ce sl o1 hB hn hT hl hf
    rw [f_X1_shut_93] at hf
    refine lv_aload_n hx hb dX1_shut_93 rfl (lv_at hl 0 rfl) ?_
    refine lv_aload_n hx hb dX1_shut_94 rfl (lv_at hl 0 rfl) ?_
    obtain ⟨v1, hv1, hf⟩ := ob_s hf
    refine bg_X1_70 S hS hB (vR_s hv1) dX1_shut_95 ?_
    obtain ⟨g2, hf⟩ := gd_t hf
    obtain ⟨v3, hv3, hf⟩ := ob_s hf
    obtain ⟨o4, hf, hT⟩ := TL_c hT hf
    refine mc_X1_219 (fE := fE) (lE := lE) S hE hS hB g2 hv3 hl.1 ⟨(by show _ ≤ (fE + 8); omega), (by show _ ≤ (lE + 3163); omega)⟩ (Nat.le_of_ble_eq_true rfl) ⟨(TL_m hT).1, (TL_m hT).2⟩ dX1_shut_98 (fun H locs _ hB => ?_)
    have hE9 := TL_e hT hf
    subst hE9
    exact bt_i S hr hlocks hB (by omega) trivial dX1_shut_101
  have w55 : ∀ (n : Nat) , ∀ (x0 : Nat) (x1 : Int32) (x2 : Int32) (x3 : Int32) (hc : AH) (nc : Nat) (ls : Array Slot) (H : Heap) (locs : List Loc) (ce sl : Nat) (o1 : Int32 × AH × Nat × Nat), BI G (AA h nx) s.heap hc nc H locs → nc = nx + ce → TL out o1 ce sl → lv_has ls 4 [(0, .ref x0), (1, .int x1), (2, .int x2), (3, .int x3)] → f_X1_shut_55 n E x0 x1 x2 x3 hc nc = some o1 → W p l e (rC (fE + 8) (lE + 3163) out.2.2.1 out.2.2.2) s m ([.ref o, .int a0, .int a1] : List Value).toArray below meth c H locs ce sl (MQ below (bQ G (some (.int out.1)) True out.2.1 (nx + out.2.2.1) (AA h nx)) ([.ref o, .int a0, .int a1] : List Value).toArray s out.2.2.1 out.2.2.2 (AA h nx)) (F0 m 55 ls []) := by
    intro n
    induction n with
    | zero =>
      intro x0 x1 x2 x3 hc nc ls H locs ce sl o1 hB hn hT hl hf
      exact absurd hf (by rw [f_X1_shut_55]; exact nofun)
    | succ n ih =>
      intro x0 x1 x2 x3 hc nc ls H locs ce sl o1 hB hn hT hl hf
      rw [f_X1_shut_55] at hf
      refine lv_iload_n hx hb dX1_shut_55 rfl (lv_at hl 2 rfl) ?_
      refine lv_if_eq (tgt := 93) hx hb dX1_shut_56 (by decide) (fun c1 => ?_) (fun c1 => ?_)
      · replace hf := it_t c1 hf
        exact (w93) x0 hc nc ls H locs ce sl o1 hB (by omega) hT (lv_sub (l' := [(0, .ref x0)]) hl [0] rfl) hf
      · replace hf := it_f c1 hf
        refine lv_iload_n hx hb dX1_shut_59 rfl (lv_at hl 3 rfl) ?_
        refine lv_aload_n hx hb dX1_shut_60 rfl (lv_at hl 0 rfl) ?_
        obtain ⟨v2, hv2, hf⟩ := ob_s hf
        refine bg_X1_51 S hS hB (vR_s hv2) dX1_shut_61 ?_
        obtain ⟨g3, hf⟩ := gd_t hf
        obtain ⟨v4, hv4, hf⟩ := ob_s hf
        refine mc_X1_130 (fE := fE) (lE := lE) S hS hB g3 hv4 hl.1 ⟨(by show _ ≤ (fE + 8); omega), (by show _ ≤ (lE + 3163); omega)⟩ (Nat.le_of_ble_eq_true rfl) ⟨(TL_m hT).1, (TL_m hT).2⟩ dX1_shut_64 (fun _ => ?_)
        refine lv_icmp_ge (tgt := 93) hx hb dX1_shut_67 (by decide) (fun c5 => ?_) (fun c5 => ?_)
        · replace hf := it_t c5 hf
          exact (w93) x0 hc nc ls H locs ce sl o1 hB (by omega) hT (lv_sub (l' := [(0, .ref x0)]) hl [0] rfl) hf
        · replace hf := it_f c5 hf
          refine lv_aload_n hx hb dX1_shut_70 rfl (lv_at hl 0 rfl) ?_
          obtain ⟨v6, hv6, hf⟩ := ob_s hf
          refine bg_X1_70 S hS hB (vR_s hv6) dX1_shut_71 ?_
          obtain ⟨v7, hv7, hf⟩ := ob_s hf
          refine bg_X1_432 S hS hB (vR_s hv7) dX1_shut_74 ?_
          refine lv_iload_n hx hb dX1_shut_77 rfl (lv_at hl 3 rfl) ?_
          refine lv_dup2_11 hx hb dX1_shut_78 rfl rfl ?_
          obtain ⟨v8, hv8, hf⟩ := ob_s hf
          refine b_iald S hS.1 hB hv8 dX1_shut_79 ?_
          refine lv_iconst hx hb dX1_shut_80 kc_i1 ?_
          refine lv_iload_n hx hb dX1_shut_81 rfl (lv_at hl 1 rfl) ?_
          refine lv_ishl hx hb dX1_shut_82 ?_
          refine lv_iconst hx hb dX1_shut_83 kc_im1 ?_
          refine lv_ixor hx hb dX1_shut_84 ?_
          refine lv_iand hx hb dX1_shut_85 ?_
          obtain ⟨h9, hh9, hf⟩ := ob_s hf
          refine b_iast S hS.1 hB hh9 dX1_shut_86 (fun H locs hB => ?_)
          refine lv_iinc (v := (x3 + 1)) (lv' := [(3, .int (x3 + 1)), (0, .ref x0), (1, .int x1), (2, .int x2)]) hx hb dX1_shut_87 hl (k := 3) rfl rfl (by decide) rfl (fun ls hl => ?_)
          refine lv_goto (tgt := 55) hx hb dX1_shut_90 (by decide) ?_
          exact (ih) x0 x1 x2 (x3 + 1) h9 nc ls H locs ce sl o1 hB (by omega) hT (lv_sub (l' := [(0, .ref x0), (1, .int x1), (2, .int x2), (3, .int (x3 + 1))]) hl [1, 2, 3, 0] rfl) hf
  have w31 : ∀ (x0 : Nat) (x1 : Int32) (x2 : Int32) (y0 : Nat) (y1 : Int32) (hc : AH) (nc : Nat) (ls : Array Slot) (H : Heap) (locs : List Loc) (ce sl : Nat) (o1 : Int32 × AH × Nat × Nat), BI G (AA h nx) s.heap hc nc H locs → nc = nx + ce → TL out o1 ce sl → lv_has ls 4 [(0, .ref x0), (1, .int x1), (2, .int x2)] → f_X1_shut_31 E x0 x1 x2 y0 y1 hc nc = some o1 → W p l e (rC (fE + 8) (lE + 3163) out.2.2.1 out.2.2.2) s m ([.ref o, .int a0, .int a1] : List Value).toArray below meth c H locs ce sl (MQ below (bQ G (some (.int out.1)) True out.2.1 (nx + out.2.2.1) (AA h nx)) ([.ref o, .int a0, .int a1] : List Value).toArray s out.2.2.1 out.2.2.2 (AA h nx)) (F0 m 31 ls [.int y1, .ref y0]) := by
    intro x0 x1 x2 y0 y1 hc nc ls H locs ce sl o1 hB hn hT hl hf
    rw [f_X1_shut_31] at hf
    obtain ⟨g1, hf⟩ := gd_t hf
    obtain ⟨v2, hv2, hf⟩ := ob_s hf
    obtain ⟨o3, hf, hT⟩ := TL_c hT hf
    refine mc_X1_155 (fE := fE) (lE := lE) S hS hB g1 hv2 hl.1 ⟨(by show _ ≤ (fE + 8); omega), (by show _ ≤ (lE + 3163); omega)⟩ (Nat.le_of_ble_eq_true rfl) ⟨(TL_m hT).1, (TL_m hT).2⟩ dX1_shut_31 (fun H locs hnv2 hB => ?_)
    refine lv_if_ne (tgt := 39) hx hb dX1_shut_34 (by decide) (fun c4 => ?_) (fun c4 => ?_)
    · replace hf := it_f c4 hf
      refine lv_aload_n hx hb dX1_shut_39 rfl (lv_at hl 0 rfl) ?_
      obtain ⟨g5, hf⟩ := gd_t hf
      obtain ⟨v6, hv6, hf⟩ := ob_s hf
      obtain ⟨o7, hf, hT⟩ := TL_c hT hf
      refine mc_X1_548 (fE := fE) (lE := lE) S hS hB g5 hv6 hl.1 ⟨(by show _ ≤ (fE + 8); omega), (by show _ ≤ (lE + 3163); omega)⟩ (Nat.le_of_ble_eq_true rfl) ⟨(TL_m hT).1, (TL_m hT).2⟩ dX1_shut_40 (fun H locs _ hB => ?_)
      refine lv_aload_n hx hb dX1_shut_43 rfl (lv_at hl 0 rfl) ?_
      obtain ⟨v8, hv8, hf⟩ := ob_s hf
      refine bg_X1_70 S hS hB (vR_s hv8) dX1_shut_44 ?_
      obtain ⟨v9, hv9, hf⟩ := ob_s hf
      refine bg_X1_257 S hS hB (vR_s hv9) dX1_shut_47 ?_
      refine lv_iload_n hx hb dX1_shut_50 rfl (lv_at hl 1 rfl) ?_
      refine lv_iload_n hx hb dX1_shut_51 rfl (lv_at hl 2 rfl) ?_
      obtain ⟨h10, hh10, hf⟩ := ob_s hf
      refine b_zast S hS.1 hB hh10 dX1_shut_52 (fun H locs hB => ?_)
      refine lv_iconst hx hb dX1_shut_53 kc_i0 ?_
      refine lv_istore_n (i := 3) (lv' := [(3, .int 0), (0, .ref x0), (1, .int x1), (2, .int x2)]) hx hb dX1_shut_54 rfl hl (by decide) rfl (fun ls hl => ?_)
      exact (w55 FU) x0 x1 x2 0 h10 ((nc + v2.2.2.1) + v6.2.2.1) ls H locs ((ce + v2.2.2.1) + v6.2.2.1) ((sl + v2.2.2.2) + v6.2.2.2) o7 hB (by omega) hT (lv_sub (l' := [(0, .ref x0), (1, .int x1), (2, .int x2), (3, .int 0)]) hl [1, 2, 3, 0] rfl) hf
    · replace hf := it_t c4 hf
      refine lv_iconst hx hb dX1_shut_37 kc_im1 ?_
      have hE9 := TL_e hT hf
      subst hE9
      exact bt_i S hr hlocks hB (by omega) trivial dX1_shut_38
  have hT : TL out out 0 0 := TL_0
  rw [f_X1_shut] at hf
  refine lv_aload_n hx hb dX1_shut_0 rfl (lv_at hl 0 rfl) ?_
  refine lv_aload_n hx hb dX1_shut_1 rfl (lv_at hl 0 rfl) ?_
  refine lv_iload_n hx hb dX1_shut_2 rfl (lv_at hl 1 rfl) ?_
  obtain ⟨g1, hf⟩ := gd_t hf
  obtain ⟨v2, hv2, hf⟩ := ob_s hf
  refine mc_X1_141 (fE := fE) (lE := lE) S hS hB g1 hv2 hl.1 ⟨(by show _ ≤ (fE + 8); omega), (by show _ ≤ (lE + 3163); omega)⟩ (Nat.le_of_ble_eq_true rfl) ⟨(TL_m hT).1, (TL_m hT).2⟩ dX1_shut_3 (fun hnv2 => ?_)
  refine lv_if_ne (tgt := 13) hx hb dX1_shut_6 (by decide) (fun c3 => ?_) (fun c3 => ?_)
  · replace hf := it_f c3 hf
    refine lv_aload_n hx hb dX1_shut_13 rfl (lv_at hl 0 rfl) ?_
    obtain ⟨v4, hv4, hf⟩ := ob_s hf
    refine bg_X1_70 S hS hB (vR_s hv4) dX1_shut_14 ?_
    obtain ⟨v5, hv5, hf⟩ := ob_s hf
    refine bg_X1_257 S hS hB (vR_s hv5) dX1_shut_17 ?_
    refine lv_iload_n hx hb dX1_shut_20 rfl (lv_at hl 1 rfl) ?_
    obtain ⟨v6, hv6, hf⟩ := ob_s hf
    refine b_zald S hS.1 hB hv6 dX1_shut_21 ?_
    refine lv_iload_n hx hb dX1_shut_22 rfl (lv_at hl 2 rfl) ?_
    refine lv_icmp_ne (tgt := 30) hx hb dX1_shut_23 (by decide) (fun c7 => ?_) (fun c7 => ?_)
    · replace hf := it_f c7 hf
      refine lv_iconst hx hb dX1_shut_30 kc_i0 ?_
      exact (w31) o a0 a1 o 0 h nx ls s.heap [] 0 0 out hB (by omega) hT hl hf
    · replace hf := it_t c7 hf
      refine lv_iconst hx hb dX1_shut_26 kc_i4 ?_
      refine lv_goto (tgt := 31) hx hb dX1_shut_27 (by decide) ?_
      exact (w31) o a0 a1 o (nI 4) h nx ls s.heap [] 0 0 out hB (by omega) hT hl hf
  · replace hf := it_t c3 hf
    refine lv_iconst hx hb dX1_shut_9 kc_i2 ?_
    refine lv_goto (tgt := 31) hx hb dX1_shut_10 (by decide) ?_
    exact (w31) o a0 a1 o (nI 2) h nx ls s.heap [] 0 0 out hB (by omega) hT hl hf
theorem hd_X1_need : yX1_need.cls = RX1 ∧ yX1_need.cls ≠ "java/lang/invoke/MethodHandle" ∧ yX1_need.cls ≠ "java/lang/invoke/VarHandle" ∧ (parseMethodDescriptor yX1_need.desc).map (fun d => d.parameters.length) = some 2 := by decide +kernel
set_option maxHeartbeats 4000000 in
set_option maxRecDepth 100000 in
theorem mm_X1_need {o : Nat} {a0 : Int32} {a1 : Int32} {out : Int32 × AH × Nat × Nat} (hf : f_X1_need E h nx o a0 a1 = some out) : Met l yX1_need (ws_ yX1_need cX1_need 5 (some .int)) (rC (fE + 8) (lE + 3163) out.2.2.1 out.2.2.2) (bPc G E.1 hSites h nx [.ref o, .int a0, .int a1]) (bQ G (some (.int out.1)) True out.2.1 (nx + out.2.2.1) (AA h nx)) out.2.2.1 out.2.2.2 (AA h nx) := by
  refine bGo (by decide +kernel) (Nat.le_of_ble_eq_true rfl) (fun p e s m below meth c ls S hr hlocks hin hnm hS hB hl => ?_)
  have S : CallFix p m c cX1_need 5 s _ lw_all RX1 := S
  obtain ⟨hx, hb, hml, hown, hts⟩ := id S
  have hl : lv_has ls 5 [(0, .ref o), (1, .int a0), (2, .int a1)] := hl
  have w82 : ∀ (n : Nat) , ∀ (x0 : Nat) (x1 : Int32) (x3 : Int32) (x4 : Int32) (hc : AH) (nc : Nat) (ls : Array Slot) (H : Heap) (locs : List Loc) (ce sl : Nat) (o1 : Int32 × AH × Nat × Nat), BI G (AA h nx) s.heap hc nc H locs → nc = nx + ce → TL out o1 ce sl → lv_has ls 5 [(0, .ref x0), (1, .int x1), (3, .int x3), (4, .int x4)] → f_X1_need_82 n E x0 x1 x3 x4 hc nc = some o1 → W p l e (rC (fE + 8) (lE + 3163) out.2.2.1 out.2.2.2) s m ([.ref o, .int a0, .int a1] : List Value).toArray below meth c H locs ce sl (MQ below (bQ G (some (.int out.1)) True out.2.1 (nx + out.2.2.1) (AA h nx)) ([.ref o, .int a0, .int a1] : List Value).toArray s out.2.2.1 out.2.2.2 (AA h nx)) (F0 m 82 ls []) := by
    intro n
    induction n with
    | zero =>
      intro x0 x1 x3 x4 hc nc ls H locs ce sl o1 hB hn hT hl hf
      exact absurd hf (by rw [f_X1_need_82]; exact nofun)
    | succ n ih =>
      intro x0 x1 x3 x4 hc nc ls H locs ce sl o1 hB hn hT hl hf
      rw [f_X1_need_82] at hf
      refine lv_iload hx hb dX1_need_82 (lv_at hl 3 rfl) ?_
      refine lv_aload_n hx hb dX1_need_84 rfl (lv_at hl 0 rfl) ?_
      obtain ⟨v1, hv1, hf⟩ := ob_s hf
      refine bg_X1_39 S hS hB (vR_s hv1) dX1_need_85 ?_
      obtain ⟨g2, hf⟩ := gd_t hf
      obtain ⟨v3, hv3, hf⟩ := ob_s hf
      refine mc_X1_130 (fE := fE) (lE := lE) S hS hB g2 hv3 hl.1 ⟨(by show _ ≤ (fE + 8); omega), (by show _ ≤ (lE + 3163); omega)⟩ (Nat.le_of_ble_eq_true rfl) ⟨(TL_m hT).1, (TL_m hT).2⟩ dX1_need_88 (fun _ => ?_)
      refine lv_icmp_ge (tgt := 131) hx hb dX1_need_91 (by decide) (fun c4 => ?_) (fun c4 => ?_)
      · replace hf := it_t c4 hf
        refine lv_iload_n hx hb dX1_need_131 rfl (lv_at hl 2 rfl) ?_
        have hE9 := TL_e hT hf
        subst hE9
        exact bt_i S hr hlocks hB (by omega) trivial dX1_need_132
      · replace hf := it_f c4 hf
        refine lv_aload_n hx hb dX1_need_94 rfl (lv_at hl 0 rfl) ?_
        obtain ⟨v5, hv5, hf⟩ := ob_s hf
        refine bg_X1_70 S hS hB (vR_s hv5) dX1_need_95 ?_
        refine lv_iload_n hx hb dX1_need_98 rfl (lv_at hl 1 rfl) ?_
        refine lv_iload hx hb dX1_need_99 (lv_at hl 3 rfl) ?_
        obtain ⟨g6, hf⟩ := gd_t hf
        obtain ⟨v7, hv7, hf⟩ := ob_s hf
        refine mc_X1_338 (fE := fE) (lE := lE) S hS hB g6 hv7 hl.1 ⟨(by show _ ≤ (fE + 8); omega), (by show _ ≤ (lE + 3163); omega)⟩ (Nat.le_of_ble_eq_true rfl) ⟨(TL_m hT).1, (TL_m hT).2⟩ dX1_need_101 (fun hnv7 => ?_)
        refine lv_if_ne (tgt := 125) hx hb dX1_need_104 (by decide) (fun c8 => ?_) (fun c8 => ?_)
        · replace hf := it_f c8 hf
          refine lv_iinc (v := (x4 + 1)) (lv' := [(4, .int (x4 + 1)), (0, .ref x0), (1, .int x1), (3, .int x3)]) hx hb dX1_need_125 hl (k := 3) rfl rfl (by decide) rfl (fun ls hl => ?_)
          refine lv_goto (tgt := 82) hx hb dX1_need_128 (by decide) ?_
          exact (ih) x0 x1 x3 (x4 + 1) hc nc ls H locs ce sl o1 hB (by omega) hT (lv_sub (l' := [(0, .ref x0), (1, .int x1), (3, .int x3), (4, .int (x4 + 1))]) hl [1, 2, 3, 0] rfl) hf
        · replace hf := it_t c8 hf
          refine lv_aload_n hx hb dX1_need_107 rfl (lv_at hl 0 rfl) ?_
          obtain ⟨v9, hv9, hf⟩ := ob_s hf
          refine bg_X1_70 S hS hB (vR_s hv9) dX1_need_108 ?_
          obtain ⟨v10, hv10, hf⟩ := ob_s hf
          refine bg_X1_432 S hS hB (vR_s hv10) dX1_need_111 ?_
          refine lv_iload_n hx hb dX1_need_114 rfl (lv_at hl 1 rfl) ?_
          refine lv_dup2_11 hx hb dX1_need_115 rfl rfl ?_
          obtain ⟨v11, hv11, hf⟩ := ob_s hf
          refine b_iald S hS.1 hB hv11 dX1_need_116 ?_
          refine lv_iconst hx hb dX1_need_117 kc_i1 ?_
          refine lv_iload hx hb dX1_need_118 (lv_at hl 3 rfl) ?_
          refine lv_ishl hx hb dX1_need_120 ?_
          refine lv_iconst hx hb dX1_need_121 kc_im1 ?_
          refine lv_ixor hx hb dX1_need_122 ?_
          refine lv_iand hx hb dX1_need_123 ?_
          obtain ⟨h12, hh12, hf⟩ := ob_s hf
          refine b_iast S hS.1 hB hh12 dX1_need_124 (fun H locs hB => ?_)
          refine lv_iinc (v := (x4 + 1)) (lv' := [(4, .int (x4 + 1)), (0, .ref x0), (1, .int x1), (3, .int x3)]) hx hb dX1_need_125 hl (k := 3) rfl rfl (by decide) rfl (fun ls hl => ?_)
          refine lv_goto (tgt := 82) hx hb dX1_need_128 (by decide) ?_
          exact (ih) x0 x1 x3 (x4 + 1) h12 nc ls H locs ce sl o1 hB (by omega) hT (lv_sub (l' := [(0, .ref x0), (1, .int x1), (3, .int x3), (4, .int (x4 + 1))]) hl [1, 2, 3, 0] rfl) hf
  have w47 : ∀ (x0 : Nat) (x1 : Int32) (x2 : Int32) (y0 : Nat) (y1 : Int32) (hc : AH) (nc : Nat) (ls : Array Slot) (H : Heap) (locs : List Loc) (ce sl : Nat) (o1 : Int32 × AH × Nat × Nat), BI G (AA h nx) s.heap hc nc H locs → nc = nx + ce → TL out o1 ce sl → lv_has ls 5 [(0, .ref x0), (1, .int x1), (2, .int x2)] → f_X1_need_47 E x0 x1 x2 y0 y1 hc nc = some o1 → W p l e (rC (fE + 8) (lE + 3163) out.2.2.1 out.2.2.2) s m ([.ref o, .int a0, .int a1] : List Value).toArray below meth c H locs ce sl (MQ below (bQ G (some (.int out.1)) True out.2.1 (nx + out.2.2.1) (AA h nx)) ([.ref o, .int a0, .int a1] : List Value).toArray s out.2.2.1 out.2.2.2 (AA h nx)) (F0 m 47 ls [.int y1, .ref y0]) := by
    intro x0 x1 x2 y0 y1 hc nc ls H locs ce sl o1 hB hn hT hl hf
    rw [f_X1_need_47] at hf
    obtain ⟨g1, hf⟩ := gd_t hf
    obtain ⟨v2, hv2, hf⟩ := ob_s hf
    obtain ⟨o3, hf, hT⟩ := TL_c hT hf
    refine mc_X1_155 (fE := fE) (lE := lE) S hS hB g1 hv2 hl.1 ⟨(by show _ ≤ (fE + 8); omega), (by show _ ≤ (lE + 3163); omega)⟩ (Nat.le_of_ble_eq_true rfl) ⟨(TL_m hT).1, (TL_m hT).2⟩ dX1_need_47 (fun H locs hnv2 hB => ?_)
    refine lv_if_ne (tgt := 55) hx hb dX1_need_50 (by decide) (fun c4 => ?_) (fun c4 => ?_)
    · replace hf := it_f c4 hf
      refine lv_aload_n hx hb dX1_need_55 rfl (lv_at hl 0 rfl) ?_
      obtain ⟨g5, hf⟩ := gd_t hf
      obtain ⟨v6, hv6, hf⟩ := ob_s hf
      obtain ⟨o7, hf, hT⟩ := TL_c hT hf
      refine mc_X1_548 (fE := fE) (lE := lE) S hS hB g5 hv6 hl.1 ⟨(by show _ ≤ (fE + 8); omega), (by show _ ≤ (lE + 3163); omega)⟩ (Nat.le_of_ble_eq_true rfl) ⟨(TL_m hT).1, (TL_m hT).2⟩ dX1_need_56 (fun H locs _ hB => ?_)
      refine lv_aload_n hx hb dX1_need_59 rfl (lv_at hl 0 rfl) ?_
      obtain ⟨v8, hv8, hf⟩ := ob_s hf
      refine bg_X1_70 S hS hB (vR_s hv8) dX1_need_60 ?_
      obtain ⟨v9, hv9, hf⟩ := ob_s hf
      refine bg_X1_287 S hS hB (vR_s hv9) dX1_need_63 ?_
      refine lv_iload_n hx hb dX1_need_66 rfl (lv_at hl 1 rfl) ?_
      obtain ⟨v10, hv10, hf⟩ := ob_s hf
      refine b_iald S hS.1 hB hv10 dX1_need_67 ?_
      refine lv_istore_n (i := 3) (lv' := [(3, .int v10), (0, .ref x0), (1, .int x1), (2, .int x2)]) hx hb dX1_need_68 rfl hl (by decide) rfl (fun ls hl => ?_)
      refine lv_aload_n hx hb dX1_need_69 rfl (lv_at hl 1 rfl) ?_
      obtain ⟨v11, hv11, hf⟩ := ob_s hf
      refine bg_X1_70 S hS hB (vR_s hv11) dX1_need_70 ?_
      obtain ⟨v12, hv12, hf⟩ := ob_s hf
      refine bg_X1_287 S hS hB (vR_s hv12) dX1_need_73 ?_
      refine lv_iload_n hx hb dX1_need_76 rfl (lv_at hl 2 rfl) ?_
      refine lv_iload_n hx hb dX1_need_77 rfl (lv_at hl 3 rfl) ?_
      obtain ⟨h13, hh13, hf⟩ := ob_s hf
      refine b_iast S hS.1 hB hh13 dX1_need_78 (fun H locs hB => ?_)
      refine lv_iconst hx hb dX1_need_79 kc_i0 ?_
      refine lv_istore (lv' := [(4, .int 0), (3, .int v10), (0, .ref x0), (1, .int x1), (2, .int x2)]) hx hb dX1_need_80 hl (by decide) rfl (fun ls hl => ?_)
      exact (w82 FU) x0 x1 v10 0 h13 ((nc + v2.2.2.1) + v6.2.2.1) ls H locs ((ce + v2.2.2.1) + v6.2.2.1) ((sl + v2.2.2.2) + v6.2.2.2) o7 hB (by omega) hT (lv_sub (l' := [(0, .ref x0), (1, .int x1), (3, .int v10), (4, .int 0)]) hl [2, 3, 1, 0] rfl) hf
    · replace hf := it_t c4 hf
      refine lv_iconst hx hb dX1_need_53 kc_im1 ?_
      have hE9 := TL_e hT hf
      subst hE9
      exact bt_i S hr hlocks hB (by omega) trivial dX1_need_54
  have hT : TL out out 0 0 := TL_0
  rw [f_X1_need] at hf
  refine lv_aload_n hx hb dX1_need_0 rfl (lv_at hl 0 rfl) ?_
  refine lv_iload_n hx hb dX1_need_1 rfl (lv_at hl 2 rfl) ?_
  refine lv_i2l hx hb dX1_need_2 rfl ?_
  refine lv_lconst (v := 1) hx hb dX1_need_3 (by decide) ?_
  refine lv_ldc2 hx hb hown (hts _ q1331) dX1_need_4 ?_
  obtain ⟨v1, hv1, hf⟩ := ob_s hf
  refine mc_X1_134 S hS.1 hv1 hl.1 ⟨(by show _ ≤ (fE + 8); omega), (by show _ ≤ (lE + 3163); omega)⟩ (Nat.le_of_ble_eq_true rfl) ⟨(TL_m hT).1, (TL_m hT).2⟩ dX1_need_7 (fun hnv1 => ?_)
  refine lv_if_ne (tgt := 17) hx hb dX1_need_10 (by decide) (fun c2 => ?_) (fun c2 => ?_)
  · replace hf := it_f c2 hf
    refine lv_aload_n hx hb dX1_need_17 rfl (lv_at hl 0 rfl) ?_
    refine lv_iload_n hx hb dX1_need_18 rfl (lv_at hl 1 rfl) ?_
    obtain ⟨g3, hf⟩ := gd_t hf
    obtain ⟨v4, hv4, hf⟩ := ob_s hf
    refine mc_X1_138 (fE := fE) (lE := lE) S hS hB g3 hv4 hl.1 ⟨(by show _ ≤ (fE + 8); omega), (by show _ ≤ (lE + 3163); omega)⟩ (Nat.le_of_ble_eq_true rfl) ⟨(TL_m hT).1, (TL_m hT).2⟩ dX1_need_19 (fun hnv4 => ?_)
    refine lv_if_ne (tgt := 29) hx hb dX1_need_22 (by decide) (fun c5 => ?_) (fun c5 => ?_)
    · replace hf := it_f c5 hf
      refine lv_aload_n hx hb dX1_need_29 rfl (lv_at hl 0 rfl) ?_
      obtain ⟨v6, hv6, hf⟩ := ob_s hf
      refine bg_X1_70 S hS hB (vR_s hv6) dX1_need_30 ?_
      obtain ⟨v7, hv7, hf⟩ := ob_s hf
      refine bg_X1_287 S hS hB (vR_s hv7) dX1_need_33 ?_
      refine lv_iload_n hx hb dX1_need_36 rfl (lv_at hl 1 rfl) ?_
      obtain ⟨v8, hv8, hf⟩ := ob_s hf
      refine b_iald S hS.1 hB hv8 dX1_need_37 ?_
      refine lv_iload_n hx hb dX1_need_38 rfl (lv_at hl 2 rfl) ?_
      refine lv_icmp_ne (tgt := 46) hx hb dX1_need_39 (by decide) (fun c9 => ?_) (fun c9 => ?_)
      · replace hf := it_f c9 hf
        refine lv_iconst hx hb dX1_need_46 kc_i0 ?_
        exact (w47) o a0 a1 o 0 h nx ls s.heap [] 0 0 out hB (by omega) hT hl hf
      · replace hf := it_t c9 hf
        refine lv_iconst hx hb dX1_need_42 kc_i4 ?_
        refine lv_goto (tgt := 47) hx hb dX1_need_43 (by decide) ?_
        exact (w47) o a0 a1 o (nI 4) h nx ls s.heap [] 0 0 out hB (by omega) hT hl hf
    · replace hf := it_t c5 hf
      refine lv_iconst hx hb dX1_need_25 kc_i2 ?_
      refine lv_goto (tgt := 47) hx hb dX1_need_26 (by decide) ?_
      exact (w47) o a0 a1 o (nI 2) h nx ls s.heap [] 0 0 out hB (by omega) hT hl hf
  · replace hf := it_t c2 hf
    refine lv_iconst hx hb dX1_need_13 kc_i1 ?_
    refine lv_goto (tgt := 47) hx hb dX1_need_14 (by decide) ?_
    exact (w47) o a0 a1 o 1 h nx ls s.heap [] 0 0 out hB (by omega) hT hl hf
theorem hd_X1_rules : yX1_rules.cls = RX1 ∧ yX1_rules.cls ≠ "java/lang/invoke/MethodHandle" ∧ yX1_rules.cls ≠ "java/lang/invoke/VarHandle" ∧ (parseMethodDescriptor yX1_rules.desc).map (fun d => d.parameters.length) = some 2 := by decide +kernel
set_option maxHeartbeats 4000000 in
set_option maxRecDepth 100000 in
theorem mm_X1_rules {o : Nat} {a0 : Int32} {a1 : Int32} {out : Int32 × AH × Nat × Nat} (hf : f_X1_rules E h nx o a0 a1 = some out) : Met l yX1_rules (ws_ yX1_rules cX1_rules 4 (some .int)) (rC (fE + 8) (lE + 3163) out.2.2.1 out.2.2.2) (bPc G E.1 hSites h nx [.ref o, .int a0, .int a1]) (bQ G (some (.int out.1)) True out.2.1 (nx + out.2.2.1) (AA h nx)) out.2.2.1 out.2.2.2 (AA h nx) := by
  refine bGo (by decide +kernel) (Nat.le_of_ble_eq_true rfl) (fun p e s m below meth c ls S hr hlocks hin hnm hS hB hl => ?_)
  have S : CallFix p m c cX1_rules 4 s _ lw_all RX1 := S
  obtain ⟨hx, hb, hml, hown, hts⟩ := id S
  have hl : lv_has ls 4 [(0, .ref o), (1, .int a0), (2, .int a1)] := hl
  have w55 : ∀ (x0 : Nat) (x1 : Int32) (x2 : Int32) (y0 : Nat) (y1 : Int32) (hc : AH) (nc : Nat) (ls : Array Slot) (H : Heap) (locs : List Loc) (ce sl : Nat) (o1 : Int32 × AH × Nat × Nat), BI G (AA h nx) s.heap hc nc H locs → nc = nx + ce → TL out o1 ce sl → lv_has ls 4 [(0, .ref x0), (1, .int x1), (2, .int x2)] → f_X1_rules_55 E x0 x1 x2 y0 y1 hc nc = some o1 → W p l e (rC (fE + 8) (lE + 3163) out.2.2.1 out.2.2.2) s m ([.ref o, .int a0, .int a1] : List Value).toArray below meth c H locs ce sl (MQ below (bQ G (some (.int out.1)) True out.2.1 (nx + out.2.2.1) (AA h nx)) ([.ref o, .int a0, .int a1] : List Value).toArray s out.2.2.1 out.2.2.2 (AA h nx)) (F0 m 55 ls [.int y1, .ref y0]) := by
    intro x0 x1 x2 y0 y1 hc nc ls H locs ce sl o1 hB hn hT hl hf
    rw [f_X1_rules_55] at hf
    obtain ⟨g1, hf⟩ := gd_t hf
    obtain ⟨v2, hv2, hf⟩ := ob_s hf
    obtain ⟨o3, hf, hT⟩ := TL_c hT hf
    refine mc_X1_155 (fE := fE) (lE := lE) S hS hB g1 hv2 hl.1 ⟨(by show _ ≤ (fE + 8); omega), (by show _ ≤ (lE + 3163); omega)⟩ (Nat.le_of_ble_eq_true rfl) ⟨(TL_m hT).1, (TL_m hT).2⟩ dX1_rules_55 (fun H locs hnv2 hB => ?_)
    refine lv_if_ne (tgt := 63) hx hb dX1_rules_58 (by decide) (fun c4 => ?_) (fun c4 => ?_)
    · replace hf := it_f c4 hf
      refine lv_aload_n hx hb dX1_rules_63 rfl (lv_at hl 0 rfl) ?_
      obtain ⟨g5, hf⟩ := gd_t hf
      obtain ⟨v6, hv6, hf⟩ := ob_s hf
      obtain ⟨o7, hf, hT⟩ := TL_c hT hf
      refine mc_X1_548 (fE := fE) (lE := lE) S hS hB g5 hv6 hl.1 ⟨(by show _ ≤ (fE + 8); omega), (by show _ ≤ (lE + 3163); omega)⟩ (Nat.le_of_ble_eq_true rfl) ⟨(TL_m hT).1, (TL_m hT).2⟩ dX1_rules_64 (fun H locs _ hB => ?_)
      refine lv_aload_n hx hb dX1_rules_67 rfl (lv_at hl 0 rfl) ?_
      obtain ⟨v8, hv8, hf⟩ := ob_s hf
      refine bg_X1_70 S hS hB (vR_s hv8) dX1_rules_68 ?_
      obtain ⟨v9, hv9, hf⟩ := ob_s hf
      refine bg_X1_316 S hS hB (vR_s hv9) dX1_rules_71 ?_
      refine lv_iload_n hx hb dX1_rules_74 rfl (lv_at hl 1 rfl) ?_
      obtain ⟨v10, hv10, hf⟩ := ob_s hf
      refine b_iald S hS.1 hB hv10 dX1_rules_75 ?_
      refine lv_istore_n (i := 3) (lv' := [(3, .int v10), (0, .ref x0), (1, .int x1), (2, .int x2)]) hx hb dX1_rules_76 rfl hl (by decide) rfl (fun ls hl => ?_)
      refine lv_aload_n hx hb dX1_rules_77 rfl (lv_at hl 1 rfl) ?_
      obtain ⟨v11, hv11, hf⟩ := ob_s hf
      refine bg_X1_70 S hS hB (vR_s hv11) dX1_rules_78 ?_
      obtain ⟨v12, hv12, hf⟩ := ob_s hf
      refine bg_X1_316 S hS hB (vR_s hv12) dX1_rules_81 ?_
      refine lv_iload_n hx hb dX1_rules_84 rfl (lv_at hl 2 rfl) ?_
      refine lv_iload_n hx hb dX1_rules_85 rfl (lv_at hl 3 rfl) ?_
      obtain ⟨h13, hh13, hf⟩ := ob_s hf
      refine b_iast S hS.1 hB hh13 dX1_rules_86 (fun H locs hB => ?_)
      refine lv_iload_n hx hb dX1_rules_87 rfl (lv_at hl 0 rfl) ?_
      have hE9 := TL_e hT hf
      subst hE9
      exact bt_i S hr hlocks hB (by omega) trivial dX1_rules_88
    · replace hf := it_t c4 hf
      refine lv_iconst hx hb dX1_rules_61 kc_im1 ?_
      have hE9 := TL_e hT hf
      subst hE9
      exact bt_i S hr hlocks hB (by omega) trivial dX1_rules_62
  have hT : TL out out 0 0 := TL_0
  rw [f_X1_rules] at hf
  refine lv_aload_n hx hb dX1_rules_0 rfl (lv_at hl 0 rfl) ?_
  refine lv_iload_n hx hb dX1_rules_1 rfl (lv_at hl 1 rfl) ?_
  refine lv_i2l hx hb dX1_rules_2 rfl ?_
  refine lv_lconst (v := 0) hx hb dX1_rules_3 (by decide) ?_
  refine lv_ldc2 hx hb hown (hts _ q1252) dX1_rules_4 ?_
  obtain ⟨v1, hv1, hf⟩ := ob_s hf
  refine mc_X1_134 S hS.1 hv1 hl.1 ⟨(by show _ ≤ (fE + 8); omega), (by show _ ≤ (lE + 3163); omega)⟩ (Nat.le_of_ble_eq_true rfl) ⟨(TL_m hT).1, (TL_m hT).2⟩ dX1_rules_7 (fun hnv1 => ?_)
  refine lv_if_eq (tgt := 33) hx hb dX1_rules_10 (by decide) (fun c2 => ?_) (fun c2 => ?_)
  · replace hf := it_t c2 hf
    refine lv_iconst hx hb dX1_rules_33 kc_i1 ?_
    refine lv_goto (tgt := 55) hx hb dX1_rules_34 (by decide) ?_
    exact (w55) o a0 a1 o 1 h nx ls s.heap [] 0 0 out hB (by omega) hT hl hf
  · replace hf := it_f c2 hf
    refine lv_iload_n hx hb dX1_rules_13 rfl (lv_at hl 2 rfl) ?_
    refine lv_i2l hx hb dX1_rules_14 rfl ?_
    refine b_gets S hS hB 0 rfl (hts _ q1615) dX1_rules_15 ?_
    refine lv_iload_n hx hb dX1_rules_18 rfl (lv_at hl 1 rfl) ?_
    obtain ⟨v3, hv3, hf⟩ := ob_s hf
    refine b_iald S hS.1 hB hv3 dX1_rules_19 ?_
    refine lv_i2l hx hb dX1_rules_20 rfl ?_
    refine b_gets S hS hB 1 rfl (hts _ q1616) dX1_rules_21 ?_
    refine lv_iload_n hx hb dX1_rules_24 rfl (lv_at hl 1 rfl) ?_
    obtain ⟨v4, hv4, hf⟩ := ob_s hf
    refine b_iald S hS.1 hB hv4 dX1_rules_25 ?_
    refine lv_i2l hx hb dX1_rules_26 rfl ?_
    obtain ⟨v5, hv5, hf⟩ := ob_s hf
    refine mc_X1_134 S hS.1 hv5 hl.1 ⟨(by show _ ≤ (fE + 8); omega), (by show _ ≤ (lE + 3163); omega)⟩ (Nat.le_of_ble_eq_true rfl) ⟨(TL_m hT).1, (TL_m hT).2⟩ dX1_rules_27 (fun hnv5 => ?_)
    refine lv_if_ne (tgt := 37) hx hb dX1_rules_30 (by decide) (fun c6 => ?_) (fun c6 => ?_)
    · replace hf := it_f c6 hf
      refine lv_aload_n hx hb dX1_rules_37 rfl (lv_at hl 0 rfl) ?_
      obtain ⟨v7, hv7, hf⟩ := ob_s hf
      refine bg_X1_70 S hS hB (vR_s hv7) dX1_rules_38 ?_
      obtain ⟨v8, hv8, hf⟩ := ob_s hf
      refine bg_X1_316 S hS hB (vR_s hv8) dX1_rules_41 ?_
      refine lv_iload_n hx hb dX1_rules_44 rfl (lv_at hl 1 rfl) ?_
      obtain ⟨v9, hv9, hf⟩ := ob_s hf
      refine b_iald S hS.1 hB hv9 dX1_rules_45 ?_
      refine lv_iload_n hx hb dX1_rules_46 rfl (lv_at hl 2 rfl) ?_
      refine lv_icmp_ne (tgt := 54) hx hb dX1_rules_47 (by decide) (fun c10 => ?_) (fun c10 => ?_)
      · replace hf := it_f c10 hf
        refine lv_iconst hx hb dX1_rules_54 kc_i0 ?_
        exact (w55) o a0 a1 o 0 h nx ls s.heap [] 0 0 out hB (by omega) hT hl hf
      · replace hf := it_t c10 hf
        refine lv_iconst hx hb dX1_rules_50 kc_i4 ?_
        refine lv_goto (tgt := 55) hx hb dX1_rules_51 (by decide) ?_
        exact (w55) o a0 a1 o (nI 4) h nx ls s.heap [] 0 0 out hB (by omega) hT hl hf
    · replace hf := it_t c6 hf
      refine lv_iconst hx hb dX1_rules_33 kc_i1 ?_
      refine lv_goto (tgt := 55) hx hb dX1_rules_34 (by decide) ?_
      exact (w55) o a0 a1 o 1 h nx ls s.heap [] 0 0 out hB (by omega) hT hl hf
theorem hd_X1_undo : yX1_undo.cls = RX1 ∧ yX1_undo.cls ≠ "java/lang/invoke/MethodHandle" ∧ yX1_undo.cls ≠ "java/lang/invoke/VarHandle" ∧ (parseMethodDescriptor yX1_undo.desc).map (fun d => d.parameters.length) = some 0 := by decide +kernel
set_option maxHeartbeats 4000000 in
set_option maxRecDepth 100000 in
theorem mm_X1_undo {o : Nat} {out : Int32 × AH × Nat × Nat} (hf : f_X1_undo E h nx o = some out) : Met l yX1_undo (ws_ yX1_undo cX1_undo 1 (some .int)) (rC (fE + 3) (lE + 166) out.2.2.1 out.2.2.2) (bPc G E.1 hSites h nx [.ref o]) (bQ G (some (.int out.1)) True out.2.1 (nx + out.2.2.1) (AA h nx)) out.2.2.1 out.2.2.2 (AA h nx) := by
  refine bGo (by decide +kernel) (Nat.le_of_ble_eq_true rfl) (fun p e s m below meth c ls S hr hlocks hin hnm hS hB hl => ?_)
  have S : CallFix p m c cX1_undo 1 s _ lw_all RX1 := S
  obtain ⟨hx, hb, hml, hown, hts⟩ := id S
  have hl : lv_has ls 1 [(0, .ref o)] := hl
  have w16 : ∀ (x0 : Nat) (y0 : Nat) (y1 : Int32) (hc : AH) (nc : Nat) (ls : Array Slot) (H : Heap) (locs : List Loc) (ce sl : Nat) (o1 : Int32 × AH × Nat × Nat), BI G (AA h nx) s.heap hc nc H locs → nc = nx + ce → TL out o1 ce sl → lv_has ls 1 [(0, .ref x0)] → f_X1_undo_16 E x0 y0 y1 hc nc = some o1 → W p l e (rC (fE + 3) (lE + 166) out.2.2.1 out.2.2.2) s m ([.ref o] : List Value).toArray below meth c H locs ce sl (MQ below (bQ G (some (.int out.1)) True out.2.1 (nx + out.2.2.1) (AA h nx)) ([.ref o] : List Value).toArray s out.2.2.1 out.2.2.2 (AA h nx)) (F0 m 16 ls [.int y1, .ref y0]) := by
    intro x0 y0 y1 hc nc ls H locs ce sl o1 hB hn hT hl hf
    rw [f_X1_undo_16] at hf
    obtain ⟨g1, hf⟩ := gd_t hf
    obtain ⟨v2, hv2, hf⟩ := ob_s hf
    obtain ⟨o3, hf, hT⟩ := TL_c hT hf
    refine mc_X1_155 (fE := fE) (lE := lE) S hS hB g1 hv2 hl.1 ⟨(by show _ ≤ (fE + 3); omega), (by show _ ≤ (lE + 166); omega)⟩ (Nat.le_of_ble_eq_true rfl) ⟨(TL_m hT).1, (TL_m hT).2⟩ dX1_undo_16 (fun H locs hnv2 hB => ?_)
    refine lv_if_ne (tgt := 24) hx hb dX1_undo_19 (by decide) (fun c4 => ?_) (fun c4 => ?_)
    · replace hf := it_f c4 hf
      refine lv_aload_n hx hb dX1_undo_24 rfl (lv_at hl 0 rfl) ?_
      refine lv_aload_n hx hb dX1_undo_25 rfl (lv_at hl 0 rfl) ?_
      obtain ⟨v5, hv5, hf⟩ := ob_s hf
      refine bg_X1_77 S hS hB (vR_s hv5) dX1_undo_26 ?_
      refine lv_aload_n hx hb dX1_undo_29 rfl (lv_at hl 0 rfl) ?_
      obtain ⟨v6, hv6, hf⟩ := ob_s hf
      refine bg_X1_77 S hS hB (vR_s hv6) dX1_undo_30 ?_
      obtain ⟨g7, hf⟩ := gd_t hf
      obtain ⟨v8, hv8, hf⟩ := ob_s hf
      refine mc_X1_130 (fE := fE) (lE := lE) S hS hB g7 hv8 hl.1 ⟨(by show _ ≤ (fE + 3); omega), (by show _ ≤ (lE + 166); omega)⟩ (Nat.le_of_ble_eq_true rfl) ⟨(TL_m hT).1, (TL_m hT).2⟩ dX1_undo_33 (fun _ => ?_)
      refine lv_iconst hx hb dX1_undo_36 kc_i1 ?_
      refine lv_isub hx hb dX1_undo_37 ?_
      obtain ⟨g9, hf⟩ := gd_t hf
      obtain ⟨v10, hv10, hf⟩ := ob_s hf
      obtain ⟨o11, hf, hT⟩ := TL_c hT hf
      refine mc_X1_542 (fE := fE) (lE := lE) S hS hB g9 hv10 hl.1 ⟨(by show _ ≤ (fE + 3); omega), (by show _ ≤ (lE + 166); omega)⟩ (Nat.le_of_ble_eq_true rfl) ⟨(TL_m hT).1, (TL_m hT).2⟩ dX1_undo_38 (fun H locs _ hB => ?_)
      obtain ⟨g12, hf⟩ := gd_t hf
      refine b_castO S hS.1 hB (ci := 1) rfl (hts _ q245) g12 dX1_undo_41 ?_
      obtain ⟨h13, hh13, hf⟩ := ob_s hf
      refine bp_X1_70 S hS hB hh13 dX1_undo_44 (fun H locs hB => ?_)
      refine lv_aload_n hx hb dX1_undo_47 rfl (lv_at hl 0 rfl) ?_
      obtain ⟨v14, hv14, hf⟩ := ob_s hf
      refine bg_X1_77 S hS hB (vR_s hv14) dX1_undo_48 ?_
      obtain ⟨g15, hf⟩ := gd_t hf
      obtain ⟨v16, hv16, hf⟩ := ob_s hf
      refine mc_X1_130 (fE := fE) (lE := lE) S hS hB g15 hv16 hl.1 ⟨(by show _ ≤ (fE + 3); omega), (by show _ ≤ (lE + 166); omega)⟩ (Nat.le_of_ble_eq_true rfl) ⟨(TL_m hT).1, (TL_m hT).2⟩ dX1_undo_51 (fun _ => ?_)
      have hE9 := TL_e hT hf
      subst hE9
      exact bt_i S hr hlocks hB (by omega) trivial dX1_undo_54
    · replace hf := it_t c4 hf
      refine lv_iconst hx hb dX1_undo_22 kc_im1 ?_
      have hE9 := TL_e hT hf
      subst hE9
      exact bt_i S hr hlocks hB (by omega) trivial dX1_undo_23
  have hT : TL out out 0 0 := TL_0
  rw [f_X1_undo] at hf
  refine lv_aload_n hx hb dX1_undo_0 rfl (lv_at hl 0 rfl) ?_
  refine lv_aload_n hx hb dX1_undo_1 rfl (lv_at hl 0 rfl) ?_
  obtain ⟨v1, hv1, hf⟩ := ob_s hf
  refine bg_X1_77 S hS hB (vR_s hv1) dX1_undo_2 ?_
  obtain ⟨g2, hf⟩ := gd_t hf
  obtain ⟨v3, hv3, hf⟩ := ob_s hf
  refine mc_X1_564 (fE := fE) (lE := lE) S hS hB g2 hv3 hl.1 ⟨(by show _ ≤ (fE + 3); omega), (by show _ ≤ (lE + 166); omega)⟩ (Nat.le_of_ble_eq_true rfl) ⟨(TL_m hT).1, (TL_m hT).2⟩ dX1_undo_5 (fun hnv3 => ?_)
  refine lv_if_eq (tgt := 15) hx hb dX1_undo_8 (by decide) (fun c4 => ?_) (fun c4 => ?_)
  · replace hf := it_t c4 hf
    refine lv_iconst hx hb dX1_undo_15 kc_i0 ?_
    exact (w16) o o 0 h nx ls s.heap [] 0 0 out hB (by omega) hT hl hf
  · replace hf := it_f c4 hf
    refine lv_iconst hx hb dX1_undo_11 kc_i5 ?_
    refine lv_goto (tgt := 16) hx hb dX1_undo_12 (by decide) ?_
    exact (w16) o o (nI 5) h nx ls s.heap [] 0 0 out hB (by omega) hT hl hf
theorem hd_J12_rangeCheck : yJ12_rangeCheck.cls ≠ "java/lang/invoke/MethodHandle" ∧ yJ12_rangeCheck.cls ≠ "java/lang/invoke/VarHandle" ∧ (parseMethodDescriptor yJ12_rangeCheck.desc).map (fun d => d.parameters.length) = some 3 := by decide +kernel
set_option maxHeartbeats 4000000 in
set_option maxRecDepth 100000 in
theorem mm_J12_rangeCheck {a0 : Int32} {a1 : Int32} {a2 : Int32} {out : Unit} (hf : f_J12_rangeCheck a0 a1 a2 = some out) : Met l yJ12_rangeCheck (ws_ yJ12_rangeCheck cJ12_rangeCheck 3 none) (rM 0 0) (gPc D cl tys [.int a0, .int a1, .int a2] []) (gR none True) 0 0 (fun _ => False) := by
  refine gGo (by decide +kernel) (Nat.le_of_ble_eq_true rfl) (fun p e s m below meth c ls S hr hlocks hK hP hl => ?_)
  have S : CallFix p m c cJ12_rangeCheck 3 s _ lw_all RJ12 := S
  obtain ⟨hx, hb, hml, hown, hts⟩ := id S
  have hl : lv_has ls 3 [(0, .int a0), (1, .int a1), (2, .int a2)] := hl
  rw [f_J12_rangeCheck] at hf
  refine lv_iload_n hx hb dJ12_rangeCheck_0 rfl (lv_at hl 1 rfl) ?_
  refine lv_iload_n hx hb dJ12_rangeCheck_1 rfl (lv_at hl 2 rfl) ?_
  refine lv_icmp_le (tgt := 46) hx hb dJ12_rangeCheck_2 (by decide) (fun c1 => ?_) (fun c1 => ?_)
  · replace hf := it_t c1 hf
    refine lv_iload_n hx hb dJ12_rangeCheck_46 rfl (lv_at hl 1 rfl) ?_
    refine lv_if_ge (tgt := 59) hx hb dJ12_rangeCheck_47 (by decide) (fun c2 => ?_) (fun c2 => ?_)
    · replace hf := it_t c2 hf
      refine lv_iload_n hx hb dJ12_rangeCheck_59 rfl (lv_at hl 2 rfl) ?_
      refine lv_iload_n hx hb dJ12_rangeCheck_60 rfl (lv_at hl 0 rfl) ?_
      refine lv_icmp_le (tgt := 73) hx hb dJ12_rangeCheck_61 (by decide) (fun c3 => ?_) (fun c3 => ?_)
      · replace hf := it_t c3 hf
        have hE9 := Option.some.inj hf
        subst hE9
        exact gt_rv S hr hlocks trivial dJ12_rangeCheck_73
      · replace hf := it_f c3 hf
        exact absurd hf (by nofun)
    · replace hf := it_f c2 hf
      exact absurd hf (by nofun)
  · replace hf := it_f c1 hf
    exact absurd hf (by nofun)
set_option maxRecDepth 100000 in
theorem mc_J12_13 {a0 : Int32} {a1 : Int32} {a2 : Int32} {out : Unit} (S : CallFix p m c cc nL s args lw_all RJ12) (hK : va_K D cl tys s) (hf : f_J12_rangeCheck a0 a1 a2 = some out) (hsz : ls.size = nL) (hR : 0 + 1 ≤ R.frames ∧ 8 + (3 + 11) + 0 ≤ R.locals) (hW : (rest.map fun v => v.category).sum ≤ 8) (hcs : cells ≤ R.cells ∧ slots ≤ R.slots) (hdg : decode cc pc = .ok (.invokestatic 13, 3))  (kk : True → W p l e R s m args below meth c H locs cells slots Q (F0 m (pc + 3) ls (rest))) : W p l e R s m args below meth c H locs cells slots Q (F0 m pc ls (.int a2 :: .int a1 :: .int a0 :: rest)) := by
  exact br_rv (va_runS (As := [.int a0, .int a1, .int a2]) S (mm_J12_rangeCheck hf) (va_cwS 3 S.2.2.2.2 (lw_S q1868 q1869 q192 q1870) rfl rfl rfl hd_J12_rangeCheck hR) (gPreS hK gP0) rfl rfl hsz rfl (lv_room hW) hdg hcs) kk
theorem hd_J12_fill : yJ12_fill.cls ≠ "java/lang/invoke/MethodHandle" ∧ yJ12_fill.cls ≠ "java/lang/invoke/VarHandle" ∧ (parseMethodDescriptor yJ12_fill.desc).map (fun d => d.parameters.length) = some 4 := by decide +kernel
set_option maxHeartbeats 4000000 in
set_option maxRecDepth 100000 in
theorem mm_J12_fill {a0 : Nat} {a1 : Int32} {a2 : Int32} {a3 : Int32} {out : Unit × AH × Nat × Nat} (hf : f_J12_fill E h nx a0 a1 a2 a3 = some out) : Met l yJ12_fill (ws_ yJ12_fill cJ12_fill 5 none) (rC (fE + 1) (lE + 22) out.2.2.1 out.2.2.2) (bPc G E.1 hSites h nx [.ref a0, .int a1, .int a2, .int a3]) (bQ G none True out.2.1 (nx + out.2.2.1) (AA h nx)) out.2.2.1 out.2.2.2 (AA h nx) := by
  refine bGo (by decide +kernel) (Nat.le_of_ble_eq_true rfl) (fun p e s m below meth c ls S hr hlocks hin hnm hS hB hl => ?_)
  have S : CallFix p m c cJ12_fill 5 s _ lw_all RJ12 := S
  obtain ⟨hx, hb, hml, hown, hts⟩ := id S
  have hl : lv_has ls 5 [(0, .ref a0), (1, .int a1), (2, .int a2), (3, .int a3)] := hl
  have w10 : ∀ (n : Nat) , ∀ (x0 : Nat) (x2 : Int32) (x3 : Int32) (x4 : Int32) (hc : AH) (nc : Nat) (ls : Array Slot) (H : Heap) (locs : List Loc) (ce sl : Nat) (o1 : Unit × AH × Nat × Nat), BI G (AA h nx) s.heap hc nc H locs → nc = nx + ce → TL out o1 ce sl → lv_has ls 5 [(0, .ref x0), (2, .int x2), (3, .int x3), (4, .int x4)] → f_J12_fill_10 n E x0 x2 x3 x4 hc nc = some o1 → W p l e (rC (fE + 1) (lE + 22) out.2.2.1 out.2.2.2) s m ([.ref a0, .int a1, .int a2, .int a3] : List Value).toArray below meth c H locs ce sl (MQ below (bQ G none True out.2.1 (nx + out.2.2.1) (AA h nx)) ([.ref a0, .int a1, .int a2, .int a3] : List Value).toArray s out.2.2.1 out.2.2.2 (AA h nx)) (F0 m 10 ls []) := by
    intro n
    induction n with
    | zero =>
      intro x0 x2 x3 x4 hc nc ls H locs ce sl o1 hB hn hT hl hf
      exact absurd hf (by rw [f_J12_fill_10]; exact nofun)
    | succ n ih =>
      intro x0 x2 x3 x4 hc nc ls H locs ce sl o1 hB hn hT hl hf
      rw [f_J12_fill_10] at hf
      refine lv_iload hx hb dJ12_fill_10 (lv_at hl 3 rfl) ?_
      refine lv_iload_n hx hb dJ12_fill_12 rfl (lv_at hl 1 rfl) ?_
      refine lv_icmp_ge (tgt := 27) hx hb dJ12_fill_13 (by decide) (fun c1 => ?_) (fun c1 => ?_)
      · replace hf := it_t c1 hf
        have hE9 := TL_e hT hf
        subst hE9
        exact bt_v S hr hlocks hB (by omega) trivial dJ12_fill_27
      · replace hf := it_f c1 hf
        refine lv_aload_n hx hb dJ12_fill_16 rfl (lv_at hl 0 rfl) ?_
        refine lv_iload hx hb dJ12_fill_17 (lv_at hl 3 rfl) ?_
        refine lv_iload_n hx hb dJ12_fill_19 rfl (lv_at hl 2 rfl) ?_
        obtain ⟨h2, hh2, hf⟩ := ob_s hf
        refine b_bast S hS.1 hB hh2 dJ12_fill_20 (fun H locs hB => ?_)
        refine lv_iinc (v := (x4 + 1)) (lv' := [(4, .int (x4 + 1)), (0, .ref x0), (2, .int x2), (3, .int x3)]) hx hb dJ12_fill_21 hl (k := 3) rfl rfl (by decide) rfl (fun ls hl => ?_)
        refine lv_goto (tgt := 10) hx hb dJ12_fill_24 (by decide) ?_
        exact (ih) x0 x2 x3 (x4 + 1) h2 nc ls H locs ce sl o1 hB (by omega) hT (lv_sub (l' := [(0, .ref x0), (2, .int x2), (3, .int x3), (4, .int (x4 + 1))]) hl [1, 2, 3, 0] rfl) hf
  have hT : TL out out 0 0 := TL_0
  rw [f_J12_fill] at hf
  refine lv_aload_n hx hb dJ12_fill_0 rfl (lv_at hl 0 rfl) ?_
  obtain ⟨v1, hv1, hf⟩ := ob_s hf
  refine b_alen S hS.1 hB hv1 dJ12_fill_1 ?_
  refine lv_iload_n hx hb dJ12_fill_2 rfl (lv_at hl 1 rfl) ?_
  refine lv_iload_n hx hb dJ12_fill_3 rfl (lv_at hl 2 rfl) ?_
  obtain ⟨v2, hv2, hf⟩ := ob_s hf
  refine mc_J12_13 S hS.1 hv2 hl.1 ⟨(by show _ ≤ (fE + 1); omega), (by show _ ≤ (lE + 22); omega)⟩ (Nat.le_of_ble_eq_true rfl) ⟨(TL_m hT).1, (TL_m hT).2⟩ dJ12_fill_4 (fun _ => ?_)
  refine lv_iload_n hx hb dJ12_fill_7 rfl (lv_at hl 1 rfl) ?_
  refine lv_istore (lv' := [(4, .int a1), (0, .ref a0), (1, .int a1), (2, .int a2), (3, .int a3)]) hx hb dJ12_fill_8 hl (by decide) rfl (fun ls hl => ?_)
  exact (w10 FU) a0 a2 a3 a1 h nx ls s.heap [] 0 0 out hB (by omega) hT (lv_sub (l' := [(0, .ref a0), (2, .int a2), (3, .int a3), (4, .int a1)]) hl [1, 3, 4, 0] rfl) hf
set_option maxRecDepth 100000 in
theorem mc_J13_236 {a0 : Nat} {a1 : Int32} {a2 : Int32} {a3 : Int32} {out : Unit × AH × Nat × Nat} (S : CallFix p m c cc nL s args lw_all RJ13) (hS : SK G E.1 hSites A s) (hB : BI G A s.heap h nx H locs) (hf : f_J12_fill E h nx a0 a1 a2 a3 = some out) (hsz : ls.size = nL) (hR : (fE + 1) + 1 ≤ R.frames ∧ 8 + (5 + 11) + (lE + 22) ≤ R.locals) (hW : (rest.map fun v => v.category).sum ≤ 8) (hcs : cells + out.2.2.1 ≤ R.cells ∧ slots + out.2.2.2 ≤ R.slots) (hdg : decode cc pc = .ok (.invokestatic 236, 3))  (kk : ∀ (H1 : Heap) (locs1 : List Loc), True → BI G A s.heap out.2.1 (nx + out.2.2.1) H1 locs1 → W p l e R s m args below meth c H1 locs1 (cells + out.2.2.1) (slots + out.2.2.2) Q (F0 m (pc + 3) ls (rest))) : W p l e R s m args below meth c H locs cells slots Q (F0 m pc ls (.int a3 :: .int a2 :: .int a1 :: .ref a0 :: rest)) := by
  have hN := hS.2.1
  exact br_v (va_runS (As := [.ref a0, .int a1, .int a2, .int a3]) S (mm_J12_fill (l := l) (G := G) (fE := fE) (lE := lE) hf) (va_cwS 4 S.2.2.2.2 (lw_S q1865 q1866 q192 q1867) rfl rfl rfl hd_J12_fill hR) (bPreS hS hB) rfl rfl hsz rfl (lv_room hW) hdg hcs) hB kk
theorem hd_J13_fillNull : yJ13_fillNull.cls ≠ "java/lang/invoke/MethodHandle" ∧ yJ13_fillNull.cls ≠ "java/lang/invoke/VarHandle" ∧ (parseMethodDescriptor yJ13_fillNull.desc).map (fun d => d.parameters.length) = some 3 := by decide +kernel
set_option maxHeartbeats 4000000 in
set_option maxRecDepth 100000 in
theorem mm_J13_fillNull {a0 : Nat} {a1 : Int32} {a2 : Int32} {out : Unit × AH × Nat × Nat} (hf : f_J13_fillNull E h nx a0 a1 a2 = some out) : Met l yJ13_fillNull (ws_ yJ13_fillNull cJ13_fillNull 3 none) (rC (fE + 2) (lE + 46) out.2.2.1 out.2.2.2) (bPc G E.1 hSites h nx [.ref a0, .int a1, .int a2]) (bQ G none True out.2.1 (nx + out.2.2.1) (AA h nx)) out.2.2.1 out.2.2.2 (AA h nx) := by
  refine bGo (by decide +kernel) (Nat.le_of_ble_eq_true rfl) (fun p e s m below meth c ls S hr hlocks hin hnm hS hB hl => ?_)
  have S : CallFix p m c cJ13_fillNull 3 s _ lw_all RJ13 := S
  obtain ⟨hx, hb, hml, hown, hts⟩ := id S
  have hl : lv_has ls 3 [(0, .ref a0), (1, .int a1), (2, .int a2)] := hl
  have hT : TL out out 0 0 := TL_0
  rw [f_J13_fillNull] at hf
  refine lv_aload_n hx hb dJ13_fillNull_0 rfl (lv_at hl 0 rfl) ?_
  refine lv_iload_n hx hb dJ13_fillNull_1 rfl (lv_at hl 1 rfl) ?_
  refine lv_iload_n hx hb dJ13_fillNull_2 rfl (lv_at hl 2 rfl) ?_
  refine lv_iconst hx hb dJ13_fillNull_3 kc_i0 ?_
  obtain ⟨v1, hv1, hf⟩ := ob_s hf
  obtain ⟨o2, hf, hT⟩ := TL_c hT hf
  refine mc_J13_236 (fE := fE) (lE := lE) S hS hB hv1 hl.1 ⟨(by show _ ≤ (fE + 2); omega), (by show _ ≤ (lE + 46); omega)⟩ (Nat.le_of_ble_eq_true rfl) ⟨(TL_m hT).1, (TL_m hT).2⟩ dJ13_fillNull_4 (fun H locs _ hB => ?_)
  have hE9 := TL_e hT hf
  subst hE9
  exact bt_v S hr hlocks hB (by omega) trivial dJ13_fillNull_7
set_option maxRecDepth 100000 in
theorem mc_J7_133 {a0 : Nat} {a1 : Int32} {a2 : Int32} {out : Unit × AH × Nat × Nat} (S : CallFix p m c cc nL s args lw_all RJ7) (hS : SK G E.1 hSites A s) (hB : BI G A s.heap h nx H locs) (hf : f_J13_fillNull E h nx a0 a1 a2 = some out) (hsz : ls.size = nL) (hR : (fE + 2) + 1 ≤ R.frames ∧ 8 + (3 + 11) + (lE + 46) ≤ R.locals) (hW : (rest.map fun v => v.category).sum ≤ 8) (hcs : cells + out.2.2.1 ≤ R.cells ∧ slots + out.2.2.2 ≤ R.slots) (hdg : decode cc pc = .ok (.invokestatic 133, 3))  (kk : ∀ (H1 : Heap) (locs1 : List Loc), True → BI G A s.heap out.2.1 (nx + out.2.2.1) H1 locs1 → W p l e R s m args below meth c H1 locs1 (cells + out.2.2.1) (slots + out.2.2.2) Q (F0 m (pc + 3) ls (rest))) : W p l e R s m args below meth c H locs cells slots Q (F0 m pc ls (.int a2 :: .int a1 :: .ref a0 :: rest)) := by
  have hN := hS.2.1
  exact br_v (va_runS (As := [.ref a0, .int a1, .int a2]) S (mm_J13_fillNull (l := l) (G := G) (fE := fE) (lE := lE) hf) (va_cwS 3 S.2.2.2.2 (lw_S q1862 q1863 q193 q1864) rfl rfl rfl hd_J13_fillNull hR) (bPreS hS hB) rfl rfl hsz rfl (lv_room hW) hdg hcs) hB kk
theorem hd_J7_setLength : yJ7_setLength.cls = RJ7 ∧ yJ7_setLength.cls ≠ "java/lang/invoke/MethodHandle" ∧ yJ7_setLength.cls ≠ "java/lang/invoke/VarHandle" ∧ (parseMethodDescriptor yJ7_setLength.desc).map (fun d => d.parameters.length) = some 1 := by decide +kernel
set_option maxHeartbeats 4000000 in
set_option maxRecDepth 100000 in
theorem mm_J7_setLength {o : Nat} {a0 : Int32} {out : Unit × AH × Nat × Nat} (hf : f_J7_setLength E h nx o a0 = some out) : Met l yJ7_setLength (ws_ yJ7_setLength cJ7_setLength 2 none) (rC (fE + 4) (lE + 164) out.2.2.1 out.2.2.2) (bPc G E.1 hSites h nx [.ref o, .int a0]) (bQ G none True out.2.1 (nx + out.2.2.1) (AA h nx)) out.2.2.1 out.2.2.2 (AA h nx) := by
  refine bGo (by decide +kernel) (Nat.le_of_ble_eq_true rfl) (fun p e s m below meth c ls S hr hlocks hin hnm hS hB hl => ?_)
  have S : CallFix p m c cJ7_setLength 2 s _ lw_all RJ7 := S
  obtain ⟨hx, hb, hml, hown, hts⟩ := id S
  have hl : lv_has ls 2 [(0, .ref o), (1, .int a0)] := hl
  have w76 : ∀ (x0 : Nat) (x1 : Int32) (hc : AH) (nc : Nat) (ls : Array Slot) (H : Heap) (locs : List Loc) (ce sl : Nat) (o1 : Unit × AH × Nat × Nat), BI G (AA h nx) s.heap hc nc H locs → nc = nx + ce → TL out o1 ce sl → lv_has ls 2 [(0, .ref x0), (1, .int x1)] → f_J7_setLength_76 E x0 x1 hc nc = some o1 → W p l e (rC (fE + 4) (lE + 164) out.2.2.1 out.2.2.2) s m ([.ref o, .int a0] : List Value).toArray below meth c H locs ce sl (MQ below (bQ G none True out.2.1 (nx + out.2.2.1) (AA h nx)) ([.ref o, .int a0] : List Value).toArray s out.2.2.1 out.2.2.2 (AA h nx)) (F0 m 76 ls []) := by
    intro x0 x1 hc nc ls H locs ce sl o1 hB hn hT hl hf
    rw [f_J7_setLength_76] at hf
    refine lv_aload_n hx hb dJ7_setLength_76 rfl (lv_at hl 0 rfl) ?_
    refine lv_iload_n hx hb dJ7_setLength_77 rfl (lv_at hl 1 rfl) ?_
    obtain ⟨h1, hh1, hf⟩ := ob_s hf
    refine bp_J7_79 S hS hB hh1 dJ7_setLength_78 (fun H locs hB => ?_)
    have hE9 := TL_e hT hf
    subst hE9
    exact bt_v S hr hlocks hB (by omega) trivial dJ7_setLength_81
  have hT : TL out out 0 0 := TL_0
  rw [f_J7_setLength] at hf
  refine lv_iload_n hx hb dJ7_setLength_0 rfl (lv_at hl 1 rfl) ?_
  refine lv_if_ge (tgt := 13) hx hb dJ7_setLength_1 (by decide) (fun c1 => ?_) (fun c1 => ?_)
  · replace hf := it_t c1 hf
    refine lv_aload_n hx hb dJ7_setLength_13 rfl (lv_at hl 0 rfl) ?_
    refine lv_iload_n hx hb dJ7_setLength_14 rfl (lv_at hl 1 rfl) ?_
    obtain ⟨g2, hf⟩ := gd_t hf
    obtain ⟨v3, hv3, hf⟩ := ob_s hf
    obtain ⟨o4, hf, hT⟩ := TL_c hT hf
    refine mc_J7_100 (fE := fE) (lE := lE) S hS hB g2 hv3 hl.1 ⟨(by show _ ≤ (fE + 4); omega), (by show _ ≤ (lE + 164); omega)⟩ (Nat.le_of_ble_eq_true rfl) ⟨(TL_m hT).1, (TL_m hT).2⟩ dJ7_setLength_15 (fun H locs _ hB => ?_)
    refine lv_aload_n hx hb dJ7_setLength_18 rfl (lv_at hl 0 rfl) ?_
    obtain ⟨v5, hv5, hf⟩ := ob_s hf
    refine bg_J7_79 S hS hB (vI_s hv5) dJ7_setLength_19 ?_
    refine lv_iload_n hx hb dJ7_setLength_22 rfl (lv_at hl 1 rfl) ?_
    refine lv_icmp_ge (tgt := 63) hx hb dJ7_setLength_23 (by decide) (fun c6 => ?_) (fun c6 => ?_)
    · replace hf := it_t c6 hf
      refine lv_aload_n hx hb dJ7_setLength_63 rfl (lv_at hl 0 rfl) ?_
      obtain ⟨v7, hv7, hf⟩ := ob_s hf
      refine bg_J7_79 S hS hB (vI_s hv7) dJ7_setLength_64 ?_
      refine lv_iload_n hx hb dJ7_setLength_67 rfl (lv_at hl 1 rfl) ?_
      refine lv_icmp_le (tgt := 76) hx hb dJ7_setLength_68 (by decide) (fun c8 => ?_) (fun c8 => ?_)
      · replace hf := it_t c8 hf
        exact (w76) o a0 v3.2.1 (nx + v3.2.2.1) ls H locs (0 + v3.2.2.1) (0 + v3.2.2.2) o4 hB (by omega) hT hl hf
      · replace hf := it_f c8 hf
        refine lv_aload_n hx hb dJ7_setLength_71 rfl (lv_at hl 0 rfl) ?_
        refine lv_iconst hx hb dJ7_setLength_72 kc_i1 ?_
        obtain ⟨h9, hh9, hf⟩ := ob_s hf
        refine bp_J7_73 S hS hB nb1 (nar_f nb1) hh9 dJ7_setLength_73 (fun H locs hB => ?_)
        exact (w76) o a0 h9 (nx + v3.2.2.1) ls H locs (0 + v3.2.2.1) (0 + v3.2.2.2) o4 hB (by omega) hT hl hf
    · replace hf := it_f c6 hf
      refine lv_aload_n hx hb dJ7_setLength_26 rfl (lv_at hl 0 rfl) ?_
      obtain ⟨g10, hf⟩ := gd_t hf
      obtain ⟨v11, hv11, hf⟩ := ob_s hf
      refine mc_J7_83 (fE := fE) (lE := lE) S hS hB g10 hv11 hl.1 ⟨(by show _ ≤ (fE + 4); omega), (by show _ ≤ (lE + 164); omega)⟩ (Nat.le_of_ble_eq_true rfl) ⟨(TL_m hT).1, (TL_m hT).2⟩ dJ7_setLength_27 (fun hnv11 => ?_)
      refine lv_if_eq (tgt := 48) hx hb dJ7_setLength_30 (by decide) (fun c12 => ?_) (fun c12 => ?_)
      · replace hf := it_t c12 hf
        exact absurd hf (by nofun)
      · replace hf := it_f c12 hf
        refine lv_aload_n hx hb dJ7_setLength_33 rfl (lv_at hl 0 rfl) ?_
        obtain ⟨v13, hv13, hf⟩ := ob_s hf
        refine bg_J7_15 S hS hB (vR_s hv13) dJ7_setLength_34 ?_
        refine lv_aload_n hx hb dJ7_setLength_37 rfl (lv_at hl 0 rfl) ?_
        obtain ⟨v14, hv14, hf⟩ := ob_s hf
        refine bg_J7_79 S hS hB (vI_s hv14) dJ7_setLength_38 ?_
        refine lv_iload_n hx hb dJ7_setLength_41 rfl (lv_at hl 1 rfl) ?_
        obtain ⟨v15, hv15, hf⟩ := ob_s hf
        obtain ⟨o16, hf, hT⟩ := TL_c hT hf
        refine mc_J7_133 (fE := fE) (lE := lE) S hS hB hv15 hl.1 ⟨(by show _ ≤ (fE + 4); omega), (by show _ ≤ (lE + 164); omega)⟩ (Nat.le_of_ble_eq_true rfl) ⟨(TL_m hT).1, (TL_m hT).2⟩ dJ7_setLength_42 (fun H locs _ hB => ?_)
        refine lv_goto (tgt := 76) hx hb dJ7_setLength_45 (by decide) ?_
        exact (w76) o a0 v15.2.1 ((nx + v3.2.2.1) + v15.2.2.1) ls H locs ((0 + v3.2.2.1) + v15.2.2.1) ((0 + v3.2.2.2) + v15.2.2.2) o16 hB (by omega) hT hl hf
  · replace hf := it_f c1 hf
    exact absurd hf (by nofun)
set_option maxRecDepth 100000 in
theorem mc_J8_333 {o : Nat} {a0 : Int32} {out : Unit × AH × Nat × Nat} (S : CallFix p m c cc nL s args lw_all RJ8) (hS : SK G E.1 hSites A s) (hB : BI G A s.heap h nx H locs) (ho : isO h o 12 = true) (hf : f_J7_setLength E h nx o a0 = some out) (hsz : ls.size = nL) (hR : (fE + 4) + 1 ≤ R.frames ∧ 8 + (2 + 11) + (lE + 164) ≤ R.locals) (hW : (rest.map fun v => v.category).sum ≤ 8) (hcs : cells + out.2.2.1 ≤ R.cells ∧ slots + out.2.2.2 ≤ R.slots) (hdg : decode cc pc = .ok (.invokespecial 333, 3))  (kk : ∀ (H1 : Heap) (locs1 : List Loc), True → BI G A s.heap out.2.1 (nx + out.2.2.1) H1 locs1 → W p l e R s m args below meth c H1 locs1 (cells + out.2.2.1) (slots + out.2.2.2) Q (F0 m (pc + 3) ls (rest))) : W p l e R s m args below meth c H locs cells slots Q (F0 m pc ls (.int a0 :: .ref o :: rest)) := by
  have hN := hS.2.1
  obtain ⟨fs, he⟩ := isO_s ho
  exact br_v (va_runSU (hS.1.1 12 _ rfl).2 (As := [.int a0]) S (mm_J7_setLength (l := l) (G := G) (fE := fE) (lE := lE) hf) (va_cwSU 1 S.2.2.2.2 (lw_app (c := ws_ yJ7_setLength cJ7_setLength 2 none) (fun w hw => by simp only [List.mem_cons, List.not_mem_nil, or_false] at hw; rcases hw with e | e | e | e | e <;> (rw [e]; first | exact q1859 | exact q2652 | exact q580 | exact q1860 | exact q185)) (lw_meth q1861)) rfl rfl rfl (by decide +kernel) hR) (bPreV hS hB (ci := 12) rfl he) rfl rfl hsz rfl (lv_room hW) hdg hcs) hB kk
theorem hd_J8_setLength : yJ8_setLength.cls = RJ8 ∧ yJ8_setLength.cls ≠ "java/lang/invoke/MethodHandle" ∧ yJ8_setLength.cls ≠ "java/lang/invoke/VarHandle" ∧ (parseMethodDescriptor yJ8_setLength.desc).map (fun d => d.parameters.length) = some 1 := by decide +kernel
set_option maxHeartbeats 4000000 in
set_option maxRecDepth 100000 in
theorem mm_J8_setLength {o : Nat} {a0 : Int32} {out : Unit × AH × Nat × Nat} (hf : f_J8_setLength E h nx o a0 = some out) : Met l yJ8_setLength (ws_ yJ8_setLength cJ8_setLength 2 none) (rC (fE + 5) (lE + 185) out.2.2.1 out.2.2.2) (bPc G E.1 hSites h nx [.ref o, .int a0]) (bQ G none True out.2.1 (nx + out.2.2.1) (AA h nx)) out.2.2.1 out.2.2.2 (AA h nx) := by
  refine bGo (by decide +kernel) (Nat.le_of_ble_eq_true rfl) (fun p e s m below meth c ls S hr hlocks hin hnm hS hB hl => ?_)
  have S : CallFix p m c cJ8_setLength 2 s _ lw_all RJ8 := S
  obtain ⟨hx, hb, hml, hown, hts⟩ := id S
  have hl : lv_has ls 2 [(0, .ref o), (1, .int a0)] := hl
  have hT : TL out out 0 0 := TL_0
  rw [f_J8_setLength] at hf
  refine lv_aload_n hx hb dJ8_setLength_0 rfl (lv_at hl 0 rfl) ?_
  refine lv_iload_n hx hb dJ8_setLength_1 rfl (lv_at hl 1 rfl) ?_
  obtain ⟨g1, hf⟩ := gd_t hf
  obtain ⟨v2, hv2, hf⟩ := ob_s hf
  obtain ⟨o3, hf, hT⟩ := TL_c hT hf
  refine mc_J8_333 (fE := fE) (lE := lE) S hS hB g1 hv2 hl.1 ⟨(by show _ ≤ (fE + 5); omega), (by show _ ≤ (lE + 185); omega)⟩ (Nat.le_of_ble_eq_true rfl) ⟨(TL_m hT).1, (TL_m hT).2⟩ dJ8_setLength_2 (fun H locs _ hB => ?_)
  have hE9 := TL_e hT hf
  subst hE9
  exact bt_v S hr hlocks hB (by omega) trivial dJ8_setLength_5
set_option maxRecDepth 100000 in
theorem mc_X1_601 {o : Nat} {a0 : Int32} {out : Unit × AH × Nat × Nat} (S : CallFix p m c cc nL s args lw_all RX1) (hS : SK G E.1 hSites A s) (hB : BI G A s.heap h nx H locs) (ho : isO h o 12 = true) (hf : f_J8_setLength E h nx o a0 = some out) (hsz : ls.size = nL) (hR : (fE + 5) + 1 ≤ R.frames ∧ 8 + (2 + 11) + (lE + 185) ≤ R.locals) (hW : (rest.map fun v => v.category).sum ≤ 8) (hcs : cells + out.2.2.1 ≤ R.cells ∧ slots + out.2.2.2 ≤ R.slots) (hdg : decode cc pc = .ok (.invokevirtual 601, 3))  (kk : ∀ (H1 : Heap) (locs1 : List Loc), True → BI G A s.heap out.2.1 (nx + out.2.2.1) H1 locs1 → W p l e R s m args below meth c H1 locs1 (cells + out.2.2.1) (slots + out.2.2.2) Q (F0 m (pc + 3) ls (rest))) : W p l e R s m args below meth c H locs cells slots Q (F0 m pc ls (.int a0 :: .ref o :: rest)) := by
  have hN := hS.2.1
  obtain ⟨fs, he⟩ := isO_s ho
  exact br_v (va_runV (As := [.int a0]) S (mm_J8_setLength (l := l) (G := G) (fE := fE) (lE := lE) hf) (cwV 1 S.2.2.2.2 (lw_V q1855 q1856 q1857 q186 q1858) rfl rfl rfl hd_J8_setLength hR) (bPreV hS hB (ci := 12) rfl he) rfl rfl hsz rfl (lv_room hW) hdg hcs) hB kk
theorem hd_J9_coder : yJ9_coder.cls = RJ9 ∧ yJ9_coder.cls ≠ "java/lang/invoke/MethodHandle" ∧ yJ9_coder.cls ≠ "java/lang/invoke/VarHandle" ∧ (parseMethodDescriptor yJ9_coder.desc).map (fun d => d.parameters.length) = some 0 := by decide +kernel
set_option maxHeartbeats 4000000 in
set_option maxRecDepth 100000 in
theorem mm_J9_coder {o : Nat} {out : Int32} (hf : f_J9_coder E h o = some out) : Met l yJ9_coder (ws_ yJ9_coder cJ9_coder 1 (some .byte)) (rM (fE + 0) (lE + 0)) (bPc G E.1 hSites h nx [.ref o]) (gR (some (.int out)) True) 0 0 (fun _ => False) := by
  refine bGo (by decide +kernel) (Nat.le_of_ble_eq_true rfl) (fun p e s m below meth c ls S hr hlocks hin hnm hS hB hl => ?_)
  have S : CallFix p m c cJ9_coder 1 s _ lw_all RJ9 := S
  obtain ⟨hx, hb, hml, hown, hts⟩ := id S
  have hl : lv_has ls 1 [(0, .ref o)] := hl
  rw [f_J9_coder] at hf
  refine b_gets S hS hB 5 rfl (hts _ q804) dJ9_coder_0 ?_
  refine lv_if_eq (tgt := 13) hx hb dJ9_coder_3 (by decide) (fun c1 => ?_) (fun c1 => ?_)
  · replace hf := it_t c1 hf
    refine lv_iconst hx hb dJ9_coder_13 kc_i1 ?_
    obtain ⟨g2, hf⟩ := gd_t hf
    have hE9 := Option.some.inj hf
    subst hE9
    exact gt_rn S hr hlocks (isY_n g2) dJ9_coder_14
  · replace hf := it_f c1 hf
    refine lv_aload_n hx hb dJ9_coder_6 rfl (lv_at hl 0 rfl) ?_
    obtain ⟨v3, hv3, hf⟩ := ob_s hf
    refine bg_J9_15 S hS hB (vI_s hv3) dJ9_coder_7 ?_
    refine lv_goto (tgt := 14) hx hb dJ9_coder_10 (by decide) ?_
    obtain ⟨g4, hf⟩ := gd_t hf
    have hE9 := Option.some.inj hf
    subst hE9
    exact gt_rn S hr hlocks (isY_n g4) dJ9_coder_14
set_option maxRecDepth 100000 in
theorem mc_J7_40 {o : Nat} {out : Int32} (S : CallFix p m c cc nL s args lw_all RJ7) (hS : SK G E.1 hSites A s) (hB : BI G A s.heap h nx H locs) (ho : isO h o 13 = true) (hf : f_J9_coder E h o = some out) (hsz : ls.size = nL) (hR : (fE + 0) + 1 ≤ R.frames ∧ 8 + (1 + 11) + (lE + 0) ≤ R.locals) (hW : (rest.map fun v => v.category).sum ≤ 8) (hcs : cells ≤ R.cells ∧ slots ≤ R.slots) (hdg : decode cc pc = .ok (.invokevirtual 40, 3))  (kk : True → W p l e R s m args below meth c H locs cells slots Q (F0 m (pc + 3) ls (.int out :: rest))) : W p l e R s m args below meth c H locs cells slots Q (F0 m pc ls (.ref o :: rest)) := by
  have hN := hS.2.1
  obtain ⟨fs, he⟩ := isO_s ho
  exact br_r (va_runV (As := []) S (mm_J9_coder (l := l) (G := G) (nx := nx) (fE := fE) (lE := lE) hf) (cwV 0 S.2.2.2.2 (lw_V q1915 q1904 q1905 q187 q1906) rfl rfl rfl hd_J9_coder hR) (bPreV hS hB (ci := 13) rfl he) rfl rfl hsz rfl (lv_room hW) hdg hcs) kk
set_option maxRecDepth 100000 in
theorem mc_J9_335 {o : Nat} {out : Int32} (S : CallFix p m c cc nL s args lw_all RJ9) (hS : SK G E.1 hSites A s) (hB : BI G A s.heap h nx H locs) (ho : isO h o 13 = true) (hf : f_J9_coder E h o = some out) (hsz : ls.size = nL) (hR : (fE + 0) + 1 ≤ R.frames ∧ 8 + (1 + 11) + (lE + 0) ≤ R.locals) (hW : (rest.map fun v => v.category).sum ≤ 8) (hcs : cells ≤ R.cells ∧ slots ≤ R.slots) (hdg : decode cc pc = .ok (.invokevirtual 335, 3))  (kk : True → W p l e R s m args below meth c H locs cells slots Q (F0 m (pc + 3) ls (.int out :: rest))) : W p l e R s m args below meth c H locs cells slots Q (F0 m pc ls (.ref o :: rest)) := by
  have hN := hS.2.1
  obtain ⟨fs, he⟩ := isO_s ho
  exact br_r (va_runV (As := []) S (mm_J9_coder (l := l) (G := G) (nx := nx) (fE := fE) (lE := lE) hf) (cwV 0 S.2.2.2.2 (lw_V q1903 q1904 q1905 q187 q1906) rfl rfl rfl hd_J9_coder hR) (bPreV hS hB (ci := 13) rfl he) rfl rfl hsz rfl (lv_room hW) hdg hcs) kk
theorem hd_J9_length : yJ9_length.cls = RJ9 ∧ yJ9_length.cls ≠ "java/lang/invoke/MethodHandle" ∧ yJ9_length.cls ≠ "java/lang/invoke/VarHandle" ∧ (parseMethodDescriptor yJ9_length.desc).map (fun d => d.parameters.length) = some 0 := by decide +kernel
set_option maxHeartbeats 4000000 in
set_option maxRecDepth 100000 in
theorem mm_J9_length {o : Nat} {out : Int32} (hf : f_J9_length E h o = some out) : Met l yJ9_length (ws_ yJ9_length cJ9_length 1 (some .int)) (rM (fE + 1) (lE + 20)) (bPc G E.1 hSites h nx [.ref o]) (gR (some (.int out)) True) 0 0 (fun _ => False) := by
  refine bGo (by decide +kernel) (Nat.le_of_ble_eq_true rfl) (fun p e s m below meth c ls S hr hlocks hin hnm hS hB hl => ?_)
  have S : CallFix p m c cJ9_length 1 s _ lw_all RJ9 := S
  obtain ⟨hx, hb, hml, hown, hts⟩ := id S
  have hl : lv_has ls 1 [(0, .ref o)] := hl
  rw [f_J9_length] at hf
  refine lv_aload_n hx hb dJ9_length_0 rfl (lv_at hl 0 rfl) ?_
  obtain ⟨v1, hv1, hf⟩ := ob_s hf
  refine bg_J9_9 S hS hB (vR_s hv1) dJ9_length_1 ?_
  obtain ⟨v2, hv2, hf⟩ := ob_s hf
  refine b_alen S hS.1 hB hv2 dJ9_length_4 ?_
  refine lv_aload_n hx hb dJ9_length_5 rfl (lv_at hl 0 rfl) ?_
  obtain ⟨g3, hf⟩ := gd_t hf
  obtain ⟨v4, hv4, hf⟩ := ob_s hf
  refine mc_J9_335 (fE := fE) (lE := lE) S hS hB g3 hv4 hl.1 ⟨(by show _ ≤ (fE + 1); omega), (by show _ ≤ (lE + 20); omega)⟩ (Nat.le_of_ble_eq_true rfl) ⟨Nat.zero_le _, Nat.zero_le _⟩ dJ9_length_6 (fun _ => ?_)
  refine lv_ishr hx hb dJ9_length_9 ?_
  have hE9 := Option.some.inj hf
  subst hE9
  exact gt_ri S hr hlocks trivial dJ9_length_10
set_option maxRecDepth 100000 in
theorem mc_J7_32 {o : Nat} {out : Int32} (S : CallFix p m c cc nL s args lw_all RJ7) (hS : SK G E.1 hSites A s) (hB : BI G A s.heap h nx H locs) (ho : isO h o 13 = true) (hf : f_J9_length E h o = some out) (hsz : ls.size = nL) (hR : (fE + 1) + 1 ≤ R.frames ∧ 8 + (1 + 11) + (lE + 20) ≤ R.locals) (hW : (rest.map fun v => v.category).sum ≤ 8) (hcs : cells ≤ R.cells ∧ slots ≤ R.slots) (hdg : decode cc pc = .ok (.invokevirtual 32, 3))  (kk : True → W p l e R s m args below meth c H locs cells slots Q (F0 m (pc + 3) ls (.int out :: rest))) : W p l e R s m args below meth c H locs cells slots Q (F0 m pc ls (.ref o :: rest)) := by
  have hN := hS.2.1
  obtain ⟨fs, he⟩ := isO_s ho
  exact br_r (va_runV (As := []) S (mm_J9_length (l := l) (G := G) (nx := nx) (fE := fE) (lE := lE) hf) (cwV 0 S.2.2.2.2 (lw_V q1899 q1900 q1901 q187 q1902) rfl rfl rfl hd_J9_length hR) (bPreV hS hB (ci := 13) rfl he) rfl rfl hsz rfl (lv_room hW) hdg hcs) kk
theorem hd_J7_inflateIfNeededFor : yJ7_inflateIfNeededFor.cls = RJ7 ∧ yJ7_inflateIfNeededFor.cls ≠ "java/lang/invoke/MethodHandle" ∧ yJ7_inflateIfNeededFor.cls ≠ "java/lang/invoke/VarHandle" ∧ (parseMethodDescriptor yJ7_inflateIfNeededFor.desc).map (fun d => d.parameters.length) = some 1 := by decide +kernel
set_option maxHeartbeats 4000000 in
set_option maxRecDepth 100000 in
theorem mm_J7_inflateIfNeededFor {o : Nat} {a0 : Nat} {out : Unit} (hf : f_J7_inflateIfNeededFor E h o a0 = some out) : Met l yJ7_inflateIfNeededFor (ws_ yJ7_inflateIfNeededFor cJ7_inflateIfNeededFor 2 none) (rM (fE + 1) (lE + 20)) (bPc G E.1 hSites h nx [.ref o, .ref a0]) (gR none True) 0 0 (fun _ => False) := by
  refine bGo (by decide +kernel) (Nat.le_of_ble_eq_true rfl) (fun p e s m below meth c ls S hr hlocks hin hnm hS hB hl => ?_)
  have S : CallFix p m c cJ7_inflateIfNeededFor 2 s _ lw_all RJ7 := S
  obtain ⟨hx, hb, hml, hown, hts⟩ := id S
  have hl : lv_has ls 2 [(0, .ref o), (1, .ref a0)] := hl
  rw [f_J7_inflateIfNeededFor] at hf
  refine b_gets S hS hB 5 rfl (hts _ q558) dJ7_inflateIfNeededFor_0 ?_
  refine lv_if_eq (tgt := 21) hx hb dJ7_inflateIfNeededFor_3 (by decide) (fun c1 => ?_) (fun c1 => ?_)
  · replace hf := it_t c1 hf
    have hE9 := Option.some.inj hf
    subst hE9
    exact gt_rv S hr hlocks trivial dJ7_inflateIfNeededFor_21
  · replace hf := it_f c1 hf
    refine lv_aload_n hx hb dJ7_inflateIfNeededFor_6 rfl (lv_at hl 0 rfl) ?_
    obtain ⟨v2, hv2, hf⟩ := ob_s hf
    refine bg_J7_22 S hS hB (vI_s hv2) dJ7_inflateIfNeededFor_7 ?_
    refine lv_aload_n hx hb dJ7_inflateIfNeededFor_10 rfl (lv_at hl 1 rfl) ?_
    obtain ⟨g3, hf⟩ := gd_t hf
    obtain ⟨v4, hv4, hf⟩ := ob_s hf
    refine mc_J7_40 (fE := fE) (lE := lE) S hS hB g3 hv4 hl.1 ⟨(by show _ ≤ (fE + 1); omega), (by show _ ≤ (lE + 20); omega)⟩ (Nat.le_of_ble_eq_true rfl) ⟨Nat.zero_le _, Nat.zero_le _⟩ dJ7_inflateIfNeededFor_11 (fun _ => ?_)
    refine lv_icmp_eq (tgt := 21) hx hb dJ7_inflateIfNeededFor_14 (by decide) (fun c5 => ?_) (fun c5 => ?_)
    · replace hf := it_t c5 hf
      have hE9 := Option.some.inj hf
      subst hE9
      exact gt_rv S hr hlocks trivial dJ7_inflateIfNeededFor_21
    · replace hf := it_f c5 hf
      exact absurd hf (by nofun)
set_option maxRecDepth 100000 in
theorem mc_J7_397 {o : Nat} {a0 : Nat} {out : Unit} (S : CallFix p m c cc nL s args lw_all RJ7) (hS : SK G E.1 hSites A s) (hB : BI G A s.heap h nx H locs) (ho : isO h o 12 = true) (hf : f_J7_inflateIfNeededFor E h o a0 = some out) (hsz : ls.size = nL) (hR : (fE + 1) + 1 ≤ R.frames ∧ 8 + (2 + 11) + (lE + 20) ≤ R.locals) (hW : (rest.map fun v => v.category).sum ≤ 8) (hcs : cells ≤ R.cells ∧ slots ≤ R.slots) (hdg : decode cc pc = .ok (.invokevirtual 397, 3))  (kk : True → W p l e R s m args below meth c H locs cells slots Q (F0 m (pc + 3) ls (rest))) : W p l e R s m args below meth c H locs cells slots Q (F0 m pc ls (.ref a0 :: .ref o :: rest)) := by
  have hN := hS.2.1
  obtain ⟨fs, he⟩ := isO_s ho
  exact br_rv (b_runP (As := [.ref a0]) S (hS.2.1 _ q1912 rfl) (mm_J7_inflateIfNeededFor (l := l) (G := G) (nx := nx) (fE := fE) (lE := lE) hf) (callB_of 1 S.2.2.2.2 (lw_meth q1914) rfl rfl rfl (S.2.2.2.2 _ q185) (S.2.2.2.2 _ q1911) hd_J7_inflateIfNeededFor.2 hR) (S.2.2.2.2 _ q2656) (S.2.2.2.2 _ q1913) (bPreV hS hB (ci := 12) rfl he) rfl rfl hsz rfl (lv_room hW) hdg hcs) kk
theorem hd_J13_inflate : yJ13_inflate.cls ≠ "java/lang/invoke/MethodHandle" ∧ yJ13_inflate.cls ≠ "java/lang/invoke/VarHandle" ∧ (parseMethodDescriptor yJ13_inflate.desc).map (fun d => d.parameters.length) = some 5 := by decide +kernel
set_option maxHeartbeats 4000000 in
set_option maxRecDepth 100000 in
theorem mm_J13_inflate {a0 : Nat} {a1 : Int32} {a2 : Nat} {a3 : Int32} {a4 : Int32} {out : Unit} (hf : f_J13_inflate a0 a1 a2 a3 a4 = some out) : Met l yJ13_inflate (ws_ yJ13_inflate cJ13_inflate 5 none) (rM 0 0) (gPc D cl tys [.ref a0, .int a1, .ref a2, .int a3, .int a4] []) (gR none True) 0 0 (fun _ => False) := by
  refine gGo (by decide +kernel) (Nat.le_of_ble_eq_true rfl) (fun p e s m below meth c ls S hr hlocks hK hP hl => ?_)
  have S : CallFix p m c cJ13_inflate 5 s _ lw_all RJ13 := S
  obtain ⟨hx, hb, hml, hown, hts⟩ := id S
  have hl : lv_has ls 5 [(0, .ref a0), (1, .int a1), (2, .ref a2), (3, .int a3), (4, .int a4)] := hl
  rw [f_J13_inflate] at hf
  exact absurd hf (by nofun)
set_option maxRecDepth 100000 in
theorem mc_J9_106 {a0 : Nat} {a1 : Int32} {a2 : Nat} {a3 : Int32} {a4 : Int32} {out : Unit} (S : CallFix p m c cc nL s args lw_all RJ9) (hK : va_K D cl tys s) (hf : f_J13_inflate a0 a1 a2 a3 a4 = some out) (hsz : ls.size = nL) (hR : 0 + 1 ≤ R.frames ∧ 8 + (5 + 11) + 0 ≤ R.locals) (hW : (rest.map fun v => v.category).sum ≤ 8) (hcs : cells ≤ R.cells ∧ slots ≤ R.slots) (hdg : decode cc pc = .ok (.invokestatic 106, 3))  (kk : True → W p l e R s m args below meth c H locs cells slots Q (F0 m (pc + 3) ls (rest))) : W p l e R s m args below meth c H locs cells slots Q (F0 m pc ls (.int a4 :: .int a3 :: .ref a2 :: .int a1 :: .ref a0 :: rest)) := by
  exact br_rv (va_runS (As := [.ref a0, .int a1, .ref a2, .int a3, .int a4]) S (mm_J13_inflate hf) (va_cwS 5 S.2.2.2.2 (lw_S q1921 q730 q193 q731) rfl rfl rfl hd_J13_inflate hR) (gPreS hK gP0) rfl rfl hsz rfl (lv_room hW) hdg hcs) kk
theorem hd_J9_getBytes : yJ9_getBytes.cls = RJ9 ∧ yJ9_getBytes.cls ≠ "java/lang/invoke/MethodHandle" ∧ yJ9_getBytes.cls ≠ "java/lang/invoke/VarHandle" ∧ (parseMethodDescriptor yJ9_getBytes.desc).map (fun d => d.parameters.length) = some 3 := by decide +kernel
set_option maxHeartbeats 4000000 in
set_option maxRecDepth 100000 in
theorem mm_J9_getBytes {o : Nat} {a0 : Nat} {a1 : Int32} {a2 : Int32} {out : Unit × AH × Nat × Nat} (hf : f_J9_getBytes E h nx o a0 a1 a2 = some out) : Met l yJ9_getBytes (ws_ yJ9_getBytes cJ9_getBytes 4 none) (rC (fE + 1) (lE + 120) out.2.2.1 out.2.2.2) (bPc G E.1 hSites h nx [.ref o, .ref a0, .int a1, .int a2]) (bQ G none True out.2.1 (nx + out.2.2.1) (AA h nx)) out.2.2.1 out.2.2.2 (AA h nx) := by
  refine bGo (by decide +kernel) (Nat.le_of_ble_eq_true rfl) (fun p e s m below meth c ls S hr hlocks hin hnm hS hB hl => ?_)
  have S : CallFix p m c cJ9_getBytes 4 s _ lw_all RJ9 := S
  obtain ⟨hx, hb, hml, hown, hts⟩ := id S
  have hl : lv_has ls 4 [(0, .ref o), (1, .ref a0), (2, .int a1), (3, .int a2)] := hl
  have hT : TL out out 0 0 := TL_0
  rw [f_J9_getBytes] at hf
  refine lv_aload_n hx hb dJ9_getBytes_0 rfl (lv_at hl 0 rfl) ?_
  obtain ⟨g1, hf⟩ := gd_t hf
  obtain ⟨v2, hv2, hf⟩ := ob_s hf
  refine mc_J9_335 (fE := fE) (lE := lE) S hS hB g1 hv2 hl.1 ⟨(by show _ ≤ (fE + 1); omega), (by show _ ≤ (lE + 120); omega)⟩ (Nat.le_of_ble_eq_true rfl) ⟨(TL_m hT).1, (TL_m hT).2⟩ dJ9_getBytes_1 (fun _ => ?_)
  refine lv_iload_n hx hb dJ9_getBytes_4 rfl (lv_at hl 3 rfl) ?_
  refine lv_icmp_ne (tgt := 28) hx hb dJ9_getBytes_5 (by decide) (fun c3 => ?_) (fun c3 => ?_)
  · replace hf := it_f c3 hf
    refine lv_aload_n hx hb dJ9_getBytes_28 rfl (lv_at hl 0 rfl) ?_
    obtain ⟨v4, hv4, hf⟩ := ob_s hf
    refine bg_J9_9 S hS hB (vR_s hv4) dJ9_getBytes_29 ?_
    refine lv_iconst hx hb dJ9_getBytes_32 kc_i0 ?_
    refine lv_aload_n hx hb dJ9_getBytes_33 rfl (lv_at hl 1 rfl) ?_
    refine lv_iload_n hx hb dJ9_getBytes_34 rfl (lv_at hl 2 rfl) ?_
    refine lv_aload_n hx hb dJ9_getBytes_35 rfl (lv_at hl 0 rfl) ?_
    obtain ⟨v5, hv5, hf⟩ := ob_s hf
    refine bg_J9_9 S hS hB (vR_s hv5) dJ9_getBytes_36 ?_
    obtain ⟨v6, hv6, hf⟩ := ob_s hf
    refine b_alen S hS.1 hB hv6 dJ9_getBytes_39 ?_
    obtain ⟨v7, hv7, hf⟩ := ob_s hf
    refine mc_J9_106 S hS.1 hv7 hl.1 ⟨(by show _ ≤ (fE + 1); omega), (by show _ ≤ (lE + 120); omega)⟩ (Nat.le_of_ble_eq_true rfl) ⟨(TL_m hT).1, (TL_m hT).2⟩ dJ9_getBytes_40 (fun _ => ?_)
    have hE9 := TL_e hT hf
    subst hE9
    exact bt_v S hr hlocks hB (by omega) trivial dJ9_getBytes_43
  · replace hf := it_t c3 hf
    refine lv_aload_n hx hb dJ9_getBytes_8 rfl (lv_at hl 0 rfl) ?_
    obtain ⟨v8, hv8, hf⟩ := ob_s hf
    refine bg_J9_9 S hS hB (vR_s hv8) dJ9_getBytes_9 ?_
    refine lv_iconst hx hb dJ9_getBytes_12 kc_i0 ?_
    refine lv_aload_n hx hb dJ9_getBytes_13 rfl (lv_at hl 1 rfl) ?_
    refine lv_iload_n hx hb dJ9_getBytes_14 rfl (lv_at hl 2 rfl) ?_
    refine lv_iload_n hx hb dJ9_getBytes_15 rfl (lv_at hl 3 rfl) ?_
    refine lv_ishl hx hb dJ9_getBytes_16 ?_
    refine lv_aload_n hx hb dJ9_getBytes_17 rfl (lv_at hl 0 rfl) ?_
    obtain ⟨v9, hv9, hf⟩ := ob_s hf
    refine bg_J9_9 S hS hB (vR_s hv9) dJ9_getBytes_18 ?_
    obtain ⟨v10, hv10, hf⟩ := ob_s hf
    refine b_alen S hS.1 hB hv10 dJ9_getBytes_21 ?_
    obtain ⟨h11, hh11, hf⟩ := ob_s hf
    refine b_copyI S hS.1 hB (by rw [hml]; exact hl.1.symm) (hts _ q1920) (hts _ q257) (hts _ q256) (hts _ q179) 2 rfl rfl hh11 (by show _ ≤ (fE + 1); omega) (by show _ ≤ (lE + 120); simp only [List.map, List.sum_cons, List.sum_nil, Value.category]; exact Nat.le_trans (Nat.le_of_ble_eq_true rfl : _ ≤ 120) (by omega)) dJ9_getBytes_22 (fun H locs hB => ?_)
    refine lv_goto (tgt := 43) hx hb dJ9_getBytes_25 (by decide) ?_
    have hE9 := TL_e hT hf
    subst hE9
    exact bt_v S hr hlocks hB (by omega) trivial dJ9_getBytes_43
set_option maxRecDepth 100000 in
theorem mc_J7_399 {o : Nat} {a0 : Nat} {a1 : Int32} {a2 : Int32} {out : Unit × AH × Nat × Nat} (S : CallFix p m c cc nL s args lw_all RJ7) (hS : SK G E.1 hSites A s) (hB : BI G A s.heap h nx H locs) (ho : isO h o 13 = true) (hf : f_J9_getBytes E h nx o a0 a1 a2 = some out) (hsz : ls.size = nL) (hR : (fE + 1) + 1 ≤ R.frames ∧ 8 + (4 + 11) + (lE + 120) ≤ R.locals) (hW : (rest.map fun v => v.category).sum ≤ 8) (hcs : cells + out.2.2.1 ≤ R.cells ∧ slots + out.2.2.2 ≤ R.slots) (hdg : decode cc pc = .ok (.invokevirtual 399, 3))  (kk : ∀ (H1 : Heap) (locs1 : List Loc), True → BI G A s.heap out.2.1 (nx + out.2.2.1) H1 locs1 → W p l e R s m args below meth c H1 locs1 (cells + out.2.2.1) (slots + out.2.2.2) Q (F0 m (pc + 3) ls (rest))) : W p l e R s m args below meth c H locs cells slots Q (F0 m pc ls (.int a2 :: .int a1 :: .ref a0 :: .ref o :: rest)) := by
  have hN := hS.2.1
  obtain ⟨fs, he⟩ := isO_s ho
  exact br_v (va_runV (As := [.ref a0, .int a1, .int a2]) S (mm_J9_getBytes (l := l) (G := G) (fE := fE) (lE := lE) hf) (cwV 3 S.2.2.2.2 (lw_V q1916 q1917 q1918 q187 q1919) rfl rfl rfl hd_J9_getBytes hR) (bPreV hS hB (ci := 13) rfl he) rfl rfl hsz rfl (lv_room hW) hdg hcs) hB kk
end
