section
variable {l : Launch} {D : va_G} {cl : List vw_C} {tys : List (ClassId × FieldType)} {G : hG} {E : bE} {fE lE : Nat} {h : AH} {nx : Nat} {A : Nat → Prop}
variable {p : Program} {e : Env} {R : Room} {s : State} {m : MethodId} {args : Array Value} {below : List Frame} {meth : Method} {c : Code} {H H0 : Heap} {locs : List Loc} {cells slots : Nat} {Q : State → Prop} {cc : ByteArray} {nL pc : Nat} {ls : Array Slot} {rest : List Value}
theorem hd_X2_putsBid : yX2_putsBid.cls = RX2 ∧ yX2_putsBid.cls ≠ "java/lang/invoke/MethodHandle" ∧ yX2_putsBid.cls ≠ "java/lang/invoke/VarHandle" ∧ (parseMethodDescriptor yX2_putsBid.desc).map (fun d => d.parameters.length) = some 2 := by decide +kernel
set_option maxHeartbeats 4000000 in
set_option maxRecDepth 100000 in
theorem mm_X2_putsBid {o : Nat} {a0 : Int32} {a1 : Int32} {out : Unit × AH × Nat × Nat} (hf : f_X2_putsBid E h nx o a0 a1 = some out) : Met l yX2_putsBid (ws_ yX2_putsBid cX2_putsBid 3 none) (rC (fE + 0) (lE + 0) out.2.2.1 out.2.2.2) (bPc G E.1 hSites h nx [.ref o, .int a0, .int a1]) (bQ G none True out.2.1 (nx + out.2.2.1) (AA h nx)) out.2.2.1 out.2.2.2 (AA h nx) := by
  refine bGo (by decide +kernel) (Nat.le_of_ble_eq_true rfl) (fun p e s m below meth c ls S hr hlocks hin hnm hS hB hl => ?_)
  have S : CallFix p m c cX2_putsBid 3 s _ lw_all RX2 := S
  obtain ⟨hx, hb, hml, hown, hts⟩ := id S
  have hl : lv_has ls 3 [(0, .ref o), (1, .int a0), (2, .int a1)] := hl
  have hT : TL out out 0 0 := TL_0
  rw [f_X2_putsBid] at hf
  refine lv_aload_n hx hb dX2_putsBid_0 rfl (lv_at hl 0 rfl) ?_
  obtain ⟨v1, hv1, hf⟩ := ob_s hf
  refine bg_X2_31 S hS hB (vR_s hv1) dX2_putsBid_1 ?_
  refine lv_iload_n hx hb dX2_putsBid_4 rfl (lv_at hl 1 rfl) ?_
  refine lv_dup2_11 hx hb dX2_putsBid_5 rfl rfl ?_
  obtain ⟨v2, hv2, hf⟩ := ob_s hf
  refine b_iald S hS.1 hB hv2 dX2_putsBid_6 ?_
  refine lv_iconst hx hb dX2_putsBid_7 kc_i1 ?_
  refine lv_iload_n hx hb dX2_putsBid_8 rfl (lv_at hl 2 rfl) ?_
  refine lv_ishl hx hb dX2_putsBid_9 ?_
  refine lv_ior hx hb dX2_putsBid_10 ?_
  obtain ⟨h3, hh3, hf⟩ := ob_s hf
  refine b_iast S hS.1 hB hh3 dX2_putsBid_11 (fun H locs hB => ?_)
  have hE9 := TL_e hT hf
  subst hE9
  exact bt_v S hr hlocks hB (by omega) trivial dX2_putsBid_12
set_option maxRecDepth 100000 in
theorem mc_X1_551 {o : Nat} {a0 : Int32} {a1 : Int32} {out : Unit × AH × Nat × Nat} (S : CallFix p m c cc nL s args lw_all RX1) (hS : SK G E.1 hSites A s) (hB : BI G A s.heap h nx H locs) (ho : isO h o 1 = true) (hf : f_X2_putsBid E h nx o a0 a1 = some out) (hsz : ls.size = nL) (hR : (fE + 0) + 1 ≤ R.frames ∧ 8 + (3 + 11) + (lE + 0) ≤ R.locals) (hW : (rest.map fun v => v.category).sum ≤ 8) (hcs : cells + out.2.2.1 ≤ R.cells ∧ slots + out.2.2.2 ≤ R.slots) (hdg : decode cc pc = .ok (.invokevirtual 551, 3))  (kk : ∀ (H1 : Heap) (locs1 : List Loc), True → BI G A s.heap out.2.1 (nx + out.2.2.1) H1 locs1 → W p l e R s m args below meth c H1 locs1 (cells + out.2.2.1) (slots + out.2.2.2) Q (F0 m (pc + 3) ls (rest))) : W p l e R s m args below meth c H locs cells slots Q (F0 m pc ls (.int a1 :: .int a0 :: .ref o :: rest)) := by
  have hN := hS.2.1
  obtain ⟨fs, he⟩ := isO_s ho
  exact br_v (va_runV (As := [.int a0, .int a1]) S (mm_X2_putsBid (l := l) (G := G) (fE := fE) (lE := lE) hf) (cwV 2 S.2.2.2.2 (lw_V q1801 q1412 q1413 q178 q1414) rfl rfl rfl hd_X2_putsBid hR) (bPreV hS hB (ci := 1) rfl he) rfl rfl hsz rfl (lv_room hW) hdg hcs) hB kk
set_option maxRecDepth 100000 in
theorem mc_X2_295 {o : Nat} {a0 : Int32} {a1 : Int32} {out : Unit × AH × Nat × Nat} (S : CallFix p m c cc nL s args lw_all RX2) (hS : SK G E.1 hSites A s) (hB : BI G A s.heap h nx H locs) (ho : isO h o 1 = true) (hf : f_X2_putsBid E h nx o a0 a1 = some out) (hsz : ls.size = nL) (hR : (fE + 0) + 1 ≤ R.frames ∧ 8 + (3 + 11) + (lE + 0) ≤ R.locals) (hW : (rest.map fun v => v.category).sum ≤ 8) (hcs : cells + out.2.2.1 ≤ R.cells ∧ slots + out.2.2.2 ≤ R.slots) (hdg : decode cc pc = .ok (.invokevirtual 295, 3))  (kk : ∀ (H1 : Heap) (locs1 : List Loc), True → BI G A s.heap out.2.1 (nx + out.2.2.1) H1 locs1 → W p l e R s m args below meth c H1 locs1 (cells + out.2.2.1) (slots + out.2.2.2) Q (F0 m (pc + 3) ls (rest))) : W p l e R s m args below meth c H locs cells slots Q (F0 m pc ls (.int a1 :: .int a0 :: .ref o :: rest)) := by
  have hN := hS.2.1
  obtain ⟨fs, he⟩ := isO_s ho
  exact br_v (va_runV (As := [.int a0, .int a1]) S (mm_X2_putsBid (l := l) (G := G) (fE := fE) (lE := lE) hf) (cwV 2 S.2.2.2.2 (lw_V q1411 q1412 q1413 q178 q1414) rfl rfl rfl hd_X2_putsBid hR) (bPreV hS hB (ci := 1) rfl he) rfl rfl hsz rfl (lv_room hW) hdg hcs) hB kk
theorem hd_X2_bidsAll : yX2_bidsAll.cls = RX2 ∧ yX2_bidsAll.cls ≠ "java/lang/invoke/MethodHandle" ∧ yX2_bidsAll.cls ≠ "java/lang/invoke/VarHandle" ∧ (parseMethodDescriptor yX2_bidsAll.desc).map (fun d => d.parameters.length) = some 0 := by decide +kernel
set_option maxHeartbeats 4000000 in
set_option maxRecDepth 100000 in
theorem mm_X2_bidsAll {o : Nat} {out : Int32 × AH × Nat × Nat} (hE : IfOK l G E fE lE) (hf : f_X2_bidsAll E h nx o = some out) : Met l yX2_bidsAll (ws_ yX2_bidsAll cX2_bidsAll 6 (some .int)) (rC (fE + 3) (lE + 63) out.2.2.1 out.2.2.2) (bPc G E.1 hSites h nx [.ref o]) (bQ G (some (.int out.1)) True out.2.1 (nx + out.2.2.1) (AA h nx)) out.2.2.1 out.2.2.2 (AA h nx) := by
  refine bGo (by decide +kernel) (Nat.le_of_ble_eq_true rfl) (fun p e s m below meth c ls S hr hlocks hin hnm hS hB hl => ?_)
  have S : CallFix p m c cX2_bidsAll 6 s _ lw_all RX2 := S
  obtain ⟨hx, hb, hml, hown, hts⟩ := id S
  have hl : lv_has ls 6 [(0, .ref o)] := hl
  have w80 : ∀ (k53 : Nat → Int32 → Int32 → Int32 → Int32 → AH → Nat → Option (Int32 × AH × Nat × Nat)), (∀ (b0 : Nat) (b1 : Int32) (b2 : Int32) (b3 : Int32) (b4 : Int32) (b5 : AH) (b6 : Nat) (ls : Array Slot) (H : Heap) (locs : List Loc) (ce sl : Nat) (o1 : Int32 × AH × Nat × Nat), BI G (AA h nx) s.heap b5 b6 H locs → b6 = nx + ce → TL out o1 ce sl → lv_has ls 6 [(0, .ref b0), (1, .int b1), (2, .int b2), (3, .int b3), (4, .int b4)] → k53 b0 b1 b2 b3 b4 b5 b6 = some o1 → W p l e (rC (fE + 3) (lE + 63) out.2.2.1 out.2.2.2) s m ([.ref o] : List Value).toArray below meth c H locs ce sl (MQ below (bQ G (some (.int out.1)) True out.2.1 (nx + out.2.2.1) (AA h nx)) ([.ref o] : List Value).toArray s out.2.2.1 out.2.2.2 (AA h nx)) (F0 m 53 ls [])) → ∀ (x0 : Nat) (x1 : Int32) (x2 : Int32) (x3 : Int32) (x4 : Int32) (y0 : Int32) (hc : AH) (nc : Nat) (ls : Array Slot) (H : Heap) (locs : List Loc) (ce sl : Nat) (o1 : Int32 × AH × Nat × Nat), BI G (AA h nx) s.heap hc nc H locs → nc = nx + ce → TL out o1 ce sl → lv_has ls 6 [(0, .ref x0), (1, .int x1), (2, .int x2), (3, .int x3), (4, .int x4)] → f_X2_bidsAll_80 k53 E x0 x1 x2 x3 x4 y0 hc nc = some o1 → W p l e (rC (fE + 3) (lE + 63) out.2.2.1 out.2.2.2) s m ([.ref o] : List Value).toArray below meth c H locs ce sl (MQ below (bQ G (some (.int out.1)) True out.2.1 (nx + out.2.2.1) (AA h nx)) ([.ref o] : List Value).toArray s out.2.2.1 out.2.2.2 (AA h nx)) (F0 m 80 ls [.int y0]) := by
    intro k53 hk53 x0 x1 x2 x3 x4 y0 hc nc ls H locs ce sl o1 hB hn hT hl hf
    rw [f_X2_bidsAll_80] at hf
    refine lv_istore (lv' := [(5, .int y0), (0, .ref x0), (1, .int x1), (2, .int x2), (3, .int x3), (4, .int x4)]) hx hb dX2_bidsAll_80 hl (by decide) rfl (fun ls hl => ?_)
    refine lv_aload_n hx hb dX2_bidsAll_82 rfl (lv_at hl 1 rfl) ?_
    refine lv_iload_n hx hb dX2_bidsAll_83 rfl (lv_at hl 3 rfl) ?_
    refine lv_iload hx hb dX2_bidsAll_84 (lv_at hl 0 rfl) ?_
    obtain ⟨g1, hf⟩ := gd_t hf
    obtain ⟨v2, hv2, hf⟩ := ob_s hf
    obtain ⟨o3, hf, hT⟩ := TL_c hT hf
    refine mc_X2_292 (fE := fE) (lE := lE) S hE hS hB g1 hv2 hl.1 ⟨(by show _ ≤ (fE + 3); omega), (by show _ ≤ (lE + 63); omega)⟩ (Nat.le_of_ble_eq_true rfl) ⟨(TL_m hT).1, (TL_m hT).2⟩ dX2_bidsAll_86 (fun H locs _ hB => ?_)
    refine lv_if_ne (tgt := 99) hx hb dX2_bidsAll_89 (by decide) (fun c4 => ?_) (fun c4 => ?_)
    · replace hf := it_f c4 hf
      refine lv_iinc (v := (x4 + 1)) (lv' := [(4, .int (x4 + 1)), (5, .int y0), (0, .ref x0), (1, .int x1), (2, .int x2), (3, .int x3)]) hx hb dX2_bidsAll_99 hl (k := 5) rfl rfl (by decide) rfl (fun ls hl => ?_)
      refine lv_goto (tgt := 53) hx hb dX2_bidsAll_102 (by decide) ?_
      exact hk53 x0 x1 x2 x3 (x4 + 1) v2.2.1 (nc + v2.2.2.1) ls H locs (ce + v2.2.2.1) (sl + v2.2.2.2) o3 hB (by omega) hT (lv_sub (l' := [(0, .ref x0), (1, .int x1), (2, .int x2), (3, .int x3), (4, .int (x4 + 1))]) hl [2, 3, 4, 5, 0] rfl) hf
    · replace hf := it_t c4 hf
      refine lv_aload_n hx hb dX2_bidsAll_92 rfl (lv_at hl 1 rfl) ?_
      refine lv_iload_n hx hb dX2_bidsAll_93 rfl (lv_at hl 3 rfl) ?_
      refine lv_iload hx hb dX2_bidsAll_94 (lv_at hl 0 rfl) ?_
      obtain ⟨g5, hf⟩ := gd_t hf
      obtain ⟨v6, hv6, hf⟩ := ob_s hf
      obtain ⟨o7, hf, hT⟩ := TL_c hT hf
      refine mc_X2_295 (fE := fE) (lE := lE) S hS hB g5 hv6 hl.1 ⟨(by show _ ≤ (fE + 3); omega), (by show _ ≤ (lE + 63); omega)⟩ (Nat.le_of_ble_eq_true rfl) ⟨(TL_m hT).1, (TL_m hT).2⟩ dX2_bidsAll_96 (fun H locs _ hB => ?_)
      refine lv_iinc (v := (x4 + 1)) (lv' := [(4, .int (x4 + 1)), (5, .int y0), (0, .ref x0), (1, .int x1), (2, .int x2), (3, .int x3)]) hx hb dX2_bidsAll_99 hl (k := 5) rfl rfl (by decide) rfl (fun ls hl => ?_)
      refine lv_goto (tgt := 53) hx hb dX2_bidsAll_102 (by decide) ?_
      exact hk53 x0 x1 x2 x3 (x4 + 1) v6.2.1 ((nc + v2.2.2.1) + v6.2.2.1) ls H locs ((ce + v2.2.2.1) + v6.2.2.1) ((sl + v2.2.2.2) + v6.2.2.2) o7 hB (by omega) hT (lv_sub (l' := [(0, .ref x0), (1, .int x1), (2, .int x2), (3, .int x3), (4, .int (x4 + 1))]) hl [2, 3, 4, 5, 0] rfl) hf
  have w53 : ∀ (n : Nat) (k7 : Nat → Int32 → Int32 → AH → Nat → Option (Int32 × AH × Nat × Nat)), (∀ (b0 : Nat) (b1 : Int32) (b2 : Int32) (b3 : AH) (b4 : Nat) (ls : Array Slot) (H : Heap) (locs : List Loc) (ce sl : Nat) (o1 : Int32 × AH × Nat × Nat), BI G (AA h nx) s.heap b3 b4 H locs → b4 = nx + ce → TL out o1 ce sl → lv_has ls 6 [(0, .ref b0), (1, .int b1), (2, .int b2)] → k7 b0 b1 b2 b3 b4 = some o1 → W p l e (rC (fE + 3) (lE + 63) out.2.2.1 out.2.2.2) s m ([.ref o] : List Value).toArray below meth c H locs ce sl (MQ below (bQ G (some (.int out.1)) True out.2.1 (nx + out.2.2.1) (AA h nx)) ([.ref o] : List Value).toArray s out.2.2.1 out.2.2.2 (AA h nx)) (F0 m 7 ls [])) → ∀ (x0 : Nat) (x1 : Int32) (x2 : Int32) (x3 : Int32) (x4 : Int32) (hc : AH) (nc : Nat) (ls : Array Slot) (H : Heap) (locs : List Loc) (ce sl : Nat) (o1 : Int32 × AH × Nat × Nat), BI G (AA h nx) s.heap hc nc H locs → nc = nx + ce → TL out o1 ce sl → lv_has ls 6 [(0, .ref x0), (1, .int x1), (2, .int x2), (3, .int x3), (4, .int x4)] → f_X2_bidsAll_53 n k7 E x0 x1 x2 x3 x4 hc nc = some o1 → W p l e (rC (fE + 3) (lE + 63) out.2.2.1 out.2.2.2) s m ([.ref o] : List Value).toArray below meth c H locs ce sl (MQ below (bQ G (some (.int out.1)) True out.2.1 (nx + out.2.2.1) (AA h nx)) ([.ref o] : List Value).toArray s out.2.2.1 out.2.2.2 (AA h nx)) (F0 m 53 ls []) := by
    intro n
    induction n with
    | zero =>
      intro k7 hk7 x0 x1 x2 x3 x4 hc nc ls H locs ce sl o1 hB hn hT hl hf
      exact absurd hf (by rw [f_X2_bidsAll_53]; exact nofun)
    | succ n ih =>
      intro k7 hk7 x0 x1 x2 x3 x4 hc nc ls H locs ce sl o1 hB hn hT hl hf
      rw [f_X2_bidsAll_53] at hf
      refine lv_iload hx hb dX2_bidsAll_53 (lv_at hl 4 rfl) ?_
      refine lv_iload_n hx hb dX2_bidsAll_55 rfl (lv_at hl 3 rfl) ?_
      refine lv_icmp_ge (tgt := 105) hx hb dX2_bidsAll_56 (by decide) (fun c1 => ?_) (fun c1 => ?_)
      · replace hf := it_t c1 hf
        refine lv_iinc (v := (x2 + 1)) (lv' := [(2, .int (x2 + 1)), (0, .ref x0), (1, .int x1), (3, .int x3), (4, .int x4)]) hx hb dX2_bidsAll_105 hl (k := 2) rfl rfl (by decide) rfl (fun ls hl => ?_)
        refine lv_goto (tgt := 7) hx hb dX2_bidsAll_108 (by decide) ?_
        exact hk7 x0 x1 (x2 + 1) hc nc ls H locs ce sl o1 hB (by omega) hT (lv_sub (l' := [(0, .ref x0), (1, .int x1), (2, .int (x2 + 1))]) hl [1, 2, 0] rfl) hf
      · replace hf := it_f c1 hf
        refine lv_aload_n hx hb dX2_bidsAll_59 rfl (lv_at hl 0 rfl) ?_
        obtain ⟨v2, hv2, hf⟩ := ob_s hf
        refine bg_X2_34 S hS hB (vR_s hv2) dX2_bidsAll_60 ?_
        refine lv_iload_n hx hb dX2_bidsAll_63 rfl (lv_at hl 2 rfl) ?_
        obtain ⟨v3, hv3, hf⟩ := ob_s hf
        refine b_iald S hS.1 hB hv3 dX2_bidsAll_64 ?_
        refine lv_if_ne (tgt := 73) hx hb dX2_bidsAll_65 (by decide) (fun c4 => ?_) (fun c4 => ?_)
        · replace hf := it_f c4 hf
          refine lv_aload_n hx hb dX2_bidsAll_73 rfl (lv_at hl 0 rfl) ?_
          refine lv_iload_n hx hb dX2_bidsAll_74 rfl (lv_at hl 2 rfl) ?_
          refine lv_iload hx hb dX2_bidsAll_75 (lv_at hl 4 rfl) ?_
          obtain ⟨g5, hf⟩ := gd_t hf
          obtain ⟨v6, hv6, hf⟩ := ob_s hf
          refine mc_X2_175 (fE := fE) (lE := lE) S hS hB g5 hv6 hl.1 ⟨(by show _ ≤ (fE + 3); omega), (by show _ ≤ (lE + 63); omega)⟩ (Nat.le_of_ble_eq_true rfl) ⟨(TL_m hT).1, (TL_m hT).2⟩ dX2_bidsAll_77 (fun _ => ?_)
          exact (w80 (f_X2_bidsAll_53 n k7 E) (ih k7 hk7)) x0 x1 x2 x3 x4 v6 hc nc ls H locs ce sl o1 hB (by omega) hT hl hf
        · replace hf := it_t c4 hf
          refine lv_iload hx hb dX2_bidsAll_68 (lv_at hl 4 rfl) ?_
          refine lv_goto (tgt := 80) hx hb dX2_bidsAll_70 (by decide) ?_
          exact (w80 (f_X2_bidsAll_53 n k7 E) (ih k7 hk7)) x0 x1 x2 x3 x4 x4 hc nc ls H locs ce sl o1 hB (by omega) hT hl hf
  have w7 : ∀ (n : Nat) , ∀ (x0 : Nat) (x1 : Int32) (x2 : Int32) (hc : AH) (nc : Nat) (ls : Array Slot) (H : Heap) (locs : List Loc) (ce sl : Nat) (o1 : Int32 × AH × Nat × Nat), BI G (AA h nx) s.heap hc nc H locs → nc = nx + ce → TL out o1 ce sl → lv_has ls 6 [(0, .ref x0), (1, .int x1), (2, .int x2)] → f_X2_bidsAll_7 n E x0 x1 x2 hc nc = some o1 → W p l e (rC (fE + 3) (lE + 63) out.2.2.1 out.2.2.2) s m ([.ref o] : List Value).toArray below meth c H locs ce sl (MQ below (bQ G (some (.int out.1)) True out.2.1 (nx + out.2.2.1) (AA h nx)) ([.ref o] : List Value).toArray s out.2.2.1 out.2.2.2 (AA h nx)) (F0 m 7 ls []) := by
    intro n
    induction n with
    | zero =>
      intro x0 x1 x2 hc nc ls H locs ce sl o1 hB hn hT hl hf
      exact absurd hf (by rw [f_X2_bidsAll_7]; exact nofun)
    | succ n ih =>
      intro x0 x1 x2 hc nc ls H locs ce sl o1 hB hn hT hl hf
      rw [f_X2_bidsAll_7] at hf
      refine lv_iload_n hx hb dX2_bidsAll_7 rfl (lv_at hl 2 rfl) ?_
      refine lv_aload_n hx hb dX2_bidsAll_8 rfl (lv_at hl 0 rfl) ?_
      obtain ⟨v1, hv1, hf⟩ := ob_s hf
      refine bg_X2_3 S hS hB (vR_s hv1) dX2_bidsAll_9 ?_
      obtain ⟨v2, hv2, hf⟩ := ob_s hf
      refine bg_X2_146 S hS hB (vR_s hv2) dX2_bidsAll_12 ?_
      obtain ⟨g3, hf⟩ := gd_t hf
      obtain ⟨v4, hv4, hf⟩ := ob_s hf
      refine mc_X2_149 (fE := fE) (lE := lE) S hS hB g3 hv4 hl.1 ⟨(by show _ ≤ (fE + 3); omega), (by show _ ≤ (lE + 63); omega)⟩ (Nat.le_of_ble_eq_true rfl) ⟨(TL_m hT).1, (TL_m hT).2⟩ dX2_bidsAll_15 (fun _ => ?_)
      refine lv_icmp_ge (tgt := 111) hx hb dX2_bidsAll_18 (by decide) (fun c5 => ?_) (fun c5 => ?_)
      · replace hf := it_t c5 hf
        refine lv_aload_n hx hb dX2_bidsAll_111 rfl (lv_at hl 0 rfl) ?_
        obtain ⟨g6, hf⟩ := gd_t hf
        obtain ⟨v7, hv7, hf⟩ := ob_s hf
        refine mc_X2_286 (fE := fE) (lE := lE) S hS hB g6 hv7 hl.1 ⟨(by show _ ≤ (fE + 3); omega), (by show _ ≤ (lE + 63); omega)⟩ (Nat.le_of_ble_eq_true rfl) ⟨(TL_m hT).1, (TL_m hT).2⟩ dX2_bidsAll_112 (fun _ => ?_)
        refine lv_iload_n hx hb dX2_bidsAll_115 rfl (lv_at hl 1 rfl) ?_
        refine lv_isub hx hb dX2_bidsAll_116 ?_
        have hE9 := TL_e hT hf
        subst hE9
        exact bt_i S hr hlocks hB (by omega) trivial dX2_bidsAll_117
      · replace hf := it_f c5 hf
        refine lv_aload_n hx hb dX2_bidsAll_21 rfl (lv_at hl 0 rfl) ?_
        obtain ⟨v8, hv8, hf⟩ := ob_s hf
        refine bg_X2_34 S hS hB (vR_s hv8) dX2_bidsAll_22 ?_
        refine lv_iload_n hx hb dX2_bidsAll_25 rfl (lv_at hl 2 rfl) ?_
        obtain ⟨v9, hv9, hf⟩ := ob_s hf
        refine b_iald S hS.1 hB hv9 dX2_bidsAll_26 ?_
        refine lv_if_ne (tgt := 43) hx hb dX2_bidsAll_27 (by decide) (fun c10 => ?_) (fun c10 => ?_)
        · replace hf := it_f c10 hf
          refine lv_aload_n hx hb dX2_bidsAll_43 rfl (lv_at hl 0 rfl) ?_
          obtain ⟨v11, hv11, hf⟩ := ob_s hf
          refine bg_X2_34 S hS hB (vR_s hv11) dX2_bidsAll_44 ?_
          refine lv_iload_n hx hb dX2_bidsAll_47 rfl (lv_at hl 2 rfl) ?_
          obtain ⟨v12, hv12, hf⟩ := ob_s hf
          refine b_iald S hS.1 hB hv12 dX2_bidsAll_48 ?_
          refine lv_istore_n (i := 3) (lv' := [(3, .int v12), (0, .ref x0), (1, .int x1), (2, .int x2)]) hx hb dX2_bidsAll_49 rfl hl (by decide) rfl (fun ls hl => ?_)
          refine lv_iconst hx hb dX2_bidsAll_50 kc_i0 ?_
          refine lv_istore (lv' := [(4, .int 0), (3, .int v12), (0, .ref x0), (1, .int x1), (2, .int x2)]) hx hb dX2_bidsAll_51 hl (by decide) rfl (fun ls hl => ?_)
          exact (w53 FU (f_X2_bidsAll_7 n E) (ih)) x0 x1 x2 v12 0 hc nc ls H locs ce sl o1 hB (by omega) hT (lv_sub (l' := [(0, .ref x0), (1, .int x1), (2, .int x2), (3, .int v12), (4, .int 0)]) hl [2, 3, 4, 1, 0] rfl) hf
        · replace hf := it_t c10 hf
          refine lv_aload_n hx hb dX2_bidsAll_30 rfl (lv_at hl 0 rfl) ?_
          obtain ⟨v13, hv13, hf⟩ := ob_s hf
          refine bg_X2_3 S hS hB (vR_s hv13) dX2_bidsAll_31 ?_
          obtain ⟨v14, hv14, hf⟩ := ob_s hf
          refine bg_X2_289 S hS hB (vR_s hv14) dX2_bidsAll_34 ?_
          obtain ⟨g15, hf⟩ := gd_t hf
          obtain ⟨v16, hv16, hf⟩ := ob_s hf
          refine mc_X2_149 (fE := fE) (lE := lE) S hS hB g15 hv16 hl.1 ⟨(by show _ ≤ (fE + 3); omega), (by show _ ≤ (lE + 63); omega)⟩ (Nat.le_of_ble_eq_true rfl) ⟨(TL_m hT).1, (TL_m hT).2⟩ dX2_bidsAll_37 (fun _ => ?_)
          refine lv_goto (tgt := 49) hx hb dX2_bidsAll_40 (by decide) ?_
          refine lv_istore_n (i := 3) (lv' := [(3, .int v16), (0, .ref x0), (1, .int x1), (2, .int x2)]) hx hb dX2_bidsAll_49 rfl hl (by decide) rfl (fun ls hl => ?_)
          refine lv_iconst hx hb dX2_bidsAll_50 kc_i0 ?_
          refine lv_istore (lv' := [(4, .int 0), (3, .int v16), (0, .ref x0), (1, .int x1), (2, .int x2)]) hx hb dX2_bidsAll_51 hl (by decide) rfl (fun ls hl => ?_)
          exact (w53 FU (f_X2_bidsAll_7 n E) (ih)) x0 x1 x2 v16 0 hc nc ls H locs ce sl o1 hB (by omega) hT (lv_sub (l' := [(0, .ref x0), (1, .int x1), (2, .int x2), (3, .int v16), (4, .int 0)]) hl [2, 3, 4, 1, 0] rfl) hf
  have hT : TL out out 0 0 := TL_0
  rw [f_X2_bidsAll] at hf
  refine lv_aload_n hx hb dX2_bidsAll_0 rfl (lv_at hl 0 rfl) ?_
  obtain ⟨g1, hf⟩ := gd_t hf
  obtain ⟨v2, hv2, hf⟩ := ob_s hf
  refine mc_X2_286 (fE := fE) (lE := lE) S hS hB g1 hv2 hl.1 ⟨(by show _ ≤ (fE + 3); omega), (by show _ ≤ (lE + 63); omega)⟩ (Nat.le_of_ble_eq_true rfl) ⟨(TL_m hT).1, (TL_m hT).2⟩ dX2_bidsAll_1 (fun _ => ?_)
  refine lv_istore_n (i := 1) (lv' := [(1, .int v2), (0, .ref o)]) hx hb dX2_bidsAll_4 rfl hl (by decide) rfl (fun ls hl => ?_)
  refine lv_iconst hx hb dX2_bidsAll_5 kc_i0 ?_
  refine lv_istore_n (i := 2) (lv' := [(2, .int 0), (1, .int v2), (0, .ref o)]) hx hb dX2_bidsAll_6 rfl hl (by decide) rfl (fun ls hl => ?_)
  exact (w7 FU) o v2 0 h nx ls s.heap [] 0 0 out hB (by omega) hT (lv_sub (l' := [(0, .ref o), (1, .int v2), (2, .int 0)]) hl [2, 1, 0] rfl) hf
set_option maxRecDepth 100000 in
theorem mc_X1_555 {o : Nat} {out : Int32 × AH × Nat × Nat} (S : CallFix p m c cc nL s args lw_all RX1) (hE : IfOK l G E fE lE) (hS : SK G E.1 hSites A s) (hB : BI G A s.heap h nx H locs) (ho : isO h o 1 = true) (hf : f_X2_bidsAll E h nx o = some out) (hsz : ls.size = nL) (hR : (fE + 3) + 1 ≤ R.frames ∧ 8 + (6 + 11) + (lE + 63) ≤ R.locals) (hW : (rest.map fun v => v.category).sum ≤ 8) (hcs : cells + out.2.2.1 ≤ R.cells ∧ slots + out.2.2.2 ≤ R.slots) (hdg : decode cc pc = .ok (.invokevirtual 555, 3))  (kk : ∀ (H1 : Heap) (locs1 : List Loc), True → BI G A s.heap out.2.1 (nx + out.2.2.1) H1 locs1 → W p l e R s m args below meth c H1 locs1 (cells + out.2.2.1) (slots + out.2.2.2) Q (F0 m (pc + 3) ls (.int out.1 :: rest))) : W p l e R s m args below meth c H locs cells slots Q (F0 m pc ls (.ref o :: rest)) := by
  have hN := hS.2.1
  obtain ⟨fs, he⟩ := isO_s ho
  exact br_w (va_runV (As := []) S (mm_X2_bidsAll hE hf) (cwV 0 S.2.2.2.2 (lw_V q1810 q1403 q1404 q178 q1405) rfl rfl rfl hd_X2_bidsAll hR) (bPreV hS hB (ci := 1) rfl he) rfl rfl hsz rfl (lv_room hW) hdg hcs) hB kk
set_option maxRecDepth 100000 in
theorem mc_X2_334 {o : Nat} {out : Int32 × AH × Nat × Nat} (S : CallFix p m c cc nL s args lw_all RX2) (hE : IfOK l G E fE lE) (hS : SK G E.1 hSites A s) (hB : BI G A s.heap h nx H locs) (ho : isO h o 1 = true) (hf : f_X2_bidsAll E h nx o = some out) (hsz : ls.size = nL) (hR : (fE + 3) + 1 ≤ R.frames ∧ 8 + (6 + 11) + (lE + 63) ≤ R.locals) (hW : (rest.map fun v => v.category).sum ≤ 8) (hcs : cells + out.2.2.1 ≤ R.cells ∧ slots + out.2.2.2 ≤ R.slots) (hdg : decode cc pc = .ok (.invokevirtual 334, 3))  (kk : ∀ (H1 : Heap) (locs1 : List Loc), True → BI G A s.heap out.2.1 (nx + out.2.2.1) H1 locs1 → W p l e R s m args below meth c H1 locs1 (cells + out.2.2.1) (slots + out.2.2.2) Q (F0 m (pc + 3) ls (.int out.1 :: rest))) : W p l e R s m args below meth c H locs cells slots Q (F0 m pc ls (.ref o :: rest)) := by
  have hN := hS.2.1
  obtain ⟨fs, he⟩ := isO_s ho
  exact br_w (va_runV (As := []) S (mm_X2_bidsAll hE hf) (cwV 0 S.2.2.2.2 (lw_V q1402 q1403 q1404 q178 q1405) rfl rfl rfl hd_X2_bidsAll hR) (bPreV hS hB (ci := 1) rfl he) rfl rfl hsz rfl (lv_room hW) hdg hcs) hB kk
theorem hd_X2_nextFor : yX2_nextFor.cls = RX2 ∧ yX2_nextFor.cls ≠ "java/lang/invoke/MethodHandle" ∧ yX2_nextFor.cls ≠ "java/lang/invoke/VarHandle" ∧ (parseMethodDescriptor yX2_nextFor.desc).map (fun d => d.parameters.length) = some 2 := by decide +kernel
set_option maxHeartbeats 4000000 in
set_option maxRecDepth 100000 in
theorem mm_X2_nextFor {o : Nat} {a0 : Int32} {a1 : Int32} {out : Int32 × AH × Nat × Nat} (hE : IfOK l G E fE lE) (hf : f_X2_nextFor E h nx o a0 a1 = some out) : Met l yX2_nextFor (ws_ yX2_nextFor cX2_nextFor 5 (some .int)) (rC (fE + 2) (lE + 63) out.2.2.1 out.2.2.2) (bPc G E.1 hSites h nx [.ref o, .int a0, .int a1]) (bQ G (some (.int out.1)) True out.2.1 (nx + out.2.2.1) (AA h nx)) out.2.2.1 out.2.2.2 (AA h nx) := by
  refine bGo (by decide +kernel) (Nat.le_of_ble_eq_true rfl) (fun p e s m below meth c ls S hr hlocks hin hnm hS hB hl => ?_)
  have S : CallFix p m c cX2_nextFor 5 s _ lw_all RX2 := S
  obtain ⟨hx, hb, hml, hown, hts⟩ := id S
  have hl : lv_has ls 5 [(0, .ref o), (1, .int a0), (2, .int a1)] := hl
  have w5 : ∀ (n : Nat) , ∀ (x0 : Nat) (x1 : Int32) (x2 : Int32) (x3 : Int32) (x4 : Int32) (hc : AH) (nc : Nat) (ls : Array Slot) (H : Heap) (locs : List Loc) (ce sl : Nat) (o1 : Int32 × AH × Nat × Nat), BI G (AA h nx) s.heap hc nc H locs → nc = nx + ce → TL out o1 ce sl → lv_has ls 5 [(0, .ref x0), (1, .int x1), (2, .int x2), (3, .int x3), (4, .int x4)] → f_X2_nextFor_5 n E x0 x1 x2 x3 x4 hc nc = some o1 → W p l e (rC (fE + 2) (lE + 63) out.2.2.1 out.2.2.2) s m ([.ref o, .int a0, .int a1] : List Value).toArray below meth c H locs ce sl (MQ below (bQ G (some (.int out.1)) True out.2.1 (nx + out.2.2.1) (AA h nx)) ([.ref o, .int a0, .int a1] : List Value).toArray s out.2.2.1 out.2.2.2 (AA h nx)) (F0 m 5 ls []) := by
    intro n
    induction n with
    | zero =>
      intro x0 x1 x2 x3 x4 hc nc ls H locs ce sl o1 hB hn hT hl hf
      exact absurd hf (by rw [f_X2_nextFor_5]; exact nofun)
    | succ n ih =>
      intro x0 x1 x2 x3 x4 hc nc ls H locs ce sl o1 hB hn hT hl hf
      rw [f_X2_nextFor_5] at hf
      refine lv_iload hx hb dX2_nextFor_5 (lv_at hl 4 rfl) ?_
      refine lv_aload_n hx hb dX2_nextFor_7 rfl (lv_at hl 0 rfl) ?_
      obtain ⟨v1, hv1, hf⟩ := ob_s hf
      refine bg_X2_3 S hS hB (vR_s hv1) dX2_nextFor_8 ?_
      obtain ⟨v2, hv2, hf⟩ := ob_s hf
      refine bg_X2_146 S hS hB (vR_s hv2) dX2_nextFor_11 ?_
      obtain ⟨g3, hf⟩ := gd_t hf
      obtain ⟨v4, hv4, hf⟩ := ob_s hf
      refine mc_X2_149 (fE := fE) (lE := lE) S hS hB g3 hv4 hl.1 ⟨(by show _ ≤ (fE + 2); omega), (by show _ ≤ (lE + 63); omega)⟩ (Nat.le_of_ble_eq_true rfl) ⟨(TL_m hT).1, (TL_m hT).2⟩ dX2_nextFor_14 (fun _ => ?_)
      refine lv_icmp_ge (tgt := 72) hx hb dX2_nextFor_17 (by decide) (fun c5 => ?_) (fun c5 => ?_)
      · replace hf := it_t c5 hf
        refine lv_iload_n hx hb dX2_nextFor_72 rfl (lv_at hl 3 rfl) ?_
        have hE9 := TL_e hT hf
        subst hE9
        exact bt_i S hr hlocks hB (by omega) trivial dX2_nextFor_73
      · replace hf := it_f c5 hf
        refine lv_aload_n hx hb dX2_nextFor_20 rfl (lv_at hl 0 rfl) ?_
        refine lv_iload hx hb dX2_nextFor_21 (lv_at hl 4 rfl) ?_
        refine lv_iload_n hx hb dX2_nextFor_23 rfl (lv_at hl 1 rfl) ?_
        obtain ⟨g6, hf⟩ := gd_t hf
        obtain ⟨v7, hv7, hf⟩ := ob_s hf
        refine mc_X2_271 (fE := fE) (lE := lE) S hS hB g6 hv7 hl.1 ⟨(by show _ ≤ (fE + 2); omega), (by show _ ≤ (lE + 63); omega)⟩ (Nat.le_of_ble_eq_true rfl) ⟨(TL_m hT).1, (TL_m hT).2⟩ dX2_nextFor_24 (fun hnv7 => ?_)
        refine lv_if_eq (tgt := 66) hx hb dX2_nextFor_27 (by decide) (fun c8 => ?_) (fun c8 => ?_)
        · replace hf := it_t c8 hf
          refine lv_iinc (v := (x4 + 1)) (lv' := [(4, .int (x4 + 1)), (0, .ref x0), (1, .int x1), (2, .int x2), (3, .int x3)]) hx hb dX2_nextFor_66 hl (k := 4) rfl rfl (by decide) rfl (fun ls hl => ?_)
          refine lv_goto (tgt := 5) hx hb dX2_nextFor_69 (by decide) ?_
          exact (ih) x0 x1 x2 x3 (x4 + 1) hc nc ls H locs ce sl o1 hB (by omega) hT (lv_sub (l' := [(0, .ref x0), (1, .int x1), (2, .int x2), (3, .int x3), (4, .int (x4 + 1))]) hl [1, 2, 3, 4, 0] rfl) hf
        · replace hf := it_f c8 hf
          refine lv_aload_n hx hb dX2_nextFor_30 rfl (lv_at hl 0 rfl) ?_
          refine lv_iload hx hb dX2_nextFor_31 (lv_at hl 4 rfl) ?_
          obtain ⟨g9, hf⟩ := gd_t hf
          obtain ⟨v10, hv10, hf⟩ := ob_s hf
          refine mc_X2_183 (fE := fE) (lE := lE) S hS hB g9 hv10 hl.1 ⟨(by show _ ≤ (fE + 2); omega), (by show _ ≤ (lE + 63); omega)⟩ (Nat.le_of_ble_eq_true rfl) ⟨(TL_m hT).1, (TL_m hT).2⟩ dX2_nextFor_33 (fun hnv10 => ?_)
          refine lv_if_eq (tgt := 66) hx hb dX2_nextFor_36 (by decide) (fun c11 => ?_) (fun c11 => ?_)
          · replace hf := it_t c11 hf
            refine lv_iinc (v := (x4 + 1)) (lv' := [(4, .int (x4 + 1)), (0, .ref x0), (1, .int x1), (2, .int x2), (3, .int x3)]) hx hb dX2_nextFor_66 hl (k := 4) rfl rfl (by decide) rfl (fun ls hl => ?_)
            refine lv_goto (tgt := 5) hx hb dX2_nextFor_69 (by decide) ?_
            exact (ih) x0 x1 x2 x3 (x4 + 1) hc nc ls H locs ce sl o1 hB (by omega) hT (lv_sub (l' := [(0, .ref x0), (1, .int x1), (2, .int x2), (3, .int x3), (4, .int (x4 + 1))]) hl [1, 2, 3, 4, 0] rfl) hf
          · replace hf := it_f c11 hf
            refine lv_iload_n hx hb dX2_nextFor_39 rfl (lv_at hl 2 rfl) ?_
            refine lv_iload hx hb dX2_nextFor_40 (lv_at hl 4 rfl) ?_
            refine lv_ishr hx hb dX2_nextFor_42 ?_
            refine lv_iconst hx hb dX2_nextFor_43 kc_i1 ?_
            refine lv_iand hx hb dX2_nextFor_44 ?_
            refine lv_if_ne (tgt := 66) hx hb dX2_nextFor_45 (by decide) (fun c12 => ?_) (fun c12 => ?_)
            · replace hf := it_f c12 hf
              refine lv_iinc (v := (x4 + 1)) (lv' := [(4, .int (x4 + 1)), (0, .ref x0), (1, .int x1), (2, .int x2), (3, .int x3)]) hx hb dX2_nextFor_66 hl (k := 4) rfl rfl (by decide) rfl (fun ls hl => ?_)
              refine lv_goto (tgt := 5) hx hb dX2_nextFor_69 (by decide) ?_
              exact (ih) x0 x1 x2 x3 (x4 + 1) hc nc ls H locs ce sl o1 hB (by omega) hT (lv_sub (l' := [(0, .ref x0), (1, .int x1), (2, .int x2), (3, .int x3), (4, .int (x4 + 1))]) hl [1, 2, 3, 4, 0] rfl) hf
            · replace hf := it_t c12 hf
              refine lv_iload_n hx hb dX2_nextFor_48 rfl (lv_at hl 3 rfl) ?_
              refine lv_if_lt (tgt := 63) hx hb dX2_nextFor_49 (by decide) (fun c13 => ?_) (fun c13 => ?_)
              · replace hf := it_t c13 hf
                refine lv_iload hx hb dX2_nextFor_63 (lv_at hl 4 rfl) ?_
                refine lv_istore_n (i := 3) (lv' := [(3, .int x4), (0, .ref x0), (1, .int x1), (2, .int x2), (4, .int x4)]) hx hb dX2_nextFor_65 rfl hl (by decide) rfl (fun ls hl => ?_)
                refine lv_iinc (v := (x4 + 1)) (lv' := [(4, .int (x4 + 1)), (3, .int x4), (0, .ref x0), (1, .int x1), (2, .int x2)]) hx hb dX2_nextFor_66 hl (k := 4) rfl rfl (by decide) rfl (fun ls hl => ?_)
                refine lv_goto (tgt := 5) hx hb dX2_nextFor_69 (by decide) ?_
                exact (ih) x0 x1 x2 x4 (x4 + 1) hc nc ls H locs ce sl o1 hB (by omega) hT (lv_sub (l' := [(0, .ref x0), (1, .int x1), (2, .int x2), (3, .int x4), (4, .int (x4 + 1))]) hl [2, 3, 4, 1, 0] rfl) hf
              · replace hf := it_f c13 hf
                refine lv_aload_n hx hb dX2_nextFor_52 rfl (lv_at hl 0 rfl) ?_
                refine lv_iload_n hx hb dX2_nextFor_53 rfl (lv_at hl 1 rfl) ?_
                refine lv_iload hx hb dX2_nextFor_54 (lv_at hl 4 rfl) ?_
                refine lv_iload_n hx hb dX2_nextFor_56 rfl (lv_at hl 3 rfl) ?_
                obtain ⟨g14, hf⟩ := gd_t hf
                obtain ⟨v15, hv15, hf⟩ := ob_s hf
                obtain ⟨o16, hf, hT⟩ := TL_c hT hf
                refine mc_X2_267 (fE := fE) (lE := lE) S hE hS hB g14 hv15 hl.1 ⟨(by show _ ≤ (fE + 2); omega), (by show _ ≤ (lE + 63); omega)⟩ (Nat.le_of_ble_eq_true rfl) ⟨(TL_m hT).1, (TL_m hT).2⟩ dX2_nextFor_57 (fun H locs _ hB => ?_)
                refine lv_if_ge (tgt := 66) hx hb dX2_nextFor_60 (by decide) (fun c17 => ?_) (fun c17 => ?_)
                · replace hf := it_t c17 hf
                  refine lv_iinc (v := (x4 + 1)) (lv' := [(4, .int (x4 + 1)), (0, .ref x0), (1, .int x1), (2, .int x2), (3, .int x3)]) hx hb dX2_nextFor_66 hl (k := 4) rfl rfl (by decide) rfl (fun ls hl => ?_)
                  refine lv_goto (tgt := 5) hx hb dX2_nextFor_69 (by decide) ?_
                  exact (ih) x0 x1 x2 x3 (x4 + 1) v15.2.1 (nc + v15.2.2.1) ls H locs (ce + v15.2.2.1) (sl + v15.2.2.2) o16 hB (by omega) hT (lv_sub (l' := [(0, .ref x0), (1, .int x1), (2, .int x2), (3, .int x3), (4, .int (x4 + 1))]) hl [1, 2, 3, 4, 0] rfl) hf
                · replace hf := it_f c17 hf
                  refine lv_iload hx hb dX2_nextFor_63 (lv_at hl 4 rfl) ?_
                  refine lv_istore_n (i := 3) (lv' := [(3, .int x4), (0, .ref x0), (1, .int x1), (2, .int x2), (4, .int x4)]) hx hb dX2_nextFor_65 rfl hl (by decide) rfl (fun ls hl => ?_)
                  refine lv_iinc (v := (x4 + 1)) (lv' := [(4, .int (x4 + 1)), (3, .int x4), (0, .ref x0), (1, .int x1), (2, .int x2)]) hx hb dX2_nextFor_66 hl (k := 4) rfl rfl (by decide) rfl (fun ls hl => ?_)
                  refine lv_goto (tgt := 5) hx hb dX2_nextFor_69 (by decide) ?_
                  exact (ih) x0 x1 x2 x4 (x4 + 1) v15.2.1 (nc + v15.2.2.1) ls H locs (ce + v15.2.2.1) (sl + v15.2.2.2) o16 hB (by omega) hT (lv_sub (l' := [(0, .ref x0), (1, .int x1), (2, .int x2), (3, .int x4), (4, .int (x4 + 1))]) hl [2, 3, 4, 1, 0] rfl) hf
  have hT : TL out out 0 0 := TL_0
  rw [f_X2_nextFor] at hf
  refine lv_iconst hx hb dX2_nextFor_0 kc_im1 ?_
  refine lv_istore_n (i := 3) (lv' := [(3, .int (-1)), (0, .ref o), (1, .int a0), (2, .int a1)]) hx hb dX2_nextFor_1 rfl hl (by decide) rfl (fun ls hl => ?_)
  refine lv_iconst hx hb dX2_nextFor_2 kc_i0 ?_
  refine lv_istore (lv' := [(4, .int 0), (3, .int (-1)), (0, .ref o), (1, .int a0), (2, .int a1)]) hx hb dX2_nextFor_3 hl (by decide) rfl (fun ls hl => ?_)
  exact (w5 FU) o a0 a1 (-1) 0 h nx ls s.heap [] 0 0 out hB (by omega) hT (lv_sub (l' := [(0, .ref o), (1, .int a0), (2, .int a1), (3, .int (-1)), (4, .int 0)]) hl [2, 3, 4, 1, 0] rfl) hf
set_option maxRecDepth 100000 in
theorem mc_X2_321 {o : Nat} {a0 : Int32} {a1 : Int32} {out : Int32 × AH × Nat × Nat} (S : CallFix p m c cc nL s args lw_all RX2) (hE : IfOK l G E fE lE) (hS : SK G E.1 hSites A s) (hB : BI G A s.heap h nx H locs) (ho : isO h o 1 = true) (hf : f_X2_nextFor E h nx o a0 a1 = some out) (hsz : ls.size = nL) (hR : (fE + 2) + 1 ≤ R.frames ∧ 8 + (5 + 11) + (lE + 63) ≤ R.locals) (hW : (rest.map fun v => v.category).sum ≤ 8) (hcs : cells + out.2.2.1 ≤ R.cells ∧ slots + out.2.2.2 ≤ R.slots) (hdg : decode cc pc = .ok (.invokevirtual 321, 3))  (kk : ∀ (H1 : Heap) (locs1 : List Loc), True → BI G A s.heap out.2.1 (nx + out.2.2.1) H1 locs1 → W p l e R s m args below meth c H1 locs1 (cells + out.2.2.1) (slots + out.2.2.2) Q (F0 m (pc + 3) ls (.int out.1 :: rest))) : W p l e R s m args below meth c H locs cells slots Q (F0 m pc ls (.int a1 :: .int a0 :: .ref o :: rest)) := by
  have hN := hS.2.1
  obtain ⟨fs, he⟩ := isO_s ho
  exact br_w (va_runV (As := [.int a0, .int a1]) S (mm_X2_nextFor hE hf) (cwV 2 S.2.2.2.2 (lw_V q1423 q1425 qs54 q178 q1426) rfl rfl rfl hd_X2_nextFor hR) (bPreV hS hB (ci := 1) rfl he) rfl rfl hsz rfl (lv_room hW) hdg hcs) hB kk
theorem hd_X2_wouldTake : yX2_wouldTake.cls = RX2 ∧ yX2_wouldTake.cls ≠ "java/lang/invoke/MethodHandle" ∧ yX2_wouldTake.cls ≠ "java/lang/invoke/VarHandle" ∧ (parseMethodDescriptor yX2_wouldTake.desc).map (fun d => d.parameters.length) = some 2 := by decide +kernel
set_option maxHeartbeats 4000000 in
set_option maxRecDepth 100000 in
theorem mm_X2_wouldTake {o : Nat} {a0 : Int32} {a1 : Int32} {out : Int32} (hf : f_X2_wouldTake E h o a0 a1 = some out) : Met l yX2_wouldTake (ws_ yX2_wouldTake cX2_wouldTake 3 (some .boolean)) (rM (fE + 2) (lE + 45)) (bPc G E.1 hSites h nx [.ref o, .int a0, .int a1]) (gR (some (.int out)) (narrow .boolean (.int out) = .int out)) 0 0 (fun _ => False) := by
  refine bGo (by decide +kernel) (Nat.le_of_ble_eq_true rfl) (fun p e s m below meth c ls S hr hlocks hin hnm hS hB hl => ?_)
  have S : CallFix p m c cX2_wouldTake 3 s _ lw_all RX2 := S
  obtain ⟨hx, hb, hml, hown, hts⟩ := id S
  have hl : lv_has ls 3 [(0, .ref o), (1, .int a0), (2, .int a1)] := hl
  rw [f_X2_wouldTake] at hf
  refine lv_aload_n hx hb dX2_wouldTake_0 rfl (lv_at hl 0 rfl) ?_
  obtain ⟨v1, hv1, hf⟩ := ob_s hf
  refine bg_X2_34 S hS hB (vR_s hv1) dX2_wouldTake_1 ?_
  refine lv_iload_n hx hb dX2_wouldTake_4 rfl (lv_at hl 1 rfl) ?_
  obtain ⟨v2, hv2, hf⟩ := ob_s hf
  refine b_iald S hS.1 hB hv2 dX2_wouldTake_5 ?_
  refine lv_if_eq (tgt := 18) hx hb dX2_wouldTake_6 (by decide) (fun c3 => ?_) (fun c3 => ?_)
  · replace hf := it_t c3 hf
    refine lv_iconst hx hb dX2_wouldTake_18 kc_i1 ?_
    refine lv_goto (tgt := 23) hx hb dX2_wouldTake_19 (by decide) ?_
    have hE9 := Option.some.inj hf
    subst hE9
    exact gt_rz S hr hlocks nb1 dX2_wouldTake_23
  · replace hf := it_f c3 hf
    refine lv_aload_n hx hb dX2_wouldTake_9 rfl (lv_at hl 0 rfl) ?_
    refine lv_iload_n hx hb dX2_wouldTake_10 rfl (lv_at hl 1 rfl) ?_
    refine lv_iload_n hx hb dX2_wouldTake_11 rfl (lv_at hl 2 rfl) ?_
    obtain ⟨g4, hf⟩ := gd_t hf
    obtain ⟨v5, hv5, hf⟩ := ob_s hf
    refine mc_X2_179 (fE := fE) (lE := lE) S hS hB g4 hv5 hl.1 ⟨(by show _ ≤ (fE + 2); omega), (by show _ ≤ (lE + 45); omega)⟩ (Nat.le_of_ble_eq_true rfl) ⟨Nat.zero_le _, Nat.zero_le _⟩ dX2_wouldTake_12 (fun hnv5 => ?_)
    refine lv_if_eq (tgt := 22) hx hb dX2_wouldTake_15 (by decide) (fun c6 => ?_) (fun c6 => ?_)
    · replace hf := it_t c6 hf
      refine lv_iconst hx hb dX2_wouldTake_22 kc_i0 ?_
      have hE9 := Option.some.inj hf
      subst hE9
      exact gt_rz S hr hlocks nb0 dX2_wouldTake_23
    · replace hf := it_f c6 hf
      refine lv_iconst hx hb dX2_wouldTake_18 kc_i1 ?_
      refine lv_goto (tgt := 23) hx hb dX2_wouldTake_19 (by decide) ?_
      have hE9 := Option.some.inj hf
      subst hE9
      exact gt_rz S hr hlocks nb1 dX2_wouldTake_23
set_option maxRecDepth 100000 in
theorem mc_X1_622 {o : Nat} {a0 : Int32} {a1 : Int32} {out : Int32} (S : CallFix p m c cc nL s args lw_all RX1) (hS : SK G E.1 hSites A s) (hB : BI G A s.heap h nx H locs) (ho : isO h o 1 = true) (hf : f_X2_wouldTake E h o a0 a1 = some out) (hsz : ls.size = nL) (hR : (fE + 2) + 1 ≤ R.frames ∧ 8 + (3 + 11) + (lE + 45) ≤ R.locals) (hW : (rest.map fun v => v.category).sum ≤ 8) (hcs : cells ≤ R.cells ∧ slots ≤ R.slots) (hdg : decode cc pc = .ok (.invokevirtual 622, 3))  (kk : (narrow .boolean (.int out) = .int out) → W p l e R s m args below meth c H locs cells slots Q (F0 m (pc + 3) ls (.int out :: rest))) : W p l e R s m args below meth c H locs cells slots Q (F0 m pc ls (.int a1 :: .int a0 :: .ref o :: rest)) := by
  have hN := hS.2.1
  obtain ⟨fs, he⟩ := isO_s ho
  exact br_r (va_runV (As := [.int a0, .int a1]) S (mm_X2_wouldTake (l := l) (G := G) (nx := nx) (fE := fE) (lE := lE) hf) (cwV 2 S.2.2.2.2 (lw_V q1574 q1433 q1434 q178 q1435) rfl rfl rfl hd_X2_wouldTake hR) (bPreV hS hB (ci := 1) rfl he) rfl rfl hsz rfl (lv_room hW) hdg hcs) kk
set_option maxRecDepth 100000 in
theorem mc_X2_190 {o : Nat} {a0 : Int32} {a1 : Int32} {out : Int32} (S : CallFix p m c cc nL s args lw_all RX2) (hS : SK G E.1 hSites A s) (hB : BI G A s.heap h nx H locs) (ho : isO h o 1 = true) (hf : f_X2_wouldTake E h o a0 a1 = some out) (hsz : ls.size = nL) (hR : (fE + 2) + 1 ≤ R.frames ∧ 8 + (3 + 11) + (lE + 45) ≤ R.locals) (hW : (rest.map fun v => v.category).sum ≤ 8) (hcs : cells ≤ R.cells ∧ slots ≤ R.slots) (hdg : decode cc pc = .ok (.invokevirtual 190, 3))  (kk : (narrow .boolean (.int out) = .int out) → W p l e R s m args below meth c H locs cells slots Q (F0 m (pc + 3) ls (.int out :: rest))) : W p l e R s m args below meth c H locs cells slots Q (F0 m pc ls (.int a1 :: .int a0 :: .ref o :: rest)) := by
  have hN := hS.2.1
  obtain ⟨fs, he⟩ := isO_s ho
  exact br_r (va_runV (As := [.int a0, .int a1]) S (mm_X2_wouldTake (l := l) (G := G) (nx := nx) (fE := fE) (lE := lE) hf) (cwV 2 S.2.2.2.2 (lw_V q1432 q1433 q1434 q178 q1435) rfl rfl rfl hd_X2_wouldTake hR) (bPreV hS hB (ci := 1) rfl he) rfl rfl hsz rfl (lv_room hW) hdg hcs) kk
theorem hd_X2_refuses : yX2_refuses.cls = RX2 ∧ yX2_refuses.cls ≠ "java/lang/invoke/MethodHandle" ∧ yX2_refuses.cls ≠ "java/lang/invoke/VarHandle" ∧ (parseMethodDescriptor yX2_refuses.desc).map (fun d => d.parameters.length) = some 1 := by decide +kernel
set_option maxHeartbeats 4000000 in
set_option maxRecDepth 100000 in
theorem mm_X2_refuses {o : Nat} {a0 : Int32} {out : Unit × AH × Nat × Nat} (hf : f_X2_refuses E h nx o a0 = some out) : Met l yX2_refuses (ws_ yX2_refuses cX2_refuses 2 none) (rC (fE + 0) (lE + 0) out.2.2.1 out.2.2.2) (bPc G E.1 hSites h nx [.ref o, .int a0]) (bQ G none True out.2.1 (nx + out.2.2.1) (AA h nx)) out.2.2.1 out.2.2.2 (AA h nx) := by
  refine bGo (by decide +kernel) (Nat.le_of_ble_eq_true rfl) (fun p e s m below meth c ls S hr hlocks hin hnm hS hB hl => ?_)
  have S : CallFix p m c cX2_refuses 2 s _ lw_all RX2 := S
  obtain ⟨hx, hb, hml, hown, hts⟩ := id S
  have hl : lv_has ls 2 [(0, .ref o), (1, .int a0)] := hl
  have hT : TL out out 0 0 := TL_0
  rw [f_X2_refuses] at hf
  refine lv_aload_n hx hb dX2_refuses_0 rfl (lv_at hl 0 rfl) ?_
  refine lv_dup hx hb dX2_refuses_1 rfl ?_
  obtain ⟨v1, hv1, hf⟩ := ob_s hf
  refine bg_X2_142 S hS hB (vI_s hv1) dX2_refuses_2 ?_
  refine lv_iconst hx hb dX2_refuses_5 kc_i1 ?_
  refine lv_iadd hx hb dX2_refuses_6 ?_
  obtain ⟨h2, hh2, hf⟩ := ob_s hf
  refine bp_X2_142 S hS hB hh2 dX2_refuses_7 (fun H locs hB => ?_)
  refine lv_aload_n hx hb dX2_refuses_10 rfl (lv_at hl 0 rfl) ?_
  obtain ⟨v3, hv3, hf⟩ := ob_s hf
  refine bg_X2_22 S hS hB (vR_s hv3) dX2_refuses_11 ?_
  refine lv_iload_n hx hb dX2_refuses_14 rfl (lv_at hl 1 rfl) ?_
  refine lv_dup2_11 hx hb dX2_refuses_15 rfl rfl ?_
  obtain ⟨v4, hv4, hf⟩ := ob_s hf
  refine b_iald S hS.1 hB hv4 dX2_refuses_16 ?_
  refine lv_iconst hx hb dX2_refuses_17 kc_i1 ?_
  refine lv_iadd hx hb dX2_refuses_18 ?_
  obtain ⟨h5, hh5, hf⟩ := ob_s hf
  refine b_iast S hS.1 hB hh5 dX2_refuses_19 (fun H locs hB => ?_)
  refine lv_aload_n hx hb dX2_refuses_20 rfl (lv_at hl 0 rfl) ?_
  obtain ⟨v6, hv6, hf⟩ := ob_s hf
  refine bg_X2_22 S hS hB (vR_s hv6) dX2_refuses_21 ?_
  refine lv_iload_n hx hb dX2_refuses_24 rfl (lv_at hl 1 rfl) ?_
  obtain ⟨v7, hv7, hf⟩ := ob_s hf
  refine b_iald S hS.1 hB hv7 dX2_refuses_25 ?_
  refine lv_aload_n hx hb dX2_refuses_26 rfl (lv_at hl 0 rfl) ?_
  obtain ⟨v8, hv8, hf⟩ := ob_s hf
  refine bg_X2_15 S hS hB (vR_s hv8) dX2_refuses_27 ?_
  refine lv_iconst hx hb dX2_refuses_30 kc_i0 ?_
  obtain ⟨v9, hv9, hf⟩ := ob_s hf
  refine b_iald S hS.1 hB hv9 dX2_refuses_31 ?_
  refine lv_icmp_ge (tgt := 36) hx hb dX2_refuses_32 (by decide) (fun c10 => ?_) (fun c10 => ?_)
  · replace hf := it_t c10 hf
    refine lv_aload_n hx hb dX2_refuses_36 rfl (lv_at hl 0 rfl) ?_
    obtain ⟨v11, hv11, hf⟩ := ob_s hf
    refine bg_X2_22 S hS hB (vR_s hv11) dX2_refuses_37 ?_
    refine lv_iload_n hx hb dX2_refuses_40 rfl (lv_at hl 1 rfl) ?_
    refine lv_iconst hx hb dX2_refuses_41 kc_i0 ?_
    obtain ⟨h12, hh12, hf⟩ := ob_s hf
    refine b_iast S hS.1 hB hh12 dX2_refuses_42 (fun H locs hB => ?_)
    refine lv_aload_n hx hb dX2_refuses_43 rfl (lv_at hl 0 rfl) ?_
    obtain ⟨v13, hv13, hf⟩ := ob_s hf
    refine bg_X2_25 S hS hB (vR_s hv13) dX2_refuses_44 ?_
    refine lv_iload_n hx hb dX2_refuses_47 rfl (lv_at hl 1 rfl) ?_
    refine lv_aload_n hx hb dX2_refuses_48 rfl (lv_at hl 0 rfl) ?_
    obtain ⟨v14, hv14, hf⟩ := ob_s hf
    refine bg_X2_15 S hS hB (vR_s hv14) dX2_refuses_49 ?_
    refine lv_iconst hx hb dX2_refuses_52 kc_i1 ?_
    obtain ⟨v15, hv15, hf⟩ := ob_s hf
    refine b_iald S hS.1 hB hv15 dX2_refuses_53 ?_
    obtain ⟨h16, hh16, hf⟩ := ob_s hf
    refine b_iast S hS.1 hB hh16 dX2_refuses_54 (fun H locs hB => ?_)
    refine lv_aload_n hx hb dX2_refuses_55 rfl (lv_at hl 0 rfl) ?_
    obtain ⟨v17, hv17, hf⟩ := ob_s hf
    refine bg_X2_59 S hS hB (vR_s hv17) dX2_refuses_56 ?_
    refine lv_iload_n hx hb dX2_refuses_59 rfl (lv_at hl 1 rfl) ?_
    refine lv_iconst hx hb dX2_refuses_60 kc_i1 ?_
    obtain ⟨h18, hh18, hf⟩ := ob_s hf
    refine b_zast S hS.1 hB hh18 dX2_refuses_61 (fun H locs hB => ?_)
    have hE9 := TL_e hT hf
    subst hE9
    exact bt_v S hr hlocks hB (by omega) trivial dX2_refuses_62
  · replace hf := it_f c10 hf
    have hE9 := TL_e hT hf
    subst hE9
    exact bt_v S hr hlocks hB (by omega) trivial dX2_refuses_35
set_option maxRecDepth 100000 in
theorem mc_X2_309 {o : Nat} {a0 : Int32} {out : Unit × AH × Nat × Nat} (S : CallFix p m c cc nL s args lw_all RX2) (hS : SK G E.1 hSites A s) (hB : BI G A s.heap h nx H locs) (ho : isO h o 1 = true) (hf : f_X2_refuses E h nx o a0 = some out) (hsz : ls.size = nL) (hR : (fE + 0) + 1 ≤ R.frames ∧ 8 + (2 + 11) + (lE + 0) ≤ R.locals) (hW : (rest.map fun v => v.category).sum ≤ 8) (hcs : cells + out.2.2.1 ≤ R.cells ∧ slots + out.2.2.2 ≤ R.slots) (hdg : decode cc pc = .ok (.invokevirtual 309, 3))  (kk : ∀ (H1 : Heap) (locs1 : List Loc), True → BI G A s.heap out.2.1 (nx + out.2.2.1) H1 locs1 → W p l e R s m args below meth c H1 locs1 (cells + out.2.2.1) (slots + out.2.2.2) Q (F0 m (pc + 3) ls (rest))) : W p l e R s m args below meth c H locs cells slots Q (F0 m pc ls (.int a0 :: .ref o :: rest)) := by
  have hN := hS.2.1
  obtain ⟨fs, he⟩ := isO_s ho
  exact br_v (va_runV (As := [.int a0]) S (mm_X2_refuses (l := l) (G := G) (fE := fE) (lE := lE) hf) (cwV 1 S.2.2.2.2 (lw_V q1494 q1496 qs58 q178 q1497) rfl rfl rfl hd_X2_refuses hR) (bPreV hS hB (ci := 1) rfl he) rfl rfl hsz rfl (lv_room hW) hdg hcs) hB kk
theorem hd_X2_frees : yX2_frees.cls = RX2 ∧ yX2_frees.cls ≠ "java/lang/invoke/MethodHandle" ∧ yX2_frees.cls ≠ "java/lang/invoke/VarHandle" ∧ (parseMethodDescriptor yX2_frees.desc).map (fun d => d.parameters.length) = some 2 := by decide +kernel
set_option maxHeartbeats 4000000 in
set_option maxRecDepth 100000 in
theorem mm_X2_frees {o : Nat} {a0 : Int32} {a1 : Int32} {out : Unit × AH × Nat × Nat} (hf : f_X2_frees E h nx o a0 a1 = some out) : Met l yX2_frees (ws_ yX2_frees cX2_frees 3 none) (rC (fE + 0) (lE + 0) out.2.2.1 out.2.2.2) (bPc G E.1 hSites h nx [.ref o, .int a0, .int a1]) (bQ G none True out.2.1 (nx + out.2.2.1) (AA h nx)) out.2.2.1 out.2.2.2 (AA h nx) := by
  refine bGo (by decide +kernel) (Nat.le_of_ble_eq_true rfl) (fun p e s m below meth c ls S hr hlocks hin hnm hS hB hl => ?_)
  have S : CallFix p m c cX2_frees 3 s _ lw_all RX2 := S
  obtain ⟨hx, hb, hml, hown, hts⟩ := id S
  have hl : lv_has ls 3 [(0, .ref o), (1, .int a0), (2, .int a1)] := hl
  have hT : TL out out 0 0 := TL_0
  rw [f_X2_frees] at hf
  refine lv_aload_n hx hb dX2_frees_0 rfl (lv_at hl 0 rfl) ?_
  obtain ⟨v1, hv1, hf⟩ := ob_s hf
  refine bg_X2_40 S hS hB (vR_s hv1) dX2_frees_1 ?_
  refine lv_iload_n hx hb dX2_frees_4 rfl (lv_at hl 1 rfl) ?_
  refine lv_aload_n hx hb dX2_frees_5 rfl (lv_at hl 0 rfl) ?_
  obtain ⟨v2, hv2, hf⟩ := ob_s hf
  refine bg_X2_138 S hS hB (vI_s hv2) dX2_frees_6 ?_
  refine lv_iconst hx hb dX2_frees_9 kc_i1 ?_
  refine lv_iadd hx hb dX2_frees_10 ?_
  obtain ⟨h3, hh3, hf⟩ := ob_s hf
  refine b_iast S hS.1 hB hh3 dX2_frees_11 (fun H locs hB => ?_)
  refine lv_aload_n hx hb dX2_frees_12 rfl (lv_at hl 0 rfl) ?_
  obtain ⟨v4, hv4, hf⟩ := ob_s hf
  refine bg_X2_43 S hS hB (vR_s hv4) dX2_frees_13 ?_
  refine lv_iload_n hx hb dX2_frees_16 rfl (lv_at hl 1 rfl) ?_
  refine lv_iload_n hx hb dX2_frees_17 rfl (lv_at hl 2 rfl) ?_
  obtain ⟨h5, hh5, hf⟩ := ob_s hf
  refine b_iast S hS.1 hB hh5 dX2_frees_18 (fun H locs hB => ?_)
  have hE9 := TL_e hT hf
  subst hE9
  exact bt_v S hr hlocks hB (by omega) trivial dX2_frees_19
set_option maxRecDepth 100000 in
theorem mc_X2_318 {o : Nat} {a0 : Int32} {a1 : Int32} {out : Unit × AH × Nat × Nat} (S : CallFix p m c cc nL s args lw_all RX2) (hS : SK G E.1 hSites A s) (hB : BI G A s.heap h nx H locs) (ho : isO h o 1 = true) (hf : f_X2_frees E h nx o a0 a1 = some out) (hsz : ls.size = nL) (hR : (fE + 0) + 1 ≤ R.frames ∧ 8 + (3 + 11) + (lE + 0) ≤ R.locals) (hW : (rest.map fun v => v.category).sum ≤ 8) (hcs : cells + out.2.2.1 ≤ R.cells ∧ slots + out.2.2.2 ≤ R.slots) (hdg : decode cc pc = .ok (.invokevirtual 318, 3))  (kk : ∀ (H1 : Heap) (locs1 : List Loc), True → BI G A s.heap out.2.1 (nx + out.2.2.1) H1 locs1 → W p l e R s m args below meth c H1 locs1 (cells + out.2.2.1) (slots + out.2.2.2) Q (F0 m (pc + 3) ls (rest))) : W p l e R s m args below meth c H locs cells slots Q (F0 m pc ls (.int a1 :: .int a0 :: .ref o :: rest)) := by
  have hN := hS.2.1
  obtain ⟨fs, he⟩ := isO_s ho
  exact br_v (va_runV (As := [.int a0, .int a1]) S (mm_X2_frees (l := l) (G := G) (fE := fE) (lE := lE) hf) (cwV 2 S.2.2.2.2 (lw_V q1490 q1492 qs57 q178 q1493) rfl rfl rfl hd_X2_frees hR) (bPreV hS hB (ci := 1) rfl he) rfl rfl hsz rfl (lv_room hW) hdg hcs) hB kk
theorem hd_X2_lets : yX2_lets.cls = RX2 ∧ yX2_lets.cls ≠ "java/lang/invoke/MethodHandle" ∧ yX2_lets.cls ≠ "java/lang/invoke/VarHandle" ∧ (parseMethodDescriptor yX2_lets.desc).map (fun d => d.parameters.length) = some 5 := by decide +kernel
set_option maxHeartbeats 4000000 in
set_option maxRecDepth 100000 in
theorem mm_X2_lets {o : Nat} {a0 : Int32} {a1 : Int32} {a2 : Int32} {a3 : Int32} {a4 : Int32} {out : Unit × AH × Nat × Nat} (hf : f_X2_lets E h nx o a0 a1 a2 a3 a4 = some out) : Met l yX2_lets (ws_ yX2_lets cX2_lets 9 none) (rC (fE + 7) (lE + 251) out.2.2.1 out.2.2.2) (bPc G E.1 hSites h nx [.ref o, .int a0, .int a1, .int a2, .int a3, .int a4]) (bQ G none True out.2.1 (nx + out.2.2.1) (AA h nx)) out.2.2.1 out.2.2.2 (AA h nx) := by
  refine bGo (by decide +kernel) (Nat.le_of_ble_eq_true rfl) (fun p e s m below meth c ls S hr hlocks hin hnm hS hB hl => ?_)
  have S : CallFix p m c cX2_lets 9 s _ lw_all RX2 := S
  obtain ⟨hx, hb, hml, hown, hts⟩ := id S
  have hl : lv_has ls 9 [(0, .ref o), (1, .int a0), (2, .int a1), (3, .int a2), (4, .int a3), (5, .int a4)] := hl
  have w203 : ∀ (x0 : Nat) (x1 : Int32) (x2 : Int32) (hc : AH) (nc : Nat) (ls : Array Slot) (H : Heap) (locs : List Loc) (ce sl : Nat) (o1 : Unit × AH × Nat × Nat), BI G (AA h nx) s.heap hc nc H locs → nc = nx + ce → TL out o1 ce sl → lv_has ls 9 [(0, .ref x0), (1, .int x1), (2, .int x2)] → f_X2_lets_203 E x0 x1 x2 hc nc = some o1 → W p l e (rC (fE + 7) (lE + 251) out.2.2.1 out.2.2.2) s m ([.ref o, .int a0, .int a1, .int a2, .int a3, .int a4] : List Value).toArray below meth c H locs ce sl (MQ below (bQ G none True out.2.1 (nx + out.2.2.1) (AA h nx)) ([.ref o, .int a0, .int a1, .int a2, .int a3, .int a4] : List Value).toArray s out.2.2.1 out.2.2.2 (AA h nx)) (F0 m 203 ls []) := by
    intro x0 x1 x2 hc nc ls H locs ce sl o1 hB hn hT hl hf
    rw [f_X2_lets_203] at hf
    refine lv_aload_n hx hb dX2_lets_203 rfl (lv_at hl 0 rfl) ?_
    obtain ⟨v1, hv1, hf⟩ := ob_s hf
    refine bg_X2_19 S hS hB (vR_s hv1) dX2_lets_204 ?_
    refine lv_iload_n hx hb dX2_lets_207 rfl (lv_at hl 1 rfl) ?_
    refine lv_iload_n hx hb dX2_lets_208 rfl (lv_at hl 2 rfl) ?_
    obtain ⟨h2, hh2, hf⟩ := ob_s hf
    refine b_iast S hS.1 hB hh2 dX2_lets_209 (fun H locs hB => ?_)
    refine lv_aload_n hx hb dX2_lets_210 rfl (lv_at hl 0 rfl) ?_
    obtain ⟨v3, hv3, hf⟩ := ob_s hf
    refine bg_X2_56 S hS hB (vR_s hv3) dX2_lets_211 ?_
    refine lv_iload_n hx hb dX2_lets_214 rfl (lv_at hl 1 rfl) ?_
    refine lv_iconst hx hb dX2_lets_215 kc_i1 ?_
    obtain ⟨h4, hh4, hf⟩ := ob_s hf
    refine b_zast S hS.1 hB hh4 dX2_lets_216 (fun H locs hB => ?_)
    have hE9 := TL_e hT hf
    subst hE9
    exact bt_v S hr hlocks hB (by omega) trivial dX2_lets_217
  have w166 : ∀ (x0 : Nat) (x1 : Int32) (x2 : Int32) (x8 : Int32) (y0 : Nat) (y1 : Nat) (y2 : Nat) (y3 : Int32) (y4 : Int32) (y5 : Int32) (y6 : Int32) (y7 : Int32) (y8 : Int32) (y9 : Nat) (y10 : Nat) (y11 : Int32) (y12 : Int32) (hc : AH) (nc : Nat) (ls : Array Slot) (H : Heap) (locs : List Loc) (ce sl : Nat) (o1 : Unit × AH × Nat × Nat), BI G (AA h nx) s.heap hc nc H locs → nc = nx + ce → TL out o1 ce sl → lv_has ls 9 [(0, .ref x0), (1, .int x1), (2, .int x2), (8, .int x8)] → f_X2_lets_166 E x0 x1 x2 x8 y0 y1 y2 y3 y4 y5 y6 y7 y8 y9 y10 y11 y12 hc nc = some o1 → W p l e (rC (fE + 7) (lE + 251) out.2.2.1 out.2.2.2) s m ([.ref o, .int a0, .int a1, .int a2, .int a3, .int a4] : List Value).toArray below meth c H locs ce sl (MQ below (bQ G none True out.2.1 (nx + out.2.2.1) (AA h nx)) ([.ref o, .int a0, .int a1, .int a2, .int a3, .int a4] : List Value).toArray s out.2.2.1 out.2.2.2 (AA h nx)) (F0 m 166 ls [.int y12, .int y11, .ref y10, .ref y9, .int y8, .int y7, .int y6, .int y5, .int y4, .int y3, .ref y2, .ref y1, .ref y0]) := by
    intro x0 x1 x2 x8 y0 y1 y2 y3 y4 y5 y6 y7 y8 y9 y10 y11 y12 hc nc ls H locs ce sl o1 hB hn hT hl hf
    rw [f_X2_lets_166] at hf
    obtain ⟨h1, hh1, hf⟩ := ob_s hf
    refine b_zast S hS.1 hB hh1 dX2_lets_166 (fun H locs hB => ?_)
    refine lv_dup hx hb dX2_lets_167 rfl ?_
    refine lv_iconst hx hb dX2_lets_168 kc_i3 ?_
    refine lv_aload_n hx hb dX2_lets_169 rfl (lv_at hl 0 rfl) ?_
    refine lv_iload_n hx hb dX2_lets_170 rfl (lv_at hl 1 rfl) ?_
    refine lv_iload_n hx hb dX2_lets_171 rfl (lv_at hl 2 rfl) ?_
    obtain ⟨g2, hf⟩ := gd_t hf
    obtain ⟨v3, hv3, hf⟩ := ob_s hf
    refine mc_X2_257 (fE := fE) (lE := lE) S hS hB g2 hv3 hl.1 ⟨(by show _ ≤ (fE + 7); omega), (by show _ ≤ (lE + 251); omega)⟩ (Nat.le_of_ble_eq_true rfl) ⟨(TL_m hT).1, (TL_m hT).2⟩ dX2_lets_172 (fun hnv3 => ?_)
    obtain ⟨h4, hh4, hf⟩ := ob_s hf
    refine b_zast S hS.1 hB hh4 dX2_lets_175 (fun H locs hB => ?_)
    obtain ⟨v5, hv5, hf⟩ := ob_s hf
    obtain ⟨o6, hf, hT⟩ := TL_c hT hf
    refine mc_X2_315 (fE := fE) (lE := lE) S hS hB hv5 hl.1 ⟨(by show _ ≤ (fE + 7); omega), (by show _ ≤ (lE + 251); omega)⟩ (Nat.le_of_ble_eq_true rfl) ⟨(TL_m hT).1, (TL_m hT).2⟩ dX2_lets_176 (fun H locs _ hB => ?_)
    obtain ⟨g7, hf⟩ := gd_t hf
    obtain ⟨v8, hv8, hf⟩ := ob_s hf
    obtain ⟨o9, hf, hT⟩ := TL_c hT hf
    refine mc_X2_302 (fE := fE) (lE := lE) S hS hB g7 hv8 hl.1 ⟨(by show _ ≤ (fE + 7); omega), (by show _ ≤ (lE + 251); omega)⟩ (Nat.le_of_ble_eq_true rfl) ⟨(TL_m hT).1, (TL_m hT).2⟩ dX2_lets_179 (fun H locs hnv8 hB => ?_)
    refine lv_pop hx hb dX2_lets_182 rfl ?_
    refine lv_iload hx hb dX2_lets_183 (lv_at hl 3 rfl) ?_
    refine lv_if_lt (tgt := 203) hx hb dX2_lets_185 (by decide) (fun c10 => ?_) (fun c10 => ?_)
    · replace hf := it_t c10 hf
      exact (w203) x0 x1 x2 v8.2.1 ((nc + v5.2.2.1) + v8.2.2.1) ls H locs ((ce + v5.2.2.1) + v8.2.2.1) ((sl + v5.2.2.2) + v8.2.2.2) o9 hB (by omega) hT (lv_sub (l' := [(0, .ref x0), (1, .int x1), (2, .int x2)]) hl [0, 1, 2] rfl) hf
    · replace hf := it_f c10 hf
      refine lv_aload_n hx hb dX2_lets_188 rfl (lv_at hl 0 rfl) ?_
      refine lv_iload hx hb dX2_lets_189 (lv_at hl 3 rfl) ?_
      refine lv_aload_n hx hb dX2_lets_191 rfl (lv_at hl 0 rfl) ?_
      obtain ⟨v11, hv11, hf⟩ := ob_s hf
      refine bg_X2_67 S hS hB (vR_s hv11) dX2_lets_192 ?_
      obtain ⟨g12, hf⟩ := gd_t hf
      obtain ⟨v13, hv13, hf⟩ := ob_s hf
      refine mc_X2_149 (fE := fE) (lE := lE) S hS hB g12 hv13 hl.1 ⟨(by show _ ≤ (fE + 7); omega), (by show _ ≤ (lE + 251); omega)⟩ (Nat.le_of_ble_eq_true rfl) ⟨(TL_m hT).1, (TL_m hT).2⟩ dX2_lets_195 (fun _ => ?_)
      refine lv_iconst hx hb dX2_lets_198 kc_i1 ?_
      refine lv_isub hx hb dX2_lets_199 ?_
      obtain ⟨g14, hf⟩ := gd_t hf
      obtain ⟨v15, hv15, hf⟩ := ob_s hf
      obtain ⟨o16, hf, hT⟩ := TL_c hT hf
      refine mc_X2_318 (fE := fE) (lE := lE) S hS hB g14 hv15 hl.1 ⟨(by show _ ≤ (fE + 7); omega), (by show _ ≤ (lE + 251); omega)⟩ (Nat.le_of_ble_eq_true rfl) ⟨(TL_m hT).1, (TL_m hT).2⟩ dX2_lets_200 (fun H locs _ hB => ?_)
      exact (w203) x0 x1 x2 v15.2.1 (((nc + v5.2.2.1) + v8.2.2.1) + v15.2.2.1) ls H locs (((ce + v5.2.2.1) + v8.2.2.1) + v15.2.2.1) (((sl + v5.2.2.2) + v8.2.2.2) + v15.2.2.2) o16 hB (by omega) hT (lv_sub (l' := [(0, .ref x0), (1, .int x1), (2, .int x2)]) hl [0, 1, 2] rfl) hf
  have w112 : ∀ (x0 : Nat) (x1 : Int32) (x2 : Int32) (x3 : Int32) (x4 : Int32) (x5 : Int32) (x6 : Int32) (y0 : Int32) (hc : AH) (nc : Nat) (ls : Array Slot) (H : Heap) (locs : List Loc) (ce sl : Nat) (o1 : Unit × AH × Nat × Nat), BI G (AA h nx) s.heap hc nc H locs → nc = nx + ce → TL out o1 ce sl → lv_has ls 9 [(0, .ref x0), (1, .int x1), (2, .int x2), (3, .int x3), (4, .int x4), (5, .int x5), (6, .int x6)] → f_X2_lets_112 E x0 x1 x2 x3 x4 x5 x6 y0 hc nc = some o1 → W p l e (rC (fE + 7) (lE + 251) out.2.2.1 out.2.2.2) s m ([.ref o, .int a0, .int a1, .int a2, .int a3, .int a4] : List Value).toArray below meth c H locs ce sl (MQ below (bQ G none True out.2.1 (nx + out.2.2.1) (AA h nx)) ([.ref o, .int a0, .int a1, .int a2, .int a3, .int a4] : List Value).toArray s out.2.2.1 out.2.2.2 (AA h nx)) (F0 m 112 ls [.int y0]) := by
    intro x0 x1 x2 x3 x4 x5 x6 y0 hc nc ls H locs ce sl o1 hB hn hT hl hf
    rw [f_X2_lets_112] at hf
    refine lv_istore (lv' := [(7, .int y0), (0, .ref x0), (1, .int x1), (2, .int x2), (3, .int x3), (4, .int x4), (5, .int x5), (6, .int x6)]) hx hb dX2_lets_112 hl (by decide) rfl (fun ls hl => ?_)
    refine lv_aload_n hx hb dX2_lets_114 rfl (lv_at hl 1 rfl) ?_
    obtain ⟨v1, hv1, hf⟩ := ob_s hf
    refine bg_X2_19 S hS hB (vR_s hv1) dX2_lets_115 ?_
    refine lv_iload_n hx hb dX2_lets_118 rfl (lv_at hl 2 rfl) ?_
    obtain ⟨v2, hv2, hf⟩ := ob_s hf
    refine b_iald S hS.1 hB hv2 dX2_lets_119 ?_
    refine lv_istore (lv' := [(8, .int v2), (7, .int y0), (0, .ref x0), (1, .int x1), (2, .int x2), (3, .int x3), (4, .int x4), (5, .int x5), (6, .int x6)]) hx hb dX2_lets_120 hl (by decide) rfl (fun ls hl => ?_)
    refine lv_aload_n hx hb dX2_lets_122 rfl (lv_at hl 2 rfl) ?_
    obtain ⟨v3, hv3, hf⟩ := ob_s hf
    refine bg_X2_67 S hS hB (vR_s hv3) dX2_lets_123 ?_
    obtain ⟨o4, hf, hT⟩ := TL_c hT hf
    refine bn_X2_226 S hS hB (TL_m hT).1 (TL_m hT).2 dX2_lets_126 (fun H hB => ?_)
    refine lv_dup hx hb dX2_lets_129 rfl ?_
    refine lv_iload_n hx hb dX2_lets_130 rfl (lv_at hl 3 rfl) ?_
    refine lv_iload_n hx hb dX2_lets_131 rfl (lv_at hl 4 rfl) ?_
    refine lv_aload_n hx hb dX2_lets_132 rfl (lv_at hl 2 rfl) ?_
    obtain ⟨v5, hv5, hf⟩ := ob_s hf
    refine bg_X2_138 S hS hB (vI_s hv5) dX2_lets_133 ?_
    refine lv_iload hx hb dX2_lets_136 (lv_at hl 1 rfl) ?_
    refine lv_iload_n hx hb dX2_lets_138 rfl (lv_at hl 5 rfl) ?_
    refine lv_iload hx hb dX2_lets_139 (lv_at hl 8 rfl) ?_
    refine lv_iconst hx hb dX2_lets_141 kc_i4 ?_
    obtain ⟨o6, hf, hT⟩ := TL_c hT hf
    refine b_newZ S hS hB kn_4 kna_4 (TL_m hT).1 (TL_m hT).2 dX2_lets_142 (fun H hB => ?_)
    obtain ⟨h7, eh7⟩ : ∃ z, z = (hu (hu hc nc (.inr (.inl (7, df_X8)))) (nc + 1) (.inl (3, 4, .inl (fun _ => 0)))) := ⟨_, rfl⟩
    replace hf := bd_e eh7 hf
    rw [← eh7] at hB
    refine lv_dup hx hb dX2_lets_144 rfl ?_
    refine lv_iconst hx hb dX2_lets_145 kc_i0 ?_
    refine lv_iload hx hb dX2_lets_146 (lv_at hl 6 rfl) ?_
    obtain ⟨h8, hh8, hf⟩ := ob_s hf
    refine b_zast S hS.1 hB hh8 dX2_lets_148 (fun H locs hB => ?_)
    refine lv_dup hx hb dX2_lets_149 rfl ?_
    refine lv_iconst hx hb dX2_lets_150 kc_i1 ?_
    refine lv_iload hx hb dX2_lets_151 (lv_at hl 7 rfl) ?_
    obtain ⟨h9, hh9, hf⟩ := ob_s hf
    refine b_zast S hS.1 hB hh9 dX2_lets_153 (fun H locs hB => ?_)
    refine lv_dup hx hb dX2_lets_154 rfl ?_
    refine lv_iconst hx hb dX2_lets_155 kc_i2 ?_
    refine lv_iload hx hb dX2_lets_156 (lv_at hl 0 rfl) ?_
    refine lv_if_lt (tgt := 165) hx hb dX2_lets_158 (by decide) (fun c10 => ?_) (fun c10 => ?_)
    · replace hf := it_t c10 hf
      refine lv_iconst hx hb dX2_lets_165 kc_i0 ?_
      exact (w166) x0 x1 x2 v2 v3 nc nc x1 x2 v5 y0 x3 x6 (nc + 1) (nc + 1) (nI 2) 0 h9 ((nc + 1) + 1) ls H locs ((ce + 1) + 1) ((sl + 10) + 4) o6 hB (by omega) hT (lv_sub (l' := [(0, .ref x0), (1, .int x1), (2, .int x2), (8, .int v2)]) hl [2, 3, 4, 0] rfl) hf
    · replace hf := it_f c10 hf
      refine lv_iconst hx hb dX2_lets_161 kc_i1 ?_
      refine lv_goto (tgt := 166) hx hb dX2_lets_162 (by decide) ?_
      exact (w166) x0 x1 x2 v2 v3 nc nc x1 x2 v5 y0 x3 x6 (nc + 1) (nc + 1) (nI 2) 1 h9 ((nc + 1) + 1) ls H locs ((ce + 1) + 1) ((sl + 10) + 4) o6 hB (by omega) hT (lv_sub (l' := [(0, .ref x0), (1, .int x1), (2, .int x2), (8, .int v2)]) hl [2, 3, 4, 0] rfl) hf
  have w10 : ∀ (n : Nat) , ∀ (x0 : Nat) (x1 : Int32) (x2 : Int32) (x3 : Int32) (x4 : Int32) (x5 : Int32) (x6 : Int32) (x7 : Int32) (hc : AH) (nc : Nat) (ls : Array Slot) (H : Heap) (locs : List Loc) (ce sl : Nat) (o1 : Unit × AH × Nat × Nat), BI G (AA h nx) s.heap hc nc H locs → nc = nx + ce → TL out o1 ce sl → lv_has ls 9 [(0, .ref x0), (1, .int x1), (2, .int x2), (3, .int x3), (4, .int x4), (5, .int x5), (6, .int x6), (7, .int x7)] → f_X2_lets_10 n E x0 x1 x2 x3 x4 x5 x6 x7 hc nc = some o1 → W p l e (rC (fE + 7) (lE + 251) out.2.2.1 out.2.2.2) s m ([.ref o, .int a0, .int a1, .int a2, .int a3, .int a4] : List Value).toArray below meth c H locs ce sl (MQ below (bQ G none True out.2.1 (nx + out.2.2.1) (AA h nx)) ([.ref o, .int a0, .int a1, .int a2, .int a3, .int a4] : List Value).toArray s out.2.2.1 out.2.2.2 (AA h nx)) (F0 m 10 ls []) := by
    intro n
    induction n with
    | zero =>
      intro x0 x1 x2 x3 x4 x5 x6 x7 hc nc ls H locs ce sl o1 hB hn hT hl hf
      exact absurd hf (by rw [f_X2_lets_10]; exact nofun)
    | succ n ih =>
      intro x0 x1 x2 x3 x4 x5 x6 x7 hc nc ls H locs ce sl o1 hB hn hT hl hf
      rw [f_X2_lets_10] at hf
      refine lv_iload hx hb dX2_lets_10 (lv_at hl 7 rfl) ?_
      refine lv_aload_n hx hb dX2_lets_12 rfl (lv_at hl 0 rfl) ?_
      obtain ⟨v1, hv1, hf⟩ := ob_s hf
      refine bg_X2_3 S hS hB (vR_s hv1) dX2_lets_13 ?_
      obtain ⟨v2, hv2, hf⟩ := ob_s hf
      refine bg_X2_146 S hS hB (vR_s hv2) dX2_lets_16 ?_
      obtain ⟨g3, hf⟩ := gd_t hf
      obtain ⟨v4, hv4, hf⟩ := ob_s hf
      refine mc_X2_149 (fE := fE) (lE := lE) S hS hB g3 hv4 hl.1 ⟨(by show _ ≤ (fE + 7); omega), (by show _ ≤ (lE + 251); omega)⟩ (Nat.le_of_ble_eq_true rfl) ⟨(TL_m hT).1, (TL_m hT).2⟩ dX2_lets_19 (fun _ => ?_)
      refine lv_icmp_ge (tgt := 78) hx hb dX2_lets_22 (by decide) (fun c5 => ?_) (fun c5 => ?_)
      · replace hf := it_t c5 hf
        refine lv_aload_n hx hb dX2_lets_78 rfl (lv_at hl 0 rfl) ?_
        obtain ⟨v6, hv6, hf⟩ := ob_s hf
        refine bg_X2_43 S hS hB (vR_s hv6) dX2_lets_79 ?_
        refine lv_iload_n hx hb dX2_lets_82 rfl (lv_at hl 2 rfl) ?_
        obtain ⟨v7, hv7, hf⟩ := ob_s hf
        refine b_iald S hS.1 hB hv7 dX2_lets_83 ?_
        refine lv_if_ge (tgt := 91) hx hb dX2_lets_84 (by decide) (fun c8 => ?_) (fun c8 => ?_)
        · replace hf := it_t c8 hf
          refine lv_aload_n hx hb dX2_lets_91 rfl (lv_at hl 0 rfl) ?_
          obtain ⟨v9, hv9, hf⟩ := ob_s hf
          refine bg_X2_67 S hS hB (vR_s hv9) dX2_lets_92 ?_
          refine lv_aload_n hx hb dX2_lets_95 rfl (lv_at hl 0 rfl) ?_
          obtain ⟨v10, hv10, hf⟩ := ob_s hf
          refine bg_X2_43 S hS hB (vR_s hv10) dX2_lets_96 ?_
          refine lv_iload_n hx hb dX2_lets_99 rfl (lv_at hl 2 rfl) ?_
          obtain ⟨v11, hv11, hf⟩ := ob_s hf
          refine b_iald S hS.1 hB hv11 dX2_lets_100 ?_
          obtain ⟨g12, hf⟩ := gd_t hf
          obtain ⟨v13, hv13, hf⟩ := ob_s hf
          refine mc_X2_222 (fE := fE) (lE := lE) S hS hB g12 hv13 hl.1 ⟨(by show _ ≤ (fE + 7); omega), (by show _ ≤ (lE + 251); omega)⟩ (Nat.le_of_ble_eq_true rfl) ⟨(TL_m hT).1, (TL_m hT).2⟩ dX2_lets_101 (fun _ => ?_)
          obtain ⟨g14, hf⟩ := gd_t hf
          refine b_castO S hS.1 hB (ci := 7) rfl (hts _ q395) g14 dX2_lets_104 ?_
          obtain ⟨v15, hv15, hf⟩ := ob_s hf
          refine bg_X2_312 S hS hB (vI_s hv15) dX2_lets_107 ?_
          refine lv_iconst hx hb dX2_lets_110 kc_i1 ?_
          refine lv_iadd hx hb dX2_lets_111 ?_
          exact (w112) x0 x1 x2 x3 x4 x5 x6 (v15 + 1) hc nc ls H locs ce sl o1 hB (by omega) hT (lv_sub (l' := [(0, .ref x0), (1, .int x1), (2, .int x2), (3, .int x3), (4, .int x4), (5, .int x5), (6, .int x6)]) hl [0, 1, 2, 3, 4, 5, 6] rfl) hf
        · replace hf := it_f c8 hf
          refine lv_iconst hx hb dX2_lets_87 kc_i1 ?_
          refine lv_goto (tgt := 112) hx hb dX2_lets_88 (by decide) ?_
          exact (w112) x0 x1 x2 x3 x4 x5 x6 1 hc nc ls H locs ce sl o1 hB (by omega) hT (lv_sub (l' := [(0, .ref x0), (1, .int x1), (2, .int x2), (3, .int x3), (4, .int x4), (5, .int x5), (6, .int x6)]) hl [0, 1, 2, 3, 4, 5, 6] rfl) hf
      · replace hf := it_f c5 hf
        refine lv_iload hx hb dX2_lets_25 (lv_at hl 7 rfl) ?_
        refine lv_iload_n hx hb dX2_lets_27 rfl (lv_at hl 1 rfl) ?_
        refine lv_icmp_eq (tgt := 72) hx hb dX2_lets_28 (by decide) (fun c16 => ?_) (fun c16 => ?_)
        · replace hf := it_t c16 hf
          refine lv_iinc (v := (x7 + 1)) (lv' := [(7, .int (x7 + 1)), (0, .ref x0), (1, .int x1), (2, .int x2), (3, .int x3), (4, .int x4), (5, .int x5), (6, .int x6)]) hx hb dX2_lets_72 hl (k := 7) rfl rfl (by decide) rfl (fun ls hl => ?_)
          refine lv_goto (tgt := 10) hx hb dX2_lets_75 (by decide) ?_
          exact (ih) x0 x1 x2 x3 x4 x5 x6 (x7 + 1) hc nc ls H locs ce sl o1 hB (by omega) hT (lv_sub (l' := [(0, .ref x0), (1, .int x1), (2, .int x2), (3, .int x3), (4, .int x4), (5, .int x5), (6, .int x6), (7, .int (x7 + 1))]) hl [1, 2, 3, 4, 5, 6, 7, 0] rfl) hf
        · replace hf := it_f c16 hf
          refine lv_aload_n hx hb dX2_lets_31 rfl (lv_at hl 0 rfl) ?_
          refine lv_iload hx hb dX2_lets_32 (lv_at hl 7 rfl) ?_
          refine lv_iload_n hx hb dX2_lets_34 rfl (lv_at hl 2 rfl) ?_
          obtain ⟨g17, hf⟩ := gd_t hf
          obtain ⟨v18, hv18, hf⟩ := ob_s hf
          refine mc_X2_271 (fE := fE) (lE := lE) S hS hB g17 hv18 hl.1 ⟨(by show _ ≤ (fE + 7); omega), (by show _ ≤ (lE + 251); omega)⟩ (Nat.le_of_ble_eq_true rfl) ⟨(TL_m hT).1, (TL_m hT).2⟩ dX2_lets_35 (fun hnv18 => ?_)
          refine lv_if_eq (tgt := 72) hx hb dX2_lets_38 (by decide) (fun c19 => ?_) (fun c19 => ?_)
          · replace hf := it_t c19 hf
            refine lv_iinc (v := (x7 + 1)) (lv' := [(7, .int (x7 + 1)), (0, .ref x0), (1, .int x1), (2, .int x2), (3, .int x3), (4, .int x4), (5, .int x5), (6, .int x6)]) hx hb dX2_lets_72 hl (k := 7) rfl rfl (by decide) rfl (fun ls hl => ?_)
            refine lv_goto (tgt := 10) hx hb dX2_lets_75 (by decide) ?_
            exact (ih) x0 x1 x2 x3 x4 x5 x6 (x7 + 1) hc nc ls H locs ce sl o1 hB (by omega) hT (lv_sub (l' := [(0, .ref x0), (1, .int x1), (2, .int x2), (3, .int x3), (4, .int x4), (5, .int x5), (6, .int x6), (7, .int (x7 + 1))]) hl [1, 2, 3, 4, 5, 6, 7, 0] rfl) hf
          · replace hf := it_f c19 hf
            refine lv_aload_n hx hb dX2_lets_41 rfl (lv_at hl 0 rfl) ?_
            refine lv_iload hx hb dX2_lets_42 (lv_at hl 7 rfl) ?_
            obtain ⟨g20, hf⟩ := gd_t hf
            obtain ⟨v21, hv21, hf⟩ := ob_s hf
            refine mc_X2_183 (fE := fE) (lE := lE) S hS hB g20 hv21 hl.1 ⟨(by show _ ≤ (fE + 7); omega), (by show _ ≤ (lE + 251); omega)⟩ (Nat.le_of_ble_eq_true rfl) ⟨(TL_m hT).1, (TL_m hT).2⟩ dX2_lets_44 (fun hnv21 => ?_)
            refine lv_if_eq (tgt := 72) hx hb dX2_lets_47 (by decide) (fun c22 => ?_) (fun c22 => ?_)
            · replace hf := it_t c22 hf
              refine lv_iinc (v := (x7 + 1)) (lv' := [(7, .int (x7 + 1)), (0, .ref x0), (1, .int x1), (2, .int x2), (3, .int x3), (4, .int x4), (5, .int x5), (6, .int x6)]) hx hb dX2_lets_72 hl (k := 7) rfl rfl (by decide) rfl (fun ls hl => ?_)
              refine lv_goto (tgt := 10) hx hb dX2_lets_75 (by decide) ?_
              exact (ih) x0 x1 x2 x3 x4 x5 x6 (x7 + 1) hc nc ls H locs ce sl o1 hB (by omega) hT (lv_sub (l' := [(0, .ref x0), (1, .int x1), (2, .int x2), (3, .int x3), (4, .int x4), (5, .int x5), (6, .int x6), (7, .int (x7 + 1))]) hl [1, 2, 3, 4, 5, 6, 7, 0] rfl) hf
            · replace hf := it_f c22 hf
              refine lv_aload_n hx hb dX2_lets_50 rfl (lv_at hl 0 rfl) ?_
              refine lv_iload hx hb dX2_lets_51 (lv_at hl 7 rfl) ?_
              obtain ⟨g23, hf⟩ := gd_t hf
              obtain ⟨v24, hv24, hf⟩ := ob_s hf
              refine mc_X2_202 (fE := fE) (lE := lE) S hS hB g23 hv24 hl.1 ⟨(by show _ ≤ (fE + 7); omega), (by show _ ≤ (lE + 251); omega)⟩ (Nat.le_of_ble_eq_true rfl) ⟨(TL_m hT).1, (TL_m hT).2⟩ dX2_lets_53 (fun _ => ?_)
              refine lv_iload hx hb dX2_lets_56 (lv_at hl 6 rfl) ?_
              refine lv_icmp_ge (tgt := 72) hx hb dX2_lets_58 (by decide) (fun c25 => ?_) (fun c25 => ?_)
              · replace hf := it_t c25 hf
                refine lv_iinc (v := (x7 + 1)) (lv' := [(7, .int (x7 + 1)), (0, .ref x0), (1, .int x1), (2, .int x2), (3, .int x3), (4, .int x4), (5, .int x5), (6, .int x6)]) hx hb dX2_lets_72 hl (k := 7) rfl rfl (by decide) rfl (fun ls hl => ?_)
                refine lv_goto (tgt := 10) hx hb dX2_lets_75 (by decide) ?_
                exact (ih) x0 x1 x2 x3 x4 x5 x6 (x7 + 1) hc nc ls H locs ce sl o1 hB (by omega) hT (lv_sub (l' := [(0, .ref x0), (1, .int x1), (2, .int x2), (3, .int x3), (4, .int x4), (5, .int x5), (6, .int x6), (7, .int (x7 + 1))]) hl [1, 2, 3, 4, 5, 6, 7, 0] rfl) hf
              · replace hf := it_f c25 hf
                refine lv_aload_n hx hb dX2_lets_61 rfl (lv_at hl 0 rfl) ?_
                obtain ⟨v26, hv26, hf⟩ := ob_s hf
                refine bg_X2_28 S hS hB (vR_s hv26) dX2_lets_62 ?_
                refine lv_iload hx hb dX2_lets_65 (lv_at hl 7 rfl) ?_
                refine lv_dup2_11 hx hb dX2_lets_67 rfl rfl ?_
                obtain ⟨v27, hv27, hf⟩ := ob_s hf
                refine b_iald S hS.1 hB hv27 dX2_lets_68 ?_
                refine lv_iconst hx hb dX2_lets_69 kc_i1 ?_
                refine lv_iadd hx hb dX2_lets_70 ?_
                obtain ⟨h28, hh28, hf⟩ := ob_s hf
                refine b_iast S hS.1 hB hh28 dX2_lets_71 (fun H locs hB => ?_)
                refine lv_iinc (v := (x7 + 1)) (lv' := [(7, .int (x7 + 1)), (0, .ref x0), (1, .int x1), (2, .int x2), (3, .int x3), (4, .int x4), (5, .int x5), (6, .int x6)]) hx hb dX2_lets_72 hl (k := 7) rfl rfl (by decide) rfl (fun ls hl => ?_)
                refine lv_goto (tgt := 10) hx hb dX2_lets_75 (by decide) ?_
                exact (ih) x0 x1 x2 x3 x4 x5 x6 (x7 + 1) h28 nc ls H locs ce sl o1 hB (by omega) hT (lv_sub (l' := [(0, .ref x0), (1, .int x1), (2, .int x2), (3, .int x3), (4, .int x4), (5, .int x5), (6, .int x6), (7, .int (x7 + 1))]) hl [1, 2, 3, 4, 5, 6, 7, 0] rfl) hf
  have hT : TL out out 0 0 := TL_0
  rw [f_X2_lets] at hf
  refine lv_aload_n hx hb dX2_lets_0 rfl (lv_at hl 0 rfl) ?_
  refine lv_iload_n hx hb dX2_lets_1 rfl (lv_at hl 1 rfl) ?_
  obtain ⟨g1, hf⟩ := gd_t hf
  obtain ⟨v2, hv2, hf⟩ := ob_s hf
  refine mc_X2_202 (fE := fE) (lE := lE) S hS hB g1 hv2 hl.1 ⟨(by show _ ≤ (fE + 7); omega), (by show _ ≤ (lE + 251); omega)⟩ (Nat.le_of_ble_eq_true rfl) ⟨(TL_m hT).1, (TL_m hT).2⟩ dX2_lets_2 (fun _ => ?_)
  refine lv_istore (lv' := [(6, .int v2), (0, .ref o), (1, .int a0), (2, .int a1), (3, .int a2), (4, .int a3), (5, .int a4)]) hx hb dX2_lets_5 hl (by decide) rfl (fun ls hl => ?_)
  refine lv_iconst hx hb dX2_lets_7 kc_i0 ?_
  refine lv_istore (lv' := [(7, .int 0), (6, .int v2), (0, .ref o), (1, .int a0), (2, .int a1), (3, .int a2), (4, .int a3), (5, .int a4)]) hx hb dX2_lets_8 hl (by decide) rfl (fun ls hl => ?_)
  exact (w10 FU) o a0 a1 a2 a3 a4 v2 0 h nx ls s.heap [] 0 0 out hB (by omega) hT (lv_sub (l' := [(0, .ref o), (1, .int a0), (2, .int a1), (3, .int a2), (4, .int a3), (5, .int a4), (6, .int v2), (7, .int 0)]) hl [2, 3, 4, 5, 6, 7, 1, 0] rfl) hf
set_option maxRecDepth 100000 in
theorem mc_X2_306 {o : Nat} {a0 : Int32} {a1 : Int32} {a2 : Int32} {a3 : Int32} {a4 : Int32} {out : Unit × AH × Nat × Nat} (S : CallFix p m c cc nL s args lw_all RX2) (hS : SK G E.1 hSites A s) (hB : BI G A s.heap h nx H locs) (ho : isO h o 1 = true) (hf : f_X2_lets E h nx o a0 a1 a2 a3 a4 = some out) (hsz : ls.size = nL) (hR : (fE + 7) + 1 ≤ R.frames ∧ 8 + (9 + 11) + (lE + 251) ≤ R.locals) (hW : (rest.map fun v => v.category).sum ≤ 8) (hcs : cells + out.2.2.1 ≤ R.cells ∧ slots + out.2.2.2 ≤ R.slots) (hdg : decode cc pc = .ok (.invokevirtual 306, 3))  (kk : ∀ (H1 : Heap) (locs1 : List Loc), True → BI G A s.heap out.2.1 (nx + out.2.2.1) H1 locs1 → W p l e R s m args below meth c H1 locs1 (cells + out.2.2.1) (slots + out.2.2.2) Q (F0 m (pc + 3) ls (rest))) : W p l e R s m args below meth c H locs cells slots Q (F0 m pc ls (.int a4 :: .int a3 :: .int a2 :: .int a1 :: .int a0 :: .ref o :: rest)) := by
  have hN := hS.2.1
  obtain ⟨fs, he⟩ := isO_s ho
  exact br_v (va_runV (As := [.int a0, .int a1, .int a2, .int a3, .int a4]) S (mm_X2_lets (l := l) (G := G) (fE := fE) (lE := lE) hf) (cwV 5 S.2.2.2.2 (lw_V q1438 q1440 qs56 q178 q1441) rfl rfl rfl hd_X2_lets hR) (bPreV hS hB (ci := 1) rfl he) rfl rfl hsz rfl (lv_room hW) hdg hcs) hB kk
theorem hd_X2_isTaken : yX2_isTaken.cls = RX2 ∧ yX2_isTaken.cls ≠ "java/lang/invoke/MethodHandle" ∧ yX2_isTaken.cls ≠ "java/lang/invoke/VarHandle" ∧ (parseMethodDescriptor yX2_isTaken.desc).map (fun d => d.parameters.length) = some 5 := by decide +kernel
set_option maxHeartbeats 4000000 in
set_option maxRecDepth 100000 in
theorem mm_X2_isTaken {o : Nat} {a0 : Int32} {a1 : Int32} {a2 : Int32} {a3 : Int32} {a4 : Int32} {out : Int32 × AH × Nat × Nat} (hf : f_X2_isTaken E h nx o a0 a1 a2 a3 a4 = some out) : Met l yX2_isTaken (ws_ yX2_isTaken cX2_isTaken 7 (some .boolean)) (rC (fE + 8) (lE + 279) out.2.2.1 out.2.2.2) (bPc G E.1 hSites h nx [.ref o, .int a0, .int a1, .int a2, .int a3, .int a4]) (bQ G (some (.int out.1)) (narrow .boolean (.int out.1) = .int out.1) out.2.1 (nx + out.2.2.1) (AA h nx)) out.2.2.1 out.2.2.2 (AA h nx) := by
  refine bGo (by decide +kernel) (Nat.le_of_ble_eq_true rfl) (fun p e s m below meth c ls S hr hlocks hin hnm hS hB hl => ?_)
  have S : CallFix p m c cX2_isTaken 7 s _ lw_all RX2 := S
  obtain ⟨hx, hb, hml, hown, hts⟩ := id S
  have hl : lv_has ls 7 [(0, .ref o), (1, .int a0), (2, .int a1), (3, .int a2), (4, .int a3), (5, .int a4)] := hl
  have hT : TL out out 0 0 := TL_0
  rw [f_X2_isTaken] at hf
  refine lv_aload_n hx hb dX2_isTaken_0 rfl (lv_at hl 0 rfl) ?_
  refine lv_iload_n hx hb dX2_isTaken_1 rfl (lv_at hl 1 rfl) ?_
  refine lv_iload_n hx hb dX2_isTaken_2 rfl (lv_at hl 2 rfl) ?_
  obtain ⟨g1, hf⟩ := gd_t hf
  obtain ⟨v2, hv2, hf⟩ := ob_s hf
  refine mc_X2_190 (fE := fE) (lE := lE) S hS hB g1 hv2 hl.1 ⟨(by show _ ≤ (fE + 8); omega), (by show _ ≤ (lE + 279); omega)⟩ (Nat.le_of_ble_eq_true rfl) ⟨(TL_m hT).1, (TL_m hT).2⟩ dX2_isTaken_3 (fun hnv2 => ?_)
  refine lv_istore (lv' := [(6, .int v2), (0, .ref o), (1, .int a0), (2, .int a1), (3, .int a2), (4, .int a3), (5, .int a4)]) hx hb dX2_isTaken_6 hl (by decide) rfl (fun ls hl => ?_)
  refine lv_aload_n hx hb dX2_isTaken_8 rfl (lv_at hl 1 rfl) ?_
  obtain ⟨v3, hv3, hf⟩ := ob_s hf
  refine bg_X2_71 S hS hB (vR_s hv3) dX2_isTaken_9 ?_
  refine lv_iconst hx hb dX2_isTaken_12 kc_i3 ?_
  obtain ⟨o4, hf, hT⟩ := TL_c hT hf
  refine b_newI S hS hB kn_3 kna_3 (TL_m hT).1 (TL_m hT).2 dX2_isTaken_13 (fun H hB => ?_)
  refine lv_dup hx hb dX2_isTaken_15 rfl ?_
  refine lv_iconst hx hb dX2_isTaken_16 kc_i0 ?_
  refine lv_iload_n hx hb dX2_isTaken_17 rfl (lv_at hl 2 rfl) ?_
  obtain ⟨h5, hh5, hf⟩ := ob_s hf
  refine b_iast S hS.1 hB hh5 dX2_isTaken_18 (fun H locs hB => ?_)
  refine lv_dup hx hb dX2_isTaken_19 rfl ?_
  refine lv_iconst hx hb dX2_isTaken_20 kc_i1 ?_
  refine lv_iload_n hx hb dX2_isTaken_21 rfl (lv_at hl 3 rfl) ?_
  obtain ⟨h6, hh6, hf⟩ := ob_s hf
  refine b_iast S hS.1 hB hh6 dX2_isTaken_22 (fun H locs hB => ?_)
  refine lv_dup hx hb dX2_isTaken_23 rfl ?_
  refine lv_iconst hx hb dX2_isTaken_24 kc_i2 ?_
  refine lv_iload hx hb dX2_isTaken_25 (lv_at hl 0 rfl) ?_
  obtain ⟨v7, hv7, hf⟩ := ob_s hf
  refine mc_X2_234 S hS.1 hS.2.1 hv7 hl.1 ⟨(by show _ ≤ (fE + 8); omega), (by show _ ≤ (lE + 279); omega)⟩ (Nat.le_of_ble_eq_true rfl) ⟨(TL_m hT).1, (TL_m hT).2⟩ dX2_isTaken_27 (fun _ => ?_)
  obtain ⟨h8, hh8, hf⟩ := ob_s hf
  refine b_iast S hS.1 hB hh8 dX2_isTaken_30 (fun H locs hB => ?_)
  obtain ⟨g9, hf⟩ := gd_t hf
  obtain ⟨v10, hv10, hf⟩ := ob_s hf
  obtain ⟨o11, hf, hT⟩ := TL_c hT hf
  refine mc_X2_302 (fE := fE) (lE := lE) S hS hB g9 hv10 hl.1 ⟨(by show _ ≤ (fE + 8); omega), (by show _ ≤ (lE + 279); omega)⟩ (Nat.le_of_ble_eq_true rfl) ⟨(TL_m hT).1, (TL_m hT).2⟩ dX2_isTaken_31 (fun H locs hnv10 hB => ?_)
  refine lv_pop hx hb dX2_isTaken_34 rfl ?_
  refine lv_iload hx hb dX2_isTaken_35 (lv_at hl 0 rfl) ?_
  refine lv_if_eq (tgt := 54) hx hb dX2_isTaken_37 (by decide) (fun c12 => ?_) (fun c12 => ?_)
  · replace hf := it_t c12 hf
    refine lv_aload_n hx hb dX2_isTaken_54 rfl (lv_at hl 1 rfl) ?_
    refine lv_iload_n hx hb dX2_isTaken_55 rfl (lv_at hl 2 rfl) ?_
    obtain ⟨g13, hf⟩ := gd_t hf
    obtain ⟨v14, hv14, hf⟩ := ob_s hf
    obtain ⟨o15, hf, hT⟩ := TL_c hT hf
    refine mc_X2_309 (fE := fE) (lE := lE) S hS hB g13 hv14 hl.1 ⟨(by show _ ≤ (fE + 8); omega), (by show _ ≤ (lE + 279); omega)⟩ (Nat.le_of_ble_eq_true rfl) ⟨(TL_m hT).1, (TL_m hT).2⟩ dX2_isTaken_56 (fun H locs _ hB => ?_)
    refine lv_iload hx hb dX2_isTaken_59 (lv_at hl 0 rfl) ?_
    have hE9 := TL_e hT hf
    subst hE9
    exact bt_z S hr hlocks hB (by omega) hnv2 dX2_isTaken_61
  · replace hf := it_f c12 hf
    refine lv_aload_n hx hb dX2_isTaken_40 rfl (lv_at hl 1 rfl) ?_
    refine lv_iload_n hx hb dX2_isTaken_41 rfl (lv_at hl 2 rfl) ?_
    refine lv_iload_n hx hb dX2_isTaken_42 rfl (lv_at hl 3 rfl) ?_
    refine lv_iload_n hx hb dX2_isTaken_43 rfl (lv_at hl 4 rfl) ?_
    refine lv_iload hx hb dX2_isTaken_44 (lv_at hl 5 rfl) ?_
    refine lv_iload hx hb dX2_isTaken_46 (lv_at hl 6 rfl) ?_
    obtain ⟨g16, hf⟩ := gd_t hf
    obtain ⟨v17, hv17, hf⟩ := ob_s hf
    obtain ⟨o18, hf, hT⟩ := TL_c hT hf
    refine mc_X2_306 (fE := fE) (lE := lE) S hS hB g16 hv17 hl.1 ⟨(by show _ ≤ (fE + 8); omega), (by show _ ≤ (lE + 279); omega)⟩ (Nat.le_of_ble_eq_true rfl) ⟨(TL_m hT).1, (TL_m hT).2⟩ dX2_isTaken_48 (fun H locs _ hB => ?_)
    refine lv_goto (tgt := 59) hx hb dX2_isTaken_51 (by decide) ?_
    refine lv_iload hx hb dX2_isTaken_59 (lv_at hl 0 rfl) ?_
    have hE9 := TL_e hT hf
    subst hE9
    exact bt_z S hr hlocks hB (by omega) hnv2 dX2_isTaken_61
set_option maxRecDepth 100000 in
theorem mc_X2_324 {o : Nat} {a0 : Int32} {a1 : Int32} {a2 : Int32} {a3 : Int32} {a4 : Int32} {out : Int32 × AH × Nat × Nat} (S : CallFix p m c cc nL s args lw_all RX2) (hS : SK G E.1 hSites A s) (hB : BI G A s.heap h nx H locs) (ho : isO h o 1 = true) (hf : f_X2_isTaken E h nx o a0 a1 a2 a3 a4 = some out) (hsz : ls.size = nL) (hR : (fE + 8) + 1 ≤ R.frames ∧ 8 + (7 + 11) + (lE + 279) ≤ R.locals) (hW : (rest.map fun v => v.category).sum ≤ 8) (hcs : cells + out.2.2.1 ≤ R.cells ∧ slots + out.2.2.2 ≤ R.slots) (hdg : decode cc pc = .ok (.invokevirtual 324, 3))  (kk : ∀ (H1 : Heap) (locs1 : List Loc), (narrow .boolean (.int out.1) = .int out.1) → BI G A s.heap out.2.1 (nx + out.2.2.1) H1 locs1 → W p l e R s m args below meth c H1 locs1 (cells + out.2.2.1) (slots + out.2.2.2) Q (F0 m (pc + 3) ls (.int out.1 :: rest))) : W p l e R s m args below meth c H locs cells slots Q (F0 m pc ls (.int a4 :: .int a3 :: .int a2 :: .int a1 :: .int a0 :: .ref o :: rest)) := by
  have hN := hS.2.1
  obtain ⟨fs, he⟩ := isO_s ho
  exact br_w (va_runV (As := [.int a0, .int a1, .int a2, .int a3, .int a4]) S (mm_X2_isTaken (l := l) (G := G) (fE := fE) (lE := lE) hf) (cwV 5 S.2.2.2.2 (lw_V q1428 q1430 qs55 q178 q1431) rfl rfl rfl hd_X2_isTaken hR) (bPreV hS hB (ci := 1) rfl he) rfl rfl hsz rfl (lv_room hW) hdg hcs) hB kk
theorem hd_X2_offersOne : yX2_offersOne.cls = RX2 ∧ yX2_offersOne.cls ≠ "java/lang/invoke/MethodHandle" ∧ yX2_offersOne.cls ≠ "java/lang/invoke/VarHandle" ∧ (parseMethodDescriptor yX2_offersOne.desc).map (fun d => d.parameters.length) = some 1 := by decide +kernel
set_option maxHeartbeats 4000000 in
set_option maxRecDepth 100000 in
theorem mm_X2_offersOne {o : Nat} {a0 : Int32} {out : Unit × AH × Nat × Nat} (hE : IfOK l G E fE lE) (hf : f_X2_offersOne E h nx o a0 = some out) : Met l yX2_offersOne (ws_ yX2_offersOne cX2_offersOne 7 none) (rC (fE + 9) (lE + 305) out.2.2.1 out.2.2.2) (bPc G E.1 hSites h nx [.ref o, .int a0]) (bQ G none True out.2.1 (nx + out.2.2.1) (AA h nx)) out.2.2.1 out.2.2.2 (AA h nx) := by
  refine bGo (by decide +kernel) (Nat.le_of_ble_eq_true rfl) (fun p e s m below meth c ls S hr hlocks hin hnm hS hB hl => ?_)
  have S : CallFix p m c cX2_offersOne 7 s _ lw_all RX2 := S
  obtain ⟨hx, hb, hml, hown, hts⟩ := id S
  have hl : lv_has ls 7 [(0, .ref o), (1, .int a0)] := hl
  have w17 : ∀ (n : Nat) , ∀ (x0 : Nat) (x1 : Int32) (x2 : Int32) (x3 : Int32) (x4 : Int32) (x5 : Int32) (hc : AH) (nc : Nat) (ls : Array Slot) (H : Heap) (locs : List Loc) (ce sl : Nat) (o1 : Unit × AH × Nat × Nat), BI G (AA h nx) s.heap hc nc H locs → nc = nx + ce → TL out o1 ce sl → lv_has ls 7 [(0, .ref x0), (1, .int x1), (2, .int x2), (3, .int x3), (4, .int x4), (5, .int x5)] → f_X2_offersOne_17 n E x0 x1 x2 x3 x4 x5 hc nc = some o1 → W p l e (rC (fE + 9) (lE + 305) out.2.2.1 out.2.2.2) s m ([.ref o, .int a0] : List Value).toArray below meth c H locs ce sl (MQ below (bQ G none True out.2.1 (nx + out.2.2.1) (AA h nx)) ([.ref o, .int a0] : List Value).toArray s out.2.2.1 out.2.2.2 (AA h nx)) (F0 m 17 ls []) := by
    intro n
    induction n with
    | zero =>
      intro x0 x1 x2 x3 x4 x5 hc nc ls H locs ce sl o1 hB hn hT hl hf
      exact absurd hf (by rw [f_X2_offersOne_17]; exact nofun)
    | succ n ih =>
      intro x0 x1 x2 x3 x4 x5 hc nc ls H locs ce sl o1 hB hn hT hl hf
      rw [f_X2_offersOne_17] at hf
      refine lv_iload hx hb dX2_offersOne_17 (lv_at hl 5 rfl) ?_
      refine lv_iconst hx hb dX2_offersOne_19 kc_i3 ?_
      refine lv_icmp_gt (tgt := 66) hx hb dX2_offersOne_20 (by decide) (fun c1 => ?_) (fun c1 => ?_)
      · replace hf := it_t c1 hf
        have hE9 := TL_e hT hf
        subst hE9
        exact bt_v S hr hlocks hB (by omega) trivial dX2_offersOne_66
      · replace hf := it_f c1 hf
        refine lv_aload_n hx hb dX2_offersOne_23 rfl (lv_at hl 0 rfl) ?_
        refine lv_iload_n hx hb dX2_offersOne_24 rfl (lv_at hl 1 rfl) ?_
        refine lv_iload_n hx hb dX2_offersOne_25 rfl (lv_at hl 2 rfl) ?_
        obtain ⟨g2, hf⟩ := gd_t hf
        obtain ⟨v3, hv3, hf⟩ := ob_s hf
        obtain ⟨o4, hf, hT⟩ := TL_c hT hf
        refine mc_X2_321 (fE := fE) (lE := lE) S hE hS hB g2 hv3 hl.1 ⟨(by show _ ≤ (fE + 9); omega), (by show _ ≤ (lE + 305); omega)⟩ (Nat.le_of_ble_eq_true rfl) ⟨(TL_m hT).1, (TL_m hT).2⟩ dX2_offersOne_26 (fun H locs _ hB => ?_)
        refine lv_istore (lv' := [(6, .int v3.1), (0, .ref x0), (1, .int x1), (2, .int x2), (3, .int x3), (4, .int x4), (5, .int x5)]) hx hb dX2_offersOne_29 hl (by decide) rfl (fun ls hl => ?_)
        refine lv_iload hx hb dX2_offersOne_31 (lv_at hl 0 rfl) ?_
        refine lv_if_ge (tgt := 37) hx hb dX2_offersOne_33 (by decide) (fun c5 => ?_) (fun c5 => ?_)
        · replace hf := it_t c5 hf
          refine lv_iload_n hx hb dX2_offersOne_37 rfl (lv_at hl 3 rfl) ?_
          refine lv_iconst hx hb dX2_offersOne_38 kc_i1 ?_
          refine lv_iload hx hb dX2_offersOne_39 (lv_at hl 0 rfl) ?_
          refine lv_ishl hx hb dX2_offersOne_41 ?_
          refine lv_ior hx hb dX2_offersOne_42 ?_
          refine lv_istore_n (i := 2) (lv' := [(2, .int (x2 ||| (1 <<< (v3.1 &&& 31)))), (6, .int v3.1), (0, .ref x0), (1, .int x1), (3, .int x3), (4, .int x4), (5, .int x5)]) hx hb dX2_offersOne_43 rfl hl (by decide) rfl (fun ls hl => ?_)
          refine lv_aload_n hx hb dX2_offersOne_44 rfl (lv_at hl 2 rfl) ?_
          refine lv_iload hx hb dX2_offersOne_45 (lv_at hl 1 rfl) ?_
          refine lv_iload_n hx hb dX2_offersOne_47 rfl (lv_at hl 3 rfl) ?_
          refine lv_iload hx hb dX2_offersOne_48 (lv_at hl 6 rfl) ?_
          refine lv_iload_n hx hb dX2_offersOne_50 rfl (lv_at hl 4 rfl) ?_
          refine lv_iload hx hb dX2_offersOne_51 (lv_at hl 5 rfl) ?_
          obtain ⟨g6, hf⟩ := gd_t hf
          obtain ⟨v7, hv7, hf⟩ := ob_s hf
          obtain ⟨o8, hf, hT⟩ := TL_c hT hf
          refine mc_X2_324 (fE := fE) (lE := lE) S hS hB g6 hv7 hl.1 ⟨(by show _ ≤ (fE + 9); omega), (by show _ ≤ (lE + 305); omega)⟩ (Nat.le_of_ble_eq_true rfl) ⟨(TL_m hT).1, (TL_m hT).2⟩ dX2_offersOne_53 (fun H locs hnv7 hB => ?_)
          refine lv_if_eq (tgt := 60) hx hb dX2_offersOne_56 (by decide) (fun c9 => ?_) (fun c9 => ?_)
          · replace hf := it_t c9 hf
            refine lv_iinc (v := (x5 + 1)) (lv' := [(5, .int (x5 + 1)), (2, .int (x2 ||| (1 <<< (v3.1 &&& 31)))), (6, .int v3.1), (0, .ref x0), (1, .int x1), (3, .int x3), (4, .int x4)]) hx hb dX2_offersOne_60 hl (k := 6) rfl rfl (by decide) rfl (fun ls hl => ?_)
            refine lv_goto (tgt := 17) hx hb dX2_offersOne_63 (by decide) ?_
            exact (ih) x0 x1 (x2 ||| (1 <<< (v3.1 &&& 31))) x3 x4 (x5 + 1) v7.2.1 ((nc + v3.2.2.1) + v7.2.2.1) ls H locs ((ce + v3.2.2.1) + v7.2.2.1) ((sl + v3.2.2.2) + v7.2.2.2) o8 hB (by omega) hT (lv_sub (l' := [(0, .ref x0), (1, .int x1), (2, .int (x2 ||| (1 <<< (v3.1 &&& 31)))), (3, .int x3), (4, .int x4), (5, .int (x5 + 1))]) hl [3, 4, 1, 5, 6, 0] rfl) hf
          · replace hf := it_f c9 hf
            have hE9 := TL_e hT hf
            subst hE9
            exact bt_v S hr hlocks hB (by omega) trivial dX2_offersOne_59
        · replace hf := it_f c5 hf
          have hE9 := TL_e hT hf
          subst hE9
          exact bt_v S hr hlocks hB (by omega) trivial dX2_offersOne_36
  have hT : TL out out 0 0 := TL_0
  rw [f_X2_offersOne] at hf
  refine lv_iconst hx hb dX2_offersOne_0 kc_i0 ?_
  refine lv_istore_n (i := 2) (lv' := [(2, .int 0), (0, .ref o), (1, .int a0)]) hx hb dX2_offersOne_1 rfl hl (by decide) rfl (fun ls hl => ?_)
  refine lv_aload_n hx hb dX2_offersOne_2 rfl (lv_at hl 1 rfl) ?_
  refine lv_iload_n hx hb dX2_offersOne_3 rfl (lv_at hl 2 rfl) ?_
  obtain ⟨g1, hf⟩ := gd_t hf
  obtain ⟨v2, hv2, hf⟩ := ob_s hf
  refine mc_X2_254 (fE := fE) (lE := lE) S hS hB g1 hv2 hl.1 ⟨(by show _ ≤ (fE + 9); omega), (by show _ ≤ (lE + 305); omega)⟩ (Nat.le_of_ble_eq_true rfl) ⟨(TL_m hT).1, (TL_m hT).2⟩ dX2_offersOne_4 (fun hnv2 => ?_)
  refine lv_istore_n (i := 3) (lv' := [(3, .int v2), (2, .int 0), (0, .ref o), (1, .int a0)]) hx hb dX2_offersOne_7 rfl hl (by decide) rfl (fun ls hl => ?_)
  refine lv_aload_n hx hb dX2_offersOne_8 rfl (lv_at hl 2 rfl) ?_
  obtain ⟨g3, hf⟩ := gd_t hf
  obtain ⟨v4, hv4, hf⟩ := ob_s hf
  refine mc_X2_260 (fE := fE) (lE := lE) S hS hB g3 hv4 hl.1 ⟨(by show _ ≤ (fE + 9); omega), (by show _ ≤ (lE + 305); omega)⟩ (Nat.le_of_ble_eq_true rfl) ⟨(TL_m hT).1, (TL_m hT).2⟩ dX2_offersOne_9 (fun hnv4 => ?_)
  refine lv_istore (lv' := [(4, .int v4), (3, .int v2), (2, .int 0), (0, .ref o), (1, .int a0)]) hx hb dX2_offersOne_12 hl (by decide) rfl (fun ls hl => ?_)
  refine lv_iconst hx hb dX2_offersOne_14 kc_i1 ?_
  refine lv_istore (lv' := [(5, .int 1), (4, .int v4), (3, .int v2), (2, .int 0), (0, .ref o), (1, .int a0)]) hx hb dX2_offersOne_15 hl (by decide) rfl (fun ls hl => ?_)
  exact (w17 FU) o a0 0 v2 v4 1 h nx ls s.heap [] 0 0 out hB (by omega) hT (lv_sub (l' := [(0, .ref o), (1, .int a0), (2, .int 0), (3, .int v2), (4, .int v4), (5, .int 1)]) hl [4, 5, 3, 2, 1, 0] rfl) hf
set_option maxRecDepth 100000 in
theorem mc_X2_331 {o : Nat} {a0 : Int32} {out : Unit × AH × Nat × Nat} (S : CallFix p m c cc nL s args lw_all RX2) (hE : IfOK l G E fE lE) (hS : SK G E.1 hSites A s) (hB : BI G A s.heap h nx H locs) (ho : isO h o 1 = true) (hf : f_X2_offersOne E h nx o a0 = some out) (hsz : ls.size = nL) (hR : (fE + 9) + 1 ≤ R.frames ∧ 8 + (7 + 11) + (lE + 305) ≤ R.locals) (hW : (rest.map fun v => v.category).sum ≤ 8) (hcs : cells + out.2.2.1 ≤ R.cells ∧ slots + out.2.2.2 ≤ R.slots) (hdg : decode cc pc = .ok (.invokevirtual 331, 3))  (kk : ∀ (H1 : Heap) (locs1 : List Loc), True → BI G A s.heap out.2.1 (nx + out.2.2.1) H1 locs1 → W p l e R s m args below meth c H1 locs1 (cells + out.2.2.1) (slots + out.2.2.2) Q (F0 m (pc + 3) ls (rest))) : W p l e R s m args below meth c H locs cells slots Q (F0 m pc ls (.int a0 :: .ref o :: rest)) := by
  have hN := hS.2.1
  obtain ⟨fs, he⟩ := isO_s ho
  exact br_v (va_runV (As := [.int a0]) S (mm_X2_offersOne hE hf) (cwV 1 S.2.2.2.2 (lw_V q1419 q1421 qs53 q178 q1422) rfl rfl rfl hd_X2_offersOne hR) (bPreV hS hB (ci := 1) rfl he) rfl rfl hsz rfl (lv_room hW) hdg hcs) hB kk
theorem hd_X2_ends : yX2_ends.cls = RX2 ∧ yX2_ends.cls ≠ "java/lang/invoke/MethodHandle" ∧ yX2_ends.cls ≠ "java/lang/invoke/VarHandle" ∧ (parseMethodDescriptor yX2_ends.desc).map (fun d => d.parameters.length) = some 0 := by decide +kernel
set_option maxHeartbeats 4000000 in
set_option maxRecDepth 100000 in
theorem mm_X2_ends {o : Nat} {out : Int32 × AH × Nat × Nat} (hE : IfOK l G E fE lE) (hf : f_X2_ends E h nx o = some out) : Met l yX2_ends (ws_ yX2_ends cX2_ends 4 (some .int)) (rC (fE + 10) (lE + 331) out.2.2.1 out.2.2.2) (bPc G E.1 hSites h nx [.ref o]) (bQ G (some (.int out.1)) True out.2.1 (nx + out.2.2.1) (AA h nx)) out.2.2.1 out.2.2.2 (AA h nx) := by
  refine bGo (by decide +kernel) (Nat.le_of_ble_eq_true rfl) (fun p e s m below meth c ls S hr hlocks hin hnm hS hB hl => ?_)
  have S : CallFix p m c cX2_ends 4 s _ lw_all RX2 := S
  obtain ⟨hx, hb, hml, hown, hts⟩ := id S
  have hl : lv_has ls 4 [(0, .ref o)] := hl
  have w104 : ∀ (k54 : Nat → Int32 → Int32 → Int32 → AH → Nat → Option (Int32 × AH × Nat × Nat)), (∀ (b0 : Nat) (b1 : Int32) (b2 : Int32) (b3 : Int32) (b4 : AH) (b5 : Nat) (ls : Array Slot) (H : Heap) (locs : List Loc) (ce sl : Nat) (o1 : Int32 × AH × Nat × Nat), BI G (AA h nx) s.heap b4 b5 H locs → b5 = nx + ce → TL out o1 ce sl → lv_has ls 4 [(0, .ref b0), (1, .int b1), (2, .int b2), (3, .int b3)] → k54 b0 b1 b2 b3 b4 b5 = some o1 → W p l e (rC (fE + 10) (lE + 331) out.2.2.1 out.2.2.2) s m ([.ref o] : List Value).toArray below meth c H locs ce sl (MQ below (bQ G (some (.int out.1)) True out.2.1 (nx + out.2.2.1) (AA h nx)) ([.ref o] : List Value).toArray s out.2.2.1 out.2.2.2 (AA h nx)) (F0 m 54 ls [])) → ∀ (x0 : Nat) (x1 : Int32) (x2 : Int32) (x3 : Int32) (y0 : Nat) (y1 : Int32) (y2 : Int32) (y3 : Int32) (hc : AH) (nc : Nat) (ls : Array Slot) (H : Heap) (locs : List Loc) (ce sl : Nat) (o1 : Int32 × AH × Nat × Nat), BI G (AA h nx) s.heap hc nc H locs → nc = nx + ce → TL out o1 ce sl → lv_has ls 4 [(0, .ref x0), (1, .int x1), (2, .int x2), (3, .int x3)] → f_X2_ends_104 k54 E x0 x1 x2 x3 y0 y1 y2 y3 hc nc = some o1 → W p l e (rC (fE + 10) (lE + 331) out.2.2.1 out.2.2.2) s m ([.ref o] : List Value).toArray below meth c H locs ce sl (MQ below (bQ G (some (.int out.1)) True out.2.1 (nx + out.2.2.1) (AA h nx)) ([.ref o] : List Value).toArray s out.2.2.1 out.2.2.2 (AA h nx)) (F0 m 104 ls [.int y3, .int y2, .int y1, .ref y0]) := by
    intro k54 hk54 x0 x1 x2 x3 y0 y1 y2 y3 hc nc ls H locs ce sl o1 hB hn hT hl hf
    rw [f_X2_ends_104] at hf
    obtain ⟨v1, hv1, hf⟩ := ob_s hf
    refine mc_X2_234 S hS.1 hS.2.1 hv1 hl.1 ⟨(by show _ ≤ (fE + 10); omega), (by show _ ≤ (lE + 331); omega)⟩ (Nat.le_of_ble_eq_true rfl) ⟨(TL_m hT).1, (TL_m hT).2⟩ dX2_ends_104 (fun _ => ?_)
    refine lv_iadd hx hb dX2_ends_107 ?_
    obtain ⟨h2, hh2, hf⟩ := ob_s hf
    refine b_iast S hS.1 hB hh2 dX2_ends_108 (fun H locs hB => ?_)
    refine lv_iinc (v := (x3 + 1)) (lv' := [(3, .int (x3 + 1)), (0, .ref x0), (1, .int x1), (2, .int x2)]) hx hb dX2_ends_109 hl (k := 3) rfl rfl (by decide) rfl (fun ls hl => ?_)
    refine lv_goto (tgt := 54) hx hb dX2_ends_112 (by decide) ?_
    exact hk54 x0 x1 x2 (x3 + 1) h2 nc ls H locs ce sl o1 hB (by omega) hT (lv_sub (l' := [(0, .ref x0), (1, .int x1), (2, .int x2), (3, .int (x3 + 1))]) hl [1, 2, 3, 0] rfl) hf
  have w166 : ∀ (k117 : Nat → Int32 → Int32 → AH → Nat → Option (Int32 × AH × Nat × Nat)), (∀ (b0 : Nat) (b1 : Int32) (b2 : Int32) (b3 : AH) (b4 : Nat) (ls : Array Slot) (H : Heap) (locs : List Loc) (ce sl : Nat) (o1 : Int32 × AH × Nat × Nat), BI G (AA h nx) s.heap b3 b4 H locs → b4 = nx + ce → TL out o1 ce sl → lv_has ls 4 [(0, .ref b0), (1, .int b1), (3, .int b2)] → k117 b0 b1 b2 b3 b4 = some o1 → W p l e (rC (fE + 10) (lE + 331) out.2.2.1 out.2.2.2) s m ([.ref o] : List Value).toArray below meth c H locs ce sl (MQ below (bQ G (some (.int out.1)) True out.2.1 (nx + out.2.2.1) (AA h nx)) ([.ref o] : List Value).toArray s out.2.2.1 out.2.2.2 (AA h nx)) (F0 m 117 ls [])) → ∀ (x0 : Nat) (x1 : Int32) (x3 : Int32) (hc : AH) (nc : Nat) (ls : Array Slot) (H : Heap) (locs : List Loc) (ce sl : Nat) (o1 : Int32 × AH × Nat × Nat), BI G (AA h nx) s.heap hc nc H locs → nc = nx + ce → TL out o1 ce sl → lv_has ls 4 [(0, .ref x0), (1, .int x1), (3, .int x3)] → f_X2_ends_166 k117 E x0 x1 x3 hc nc = some o1 → W p l e (rC (fE + 10) (lE + 331) out.2.2.1 out.2.2.2) s m ([.ref o] : List Value).toArray below meth c H locs ce sl (MQ below (bQ G (some (.int out.1)) True out.2.1 (nx + out.2.2.1) (AA h nx)) ([.ref o] : List Value).toArray s out.2.2.1 out.2.2.2 (AA h nx)) (F0 m 166 ls []) := by
    intro k117 hk117 x0 x1 x3 hc nc ls H locs ce sl o1 hB hn hT hl hf
    rw [f_X2_ends_166] at hf
    refine lv_aload_n hx hb dX2_ends_166 rfl (lv_at hl 0 rfl) ?_
    obtain ⟨v1, hv1, hf⟩ := ob_s hf
    refine bg_X2_59 S hS hB (vR_s hv1) dX2_ends_167 ?_
    refine lv_iload_n hx hb dX2_ends_170 rfl (lv_at hl 2 rfl) ?_
    refine lv_iconst hx hb dX2_ends_171 kc_i0 ?_
    obtain ⟨h2, hh2, hf⟩ := ob_s hf
    refine b_zast S hS.1 hB hh2 dX2_ends_172 (fun H locs hB => ?_)
    refine lv_iinc (v := (x3 + 1)) (lv' := [(3, .int (x3 + 1)), (0, .ref x0), (1, .int x1)]) hx hb dX2_ends_173 hl (k := 2) rfl rfl (by decide) rfl (fun ls hl => ?_)
    refine lv_goto (tgt := 117) hx hb dX2_ends_176 (by decide) ?_
    exact hk117 x0 x1 (x3 + 1) h2 nc ls H locs ce sl o1 hB (by omega) hT (lv_sub (l' := [(0, .ref x0), (1, .int x1), (3, .int (x3 + 1))]) hl [1, 2, 0] rfl) hf
  have w117 : ∀ (n : Nat) , ∀ (x0 : Nat) (x1 : Int32) (x3 : Int32) (hc : AH) (nc : Nat) (ls : Array Slot) (H : Heap) (locs : List Loc) (ce sl : Nat) (o1 : Int32 × AH × Nat × Nat), BI G (AA h nx) s.heap hc nc H locs → nc = nx + ce → TL out o1 ce sl → lv_has ls 4 [(0, .ref x0), (1, .int x1), (3, .int x3)] → f_X2_ends_117 n E x0 x1 x3 hc nc = some o1 → W p l e (rC (fE + 10) (lE + 331) out.2.2.1 out.2.2.2) s m ([.ref o] : List Value).toArray below meth c H locs ce sl (MQ below (bQ G (some (.int out.1)) True out.2.1 (nx + out.2.2.1) (AA h nx)) ([.ref o] : List Value).toArray s out.2.2.1 out.2.2.2 (AA h nx)) (F0 m 117 ls []) := by
    intro n
    induction n with
    | zero =>
      intro x0 x1 x3 hc nc ls H locs ce sl o1 hB hn hT hl hf
      exact absurd hf (by rw [f_X2_ends_117]; exact nofun)
    | succ n ih =>
      intro x0 x1 x3 hc nc ls H locs ce sl o1 hB hn hT hl hf
      rw [f_X2_ends_117] at hf
      refine lv_iload_n hx hb dX2_ends_117 rfl (lv_at hl 2 rfl) ?_
      refine lv_aload_n hx hb dX2_ends_118 rfl (lv_at hl 0 rfl) ?_
      obtain ⟨v1, hv1, hf⟩ := ob_s hf
      refine bg_X2_3 S hS hB (vR_s hv1) dX2_ends_119 ?_
      obtain ⟨v2, hv2, hf⟩ := ob_s hf
      refine bg_X2_146 S hS hB (vR_s hv2) dX2_ends_122 ?_
      obtain ⟨g3, hf⟩ := gd_t hf
      obtain ⟨v4, hv4, hf⟩ := ob_s hf
      refine mc_X2_149 (fE := fE) (lE := lE) S hS hB g3 hv4 hl.1 ⟨(by show _ ≤ (fE + 10); omega), (by show _ ≤ (lE + 331); omega)⟩ (Nat.le_of_ble_eq_true rfl) ⟨(TL_m hT).1, (TL_m hT).2⟩ dX2_ends_125 (fun _ => ?_)
      refine lv_icmp_ge (tgt := 179) hx hb dX2_ends_128 (by decide) (fun c5 => ?_) (fun c5 => ?_)
      · replace hf := it_t c5 hf
        refine lv_aload_n hx hb dX2_ends_179 rfl (lv_at hl 0 rfl) ?_
        refine lv_dup hx hb dX2_ends_180 rfl ?_
        obtain ⟨v6, hv6, hf⟩ := ob_s hf
        refine bg_X2_138 S hS hB (vI_s hv6) dX2_ends_181 ?_
        refine lv_iconst hx hb dX2_ends_184 kc_i1 ?_
        refine lv_iadd hx hb dX2_ends_185 ?_
        obtain ⟨h7, hh7, hf⟩ := ob_s hf
        refine bp_X2_138 S hS hB hh7 dX2_ends_186 (fun H locs hB => ?_)
        refine lv_aload_n hx hb dX2_ends_189 rfl (lv_at hl 0 rfl) ?_
        obtain ⟨v8, hv8, hf⟩ := ob_s hf
        refine bg_X2_67 S hS hB (vR_s hv8) dX2_ends_190 ?_
        obtain ⟨g9, hf⟩ := gd_t hf
        obtain ⟨v10, hv10, hf⟩ := ob_s hf
        refine mc_X2_149 (fE := fE) (lE := lE) S hS hB g9 hv10 hl.1 ⟨(by show _ ≤ (fE + 10); omega), (by show _ ≤ (lE + 331); omega)⟩ (Nat.le_of_ble_eq_true rfl) ⟨(TL_m hT).1, (TL_m hT).2⟩ dX2_ends_193 (fun _ => ?_)
        refine lv_iload_n hx hb dX2_ends_196 rfl (lv_at hl 1 rfl) ?_
        refine lv_isub hx hb dX2_ends_197 ?_
        have hE9 := TL_e hT hf
        subst hE9
        exact bt_i S hr hlocks hB (by omega) trivial dX2_ends_198
      · replace hf := it_f c5 hf
        refine lv_aload_n hx hb dX2_ends_131 rfl (lv_at hl 0 rfl) ?_
        obtain ⟨v11, hv11, hf⟩ := ob_s hf
        refine bg_X2_31 S hS hB (vR_s hv11) dX2_ends_132 ?_
        refine lv_iload_n hx hb dX2_ends_135 rfl (lv_at hl 2 rfl) ?_
        refine lv_iconst hx hb dX2_ends_136 kc_i0 ?_
        obtain ⟨h12, hh12, hf⟩ := ob_s hf
        refine b_iast S hS.1 hB hh12 dX2_ends_137 (fun H locs hB => ?_)
        refine lv_aload_n hx hb dX2_ends_138 rfl (lv_at hl 0 rfl) ?_
        obtain ⟨v13, hv13, hf⟩ := ob_s hf
        refine bg_X2_25 S hS hB (vR_s hv13) dX2_ends_139 ?_
        refine lv_iload_n hx hb dX2_ends_142 rfl (lv_at hl 2 rfl) ?_
        obtain ⟨v14, hv14, hf⟩ := ob_s hf
        refine b_iald S hS.1 hB hv14 dX2_ends_143 ?_
        refine lv_if_le (tgt := 166) hx hb dX2_ends_144 (by decide) (fun c15 => ?_) (fun c15 => ?_)
        · replace hf := it_t c15 hf
          exact (w166 (f_X2_ends_117 n E) (ih)) x0 x1 x3 h12 nc ls H locs ce sl o1 hB (by omega) hT hl hf
        · replace hf := it_f c15 hf
          refine lv_aload_n hx hb dX2_ends_147 rfl (lv_at hl 0 rfl) ?_
          obtain ⟨v16, hv16, hf⟩ := ob_s hf
          refine bg_X2_59 S hS hB (vR_s hv16) dX2_ends_148 ?_
          refine lv_iload_n hx hb dX2_ends_151 rfl (lv_at hl 2 rfl) ?_
          obtain ⟨v17, hv17, hf⟩ := ob_s hf
          refine b_zald S hS.1 hB hv17 dX2_ends_152 ?_
          refine lv_if_ne (tgt := 166) hx hb dX2_ends_153 (by decide) (fun c18 => ?_) (fun c18 => ?_)
          · replace hf := it_f c18 hf
            exact (w166 (f_X2_ends_117 n E) (ih)) x0 x1 x3 h12 nc ls H locs ce sl o1 hB (by omega) hT hl hf
          · replace hf := it_t c18 hf
            refine lv_aload_n hx hb dX2_ends_156 rfl (lv_at hl 0 rfl) ?_
            obtain ⟨v19, hv19, hf⟩ := ob_s hf
            refine bg_X2_25 S hS hB (vR_s hv19) dX2_ends_157 ?_
            refine lv_iload_n hx hb dX2_ends_160 rfl (lv_at hl 2 rfl) ?_
            refine lv_dup2_11 hx hb dX2_ends_161 rfl rfl ?_
            obtain ⟨v20, hv20, hf⟩ := ob_s hf
            refine b_iald S hS.1 hB hv20 dX2_ends_162 ?_
            refine lv_iconst hx hb dX2_ends_163 kc_i1 ?_
            refine lv_isub hx hb dX2_ends_164 ?_
            obtain ⟨h21, hh21, hf⟩ := ob_s hf
            refine b_iast S hS.1 hB hh21 dX2_ends_165 (fun H locs hB => ?_)
            exact (w166 (f_X2_ends_117 n E) (ih)) x0 x1 x3 h21 nc ls H locs ce sl o1 hB (by omega) hT hl hf
  have w54 : ∀ (n : Nat) , ∀ (x0 : Nat) (x1 : Int32) (x2 : Int32) (x3 : Int32) (hc : AH) (nc : Nat) (ls : Array Slot) (H : Heap) (locs : List Loc) (ce sl : Nat) (o1 : Int32 × AH × Nat × Nat), BI G (AA h nx) s.heap hc nc H locs → nc = nx + ce → TL out o1 ce sl → lv_has ls 4 [(0, .ref x0), (1, .int x1), (2, .int x2), (3, .int x3)] → f_X2_ends_54 n E x0 x1 x2 x3 hc nc = some o1 → W p l e (rC (fE + 10) (lE + 331) out.2.2.1 out.2.2.2) s m ([.ref o] : List Value).toArray below meth c H locs ce sl (MQ below (bQ G (some (.int out.1)) True out.2.1 (nx + out.2.2.1) (AA h nx)) ([.ref o] : List Value).toArray s out.2.2.1 out.2.2.2 (AA h nx)) (F0 m 54 ls []) := by
    intro n
    induction n with
    | zero =>
      intro x0 x1 x2 x3 hc nc ls H locs ce sl o1 hB hn hT hl hf
      exact absurd hf (by rw [f_X2_ends_54]; exact nofun)
    | succ n ih =>
      intro x0 x1 x2 x3 hc nc ls H locs ce sl o1 hB hn hT hl hf
      rw [f_X2_ends_54] at hf
      refine lv_iload_n hx hb dX2_ends_54 rfl (lv_at hl 3 rfl) ?_
      refine lv_aload_n hx hb dX2_ends_55 rfl (lv_at hl 0 rfl) ?_
      obtain ⟨v1, hv1, hf⟩ := ob_s hf
      refine bg_X2_3 S hS hB (vR_s hv1) dX2_ends_56 ?_
      obtain ⟨v2, hv2, hf⟩ := ob_s hf
      refine bg_X2_289 S hS hB (vR_s hv2) dX2_ends_59 ?_
      obtain ⟨g3, hf⟩ := gd_t hf
      obtain ⟨v4, hv4, hf⟩ := ob_s hf
      refine mc_X2_149 (fE := fE) (lE := lE) S hS hB g3 hv4 hl.1 ⟨(by show _ ≤ (fE + 10); omega), (by show _ ≤ (lE + 331); omega)⟩ (Nat.le_of_ble_eq_true rfl) ⟨(TL_m hT).1, (TL_m hT).2⟩ dX2_ends_62 (fun _ => ?_)
      refine lv_icmp_ge (tgt := 115) hx hb dX2_ends_65 (by decide) (fun c5 => ?_) (fun c5 => ?_)
      · replace hf := it_t c5 hf
        refine lv_iconst hx hb dX2_ends_115 kc_i0 ?_
        refine lv_istore_n (i := 3) (lv' := [(3, .int 0), (0, .ref x0), (1, .int x1), (2, .int x2)]) hx hb dX2_ends_116 rfl hl (by decide) rfl (fun ls hl => ?_)
        exact (w117 FU) x0 x1 0 hc nc ls H locs ce sl o1 hB (by omega) hT (lv_sub (l' := [(0, .ref x0), (1, .int x1), (3, .int 0)]) hl [1, 2, 0] rfl) hf
      · replace hf := it_f c5 hf
        refine lv_iload_n hx hb dX2_ends_68 rfl (lv_at hl 2 rfl) ?_
        refine lv_iload_n hx hb dX2_ends_69 rfl (lv_at hl 3 rfl) ?_
        refine lv_ishr hx hb dX2_ends_70 ?_
        refine lv_iconst hx hb dX2_ends_71 kc_i1 ?_
        refine lv_iand hx hb dX2_ends_72 ?_
        refine lv_if_ne (tgt := 79) hx hb dX2_ends_73 (by decide) (fun c6 => ?_) (fun c6 => ?_)
        · replace hf := it_f c6 hf
          refine lv_aload_n hx hb dX2_ends_79 rfl (lv_at hl 0 rfl) ?_
          refine lv_iload_n hx hb dX2_ends_80 rfl (lv_at hl 3 rfl) ?_
          obtain ⟨g7, hf⟩ := gd_t hf
          obtain ⟨v8, hv8, hf⟩ := ob_s hf
          obtain ⟨o9, hf, hT⟩ := TL_c hT hf
          refine mc_X2_331 (fE := fE) (lE := lE) S hE hS hB g7 hv8 hl.1 ⟨(by show _ ≤ (fE + 10); omega), (by show _ ≤ (lE + 331); omega)⟩ (Nat.le_of_ble_eq_true rfl) ⟨(TL_m hT).1, (TL_m hT).2⟩ dX2_ends_81 (fun H locs _ hB => ?_)
          refine lv_aload_n hx hb dX2_ends_84 rfl (lv_at hl 0 rfl) ?_
          obtain ⟨v10, hv10, hf⟩ := ob_s hf
          refine bg_X2_49 S hS hB (vR_s hv10) dX2_ends_85 ?_
          refine lv_iload_n hx hb dX2_ends_88 rfl (lv_at hl 3 rfl) ?_
          refine lv_dup2_11 hx hb dX2_ends_89 rfl rfl ?_
          obtain ⟨v11, hv11, hf⟩ := ob_s hf
          refine b_iald S hS.1 hB hv11 dX2_ends_90 ?_
          refine lv_aload_n hx hb dX2_ends_91 rfl (lv_at hl 0 rfl) ?_
          refine lv_iload_n hx hb dX2_ends_92 rfl (lv_at hl 3 rfl) ?_
          obtain ⟨g12, hf⟩ := gd_t hf
          obtain ⟨v13, hv13, hf⟩ := ob_s hf
          refine mc_X2_153 (fE := fE) (lE := lE) S hS hB g12 hv13 hl.1 ⟨(by show _ ≤ (fE + 10); omega), (by show _ ≤ (lE + 331); omega)⟩ (Nat.le_of_ble_eq_true rfl) ⟨(TL_m hT).1, (TL_m hT).2⟩ dX2_ends_93 (fun _ => ?_)
          refine lv_if_ge (tgt := 103) hx hb dX2_ends_96 (by decide) (fun c14 => ?_) (fun c14 => ?_)
          · replace hf := it_t c14 hf
            refine lv_iconst hx hb dX2_ends_103 kc_i0 ?_
            exact (w104 (f_X2_ends_54 n E) (ih)) x0 x1 x2 x3 v10 x3 v11 0 v8.2.1 (nc + v8.2.2.1) ls H locs (ce + v8.2.2.1) (sl + v8.2.2.2) o9 hB (by omega) hT hl hf
          · replace hf := it_f c14 hf
            refine lv_iconst hx hb dX2_ends_99 kc_i1 ?_
            refine lv_goto (tgt := 104) hx hb dX2_ends_100 (by decide) ?_
            exact (w104 (f_X2_ends_54 n E) (ih)) x0 x1 x2 x3 v10 x3 v11 1 v8.2.1 (nc + v8.2.2.1) ls H locs (ce + v8.2.2.1) (sl + v8.2.2.2) o9 hB (by omega) hT hl hf
        · replace hf := it_t c6 hf
          refine lv_goto (tgt := 109) hx hb dX2_ends_76 (by decide) ?_
          refine lv_iinc (v := (x3 + 1)) (lv' := [(3, .int (x3 + 1)), (0, .ref x0), (1, .int x1), (2, .int x2)]) hx hb dX2_ends_109 hl (k := 3) rfl rfl (by decide) rfl (fun ls hl => ?_)
          refine lv_goto (tgt := 54) hx hb dX2_ends_112 (by decide) ?_
          exact (ih) x0 x1 x2 (x3 + 1) hc nc ls H locs ce sl o1 hB (by omega) hT (lv_sub (l' := [(0, .ref x0), (1, .int x1), (2, .int x2), (3, .int (x3 + 1))]) hl [1, 2, 3, 0] rfl) hf
  have w19 : ∀ (n : Nat) , ∀ (x0 : Nat) (x1 : Int32) (x2 : Int32) (x3 : Int32) (hc : AH) (nc : Nat) (ls : Array Slot) (H : Heap) (locs : List Loc) (ce sl : Nat) (o1 : Int32 × AH × Nat × Nat), BI G (AA h nx) s.heap hc nc H locs → nc = nx + ce → TL out o1 ce sl → lv_has ls 4 [(0, .ref x0), (1, .int x1), (2, .int x2), (3, .int x3)] → f_X2_ends_19 n E x0 x1 x2 x3 hc nc = some o1 → W p l e (rC (fE + 10) (lE + 331) out.2.2.1 out.2.2.2) s m ([.ref o] : List Value).toArray below meth c H locs ce sl (MQ below (bQ G (some (.int out.1)) True out.2.1 (nx + out.2.2.1) (AA h nx)) ([.ref o] : List Value).toArray s out.2.2.1 out.2.2.2 (AA h nx)) (F0 m 19 ls []) := by
    intro n
    induction n with
    | zero =>
      intro x0 x1 x2 x3 hc nc ls H locs ce sl o1 hB hn hT hl hf
      exact absurd hf (by rw [f_X2_ends_19]; exact nofun)
    | succ n ih =>
      intro x0 x1 x2 x3 hc nc ls H locs ce sl o1 hB hn hT hl hf
      rw [f_X2_ends_19] at hf
      refine lv_iload_n hx hb dX2_ends_19 rfl (lv_at hl 3 rfl) ?_
      refine lv_aload_n hx hb dX2_ends_20 rfl (lv_at hl 0 rfl) ?_
      obtain ⟨v1, hv1, hf⟩ := ob_s hf
      refine bg_X2_3 S hS hB (vR_s hv1) dX2_ends_21 ?_
      obtain ⟨v2, hv2, hf⟩ := ob_s hf
      refine bg_X2_289 S hS hB (vR_s hv2) dX2_ends_24 ?_
      obtain ⟨g3, hf⟩ := gd_t hf
      obtain ⟨v4, hv4, hf⟩ := ob_s hf
      refine mc_X2_149 (fE := fE) (lE := lE) S hS hB g3 hv4 hl.1 ⟨(by show _ ≤ (fE + 10); omega), (by show _ ≤ (lE + 331); omega)⟩ (Nat.le_of_ble_eq_true rfl) ⟨(TL_m hT).1, (TL_m hT).2⟩ dX2_ends_27 (fun _ => ?_)
      refine lv_icmp_ge (tgt := 52) hx hb dX2_ends_30 (by decide) (fun c5 => ?_) (fun c5 => ?_)
      · replace hf := it_t c5 hf
        refine lv_iconst hx hb dX2_ends_52 kc_i0 ?_
        refine lv_istore_n (i := 3) (lv' := [(3, .int 0), (0, .ref x0), (1, .int x1), (2, .int x2)]) hx hb dX2_ends_53 rfl hl (by decide) rfl (fun ls hl => ?_)
        exact (w54 FU) x0 x1 x2 0 hc nc ls H locs ce sl o1 hB (by omega) hT (lv_sub (l' := [(0, .ref x0), (1, .int x1), (2, .int x2), (3, .int 0)]) hl [1, 2, 3, 0] rfl) hf
      · replace hf := it_f c5 hf
        refine lv_iload_n hx hb dX2_ends_33 rfl (lv_at hl 2 rfl) ?_
        refine lv_aload_n hx hb dX2_ends_34 rfl (lv_at hl 0 rfl) ?_
        refine lv_iload_n hx hb dX2_ends_35 rfl (lv_at hl 3 rfl) ?_
        obtain ⟨g6, hf⟩ := gd_t hf
        obtain ⟨v7, hv7, hf⟩ := ob_s hf
        refine mc_X2_328 (fE := fE) (lE := lE) S hS hB g6 hv7 hl.1 ⟨(by show _ ≤ (fE + 10); omega), (by show _ ≤ (lE + 331); omega)⟩ (Nat.le_of_ble_eq_true rfl) ⟨(TL_m hT).1, (TL_m hT).2⟩ dX2_ends_36 (fun hnv7 => ?_)
        obtain ⟨v8, hv8, hf⟩ := ob_s hf
        refine mc_X2_234 S hS.1 hS.2.1 hv8 hl.1 ⟨(by show _ ≤ (fE + 10); omega), (by show _ ≤ (lE + 331); omega)⟩ (Nat.le_of_ble_eq_true rfl) ⟨(TL_m hT).1, (TL_m hT).2⟩ dX2_ends_39 (fun _ => ?_)
        refine lv_iload_n hx hb dX2_ends_42 rfl (lv_at hl 3 rfl) ?_
        refine lv_ishl hx hb dX2_ends_43 ?_
        refine lv_ior hx hb dX2_ends_44 ?_
        refine lv_istore_n (i := 2) (lv' := [(2, .int (x2 ||| (v8 <<< (x3 &&& 31)))), (0, .ref x0), (1, .int x1), (3, .int x3)]) hx hb dX2_ends_45 rfl hl (by decide) rfl (fun ls hl => ?_)
        refine lv_iinc (v := (x3 + 1)) (lv' := [(3, .int (x3 + 1)), (2, .int (x2 ||| (v8 <<< (x3 &&& 31)))), (0, .ref x0), (1, .int x1)]) hx hb dX2_ends_46 hl (k := 3) rfl rfl (by decide) rfl (fun ls hl => ?_)
        refine lv_goto (tgt := 19) hx hb dX2_ends_49 (by decide) ?_
        exact (ih) x0 x1 (x2 ||| (v8 <<< (x3 &&& 31))) (x3 + 1) hc nc ls H locs ce sl o1 hB (by omega) hT (lv_sub (l' := [(0, .ref x0), (1, .int x1), (2, .int (x2 ||| (v8 <<< (x3 &&& 31)))), (3, .int (x3 + 1))]) hl [2, 3, 1, 0] rfl) hf
  have hT : TL out out 0 0 := TL_0
  rw [f_X2_ends] at hf
  refine lv_aload_n hx hb dX2_ends_0 rfl (lv_at hl 0 rfl) ?_
  obtain ⟨v1, hv1, hf⟩ := ob_s hf
  refine bg_X2_67 S hS hB (vR_s hv1) dX2_ends_1 ?_
  obtain ⟨g2, hf⟩ := gd_t hf
  obtain ⟨v3, hv3, hf⟩ := ob_s hf
  refine mc_X2_149 (fE := fE) (lE := lE) S hS hB g2 hv3 hl.1 ⟨(by show _ ≤ (fE + 10); omega), (by show _ ≤ (lE + 331); omega)⟩ (Nat.le_of_ble_eq_true rfl) ⟨(TL_m hT).1, (TL_m hT).2⟩ dX2_ends_4 (fun _ => ?_)
  refine lv_istore_n (i := 1) (lv' := [(1, .int v3), (0, .ref o)]) hx hb dX2_ends_7 rfl hl (by decide) rfl (fun ls hl => ?_)
  refine lv_aload_n hx hb dX2_ends_8 rfl (lv_at hl 1 rfl) ?_
  obtain ⟨v4, hv4, hf⟩ := ob_s hf
  refine bg_X2_71 S hS hB (vR_s hv4) dX2_ends_9 ?_
  obtain ⟨g5, hf⟩ := gd_t hf
  obtain ⟨v6, hv6, hf⟩ := ob_s hf
  obtain ⟨o7, hf, hT⟩ := TL_c hT hf
  refine mc_X2_131 (fE := fE) (lE := lE) S hS hB g5 hv6 hl.1 ⟨(by show _ ≤ (fE + 10); omega), (by show _ ≤ (lE + 331); omega)⟩ (Nat.le_of_ble_eq_true rfl) ⟨(TL_m hT).1, (TL_m hT).2⟩ dX2_ends_12 (fun H locs _ hB => ?_)
  refine lv_iconst hx hb dX2_ends_15 kc_i0 ?_
  refine lv_istore_n (i := 2) (lv' := [(2, .int 0), (1, .int v3), (0, .ref o)]) hx hb dX2_ends_16 rfl hl (by decide) rfl (fun ls hl => ?_)
  refine lv_iconst hx hb dX2_ends_17 kc_i0 ?_
  refine lv_istore_n (i := 3) (lv' := [(3, .int 0), (2, .int 0), (1, .int v3), (0, .ref o)]) hx hb dX2_ends_18 rfl hl (by decide) rfl (fun ls hl => ?_)
  exact (w19 FU) o v3 0 0 v6.2.1 (nx + v6.2.2.1) ls H locs (0 + v6.2.2.1) (0 + v6.2.2.2) o7 hB (by omega) hT (lv_sub (l' := [(0, .ref o), (1, .int v3), (2, .int 0), (3, .int 0)]) hl [3, 2, 1, 0] rfl) hf
set_option maxRecDepth 100000 in
theorem mc_X1_435 {o : Nat} {out : Int32 × AH × Nat × Nat} (S : CallFix p m c cc nL s args lw_all RX1) (hE : IfOK l G E fE lE) (hS : SK G E.1 hSites A s) (hB : BI G A s.heap h nx H locs) (ho : isO h o 1 = true) (hf : f_X2_ends E h nx o = some out) (hsz : ls.size = nL) (hR : (fE + 10) + 1 ≤ R.frames ∧ 8 + (4 + 11) + (lE + 331) ≤ R.locals) (hW : (rest.map fun v => v.category).sum ≤ 8) (hcs : cells + out.2.2.1 ≤ R.cells ∧ slots + out.2.2.2 ≤ R.slots) (hdg : decode cc pc = .ok (.invokevirtual 435, 3))  (kk : ∀ (H1 : Heap) (locs1 : List Loc), True → BI G A s.heap out.2.1 (nx + out.2.2.1) H1 locs1 → W p l e R s m args below meth c H1 locs1 (cells + out.2.2.1) (slots + out.2.2.2) Q (F0 m (pc + 3) ls (.int out.1 :: rest))) : W p l e R s m args below meth c H locs cells slots Q (F0 m pc ls (.ref o :: rest)) := by
  have hN := hS.2.1
  obtain ⟨fs, he⟩ := isO_s ho
  exact br_w (va_runV (As := []) S (mm_X2_ends hE hf) (cwV 0 S.2.2.2.2 (lw_V q1543 q1416 q1417 q178 q1418) rfl rfl rfl hd_X2_ends hR) (bPreV hS hB (ci := 1) rfl he) rfl rfl hsz rfl (lv_room hW) hdg hcs) hB kk
set_option maxRecDepth 100000 in
theorem mc_X2_337 {o : Nat} {out : Int32 × AH × Nat × Nat} (S : CallFix p m c cc nL s args lw_all RX2) (hE : IfOK l G E fE lE) (hS : SK G E.1 hSites A s) (hB : BI G A s.heap h nx H locs) (ho : isO h o 1 = true) (hf : f_X2_ends E h nx o = some out) (hsz : ls.size = nL) (hR : (fE + 10) + 1 ≤ R.frames ∧ 8 + (4 + 11) + (lE + 331) ≤ R.locals) (hW : (rest.map fun v => v.category).sum ≤ 8) (hcs : cells + out.2.2.1 ≤ R.cells ∧ slots + out.2.2.2 ≤ R.slots) (hdg : decode cc pc = .ok (.invokevirtual 337, 3))  (kk : ∀ (H1 : Heap) (locs1 : List Loc), True → BI G A s.heap out.2.1 (nx + out.2.2.1) H1 locs1 → W p l e R s m args below meth c H1 locs1 (cells + out.2.2.1) (slots + out.2.2.2) Q (F0 m (pc + 3) ls (.int out.1 :: rest))) : W p l e R s m args below meth c H locs cells slots Q (F0 m pc ls (.ref o :: rest)) := by
  have hN := hS.2.1
  obtain ⟨fs, he⟩ := isO_s ho
  exact br_w (va_runV (As := []) S (mm_X2_ends hE hf) (cwV 0 S.2.2.2.2 (lw_V q1415 q1416 q1417 q178 q1418) rfl rfl rfl hd_X2_ends hR) (bPreV hS hB (ci := 1) rfl he) rfl rfl hsz rfl (lv_room hW) hdg hcs) hB kk
theorem hd_X2_goes : yX2_goes.cls = RX2 ∧ yX2_goes.cls ≠ "java/lang/invoke/MethodHandle" ∧ yX2_goes.cls ≠ "java/lang/invoke/VarHandle" ∧ (parseMethodDescriptor yX2_goes.desc).map (fun d => d.parameters.length) = some 1 := by decide +kernel
set_option maxHeartbeats 4000000 in
set_option maxRecDepth 100000 in
theorem mm_X2_goes {o : Nat} {a0 : Int32} {out : Unit × AH × Nat × Nat} (hE : IfOK l G E fE lE) (hf : f_X2_goes E h nx o a0 = some out) : Met l yX2_goes (ws_ yX2_goes cX2_goes 3 none) (rC (fE + 11) (lE + 354) out.2.2.1 out.2.2.2) (bPc G E.1 hSites h nx [.ref o, .int a0]) (bQ G none True out.2.1 (nx + out.2.2.1) (AA h nx)) out.2.2.1 out.2.2.2 (AA h nx) := by
  refine bGo (by decide +kernel) (Nat.le_of_ble_eq_true rfl) (fun p e s m below meth c ls S hr hlocks hin hnm hS hB hl => ?_)
  have S : CallFix p m c cX2_goes 3 s _ lw_all RX2 := S
  obtain ⟨hx, hb, hml, hown, hts⟩ := id S
  have hl : lv_has ls 3 [(0, .ref o), (1, .int a0)] := hl
  have w2 : ∀ (n : Nat) , ∀ (x0 : Nat) (x1 : Int32) (x2 : Int32) (hc : AH) (nc : Nat) (ls : Array Slot) (H : Heap) (locs : List Loc) (ce sl : Nat) (o1 : Unit × AH × Nat × Nat), BI G (AA h nx) s.heap hc nc H locs → nc = nx + ce → TL out o1 ce sl → lv_has ls 3 [(0, .ref x0), (1, .int x1), (2, .int x2)] → f_X2_goes_2 n E x0 x1 x2 hc nc = some o1 → W p l e (rC (fE + 11) (lE + 354) out.2.2.1 out.2.2.2) s m ([.ref o, .int a0] : List Value).toArray below meth c H locs ce sl (MQ below (bQ G none True out.2.1 (nx + out.2.2.1) (AA h nx)) ([.ref o, .int a0] : List Value).toArray s out.2.2.1 out.2.2.2 (AA h nx)) (F0 m 2 ls []) := by
    intro n
    induction n with
    | zero =>
      intro x0 x1 x2 hc nc ls H locs ce sl o1 hB hn hT hl hf
      exact absurd hf (by rw [f_X2_goes_2]; exact nofun)
    | succ n ih =>
      intro x0 x1 x2 hc nc ls H locs ce sl o1 hB hn hT hl hf
      rw [f_X2_goes_2] at hf
      refine lv_iload_n hx hb dX2_goes_2 rfl (lv_at hl 2 rfl) ?_
      refine lv_iload_n hx hb dX2_goes_3 rfl (lv_at hl 1 rfl) ?_
      refine lv_icmp_ge (tgt := 23) hx hb dX2_goes_4 (by decide) (fun c1 => ?_) (fun c1 => ?_)
      · replace hf := it_t c1 hf
        have hE9 := TL_e hT hf
        subst hE9
        exact bt_v S hr hlocks hB (by omega) trivial dX2_goes_23
      · replace hf := it_f c1 hf
        refine lv_aload_n hx hb dX2_goes_7 rfl (lv_at hl 0 rfl) ?_
        obtain ⟨g2, hf⟩ := gd_t hf
        obtain ⟨v3, hv3, hf⟩ := ob_s hf
        obtain ⟨o4, hf, hT⟩ := TL_c hT hf
        refine mc_X2_334 (fE := fE) (lE := lE) S hE hS hB g2 hv3 hl.1 ⟨(by show _ ≤ (fE + 11); omega), (by show _ ≤ (lE + 354); omega)⟩ (Nat.le_of_ble_eq_true rfl) ⟨(TL_m hT).1, (TL_m hT).2⟩ dX2_goes_8 (fun H locs _ hB => ?_)
        refine lv_pop hx hb dX2_goes_11 rfl ?_
        refine lv_aload_n hx hb dX2_goes_12 rfl (lv_at hl 0 rfl) ?_
        obtain ⟨g5, hf⟩ := gd_t hf
        obtain ⟨v6, hv6, hf⟩ := ob_s hf
        obtain ⟨o7, hf, hT⟩ := TL_c hT hf
        refine mc_X2_337 (fE := fE) (lE := lE) S hE hS hB g5 hv6 hl.1 ⟨(by show _ ≤ (fE + 11); omega), (by show _ ≤ (lE + 354); omega)⟩ (Nat.le_of_ble_eq_true rfl) ⟨(TL_m hT).1, (TL_m hT).2⟩ dX2_goes_13 (fun H locs _ hB => ?_)
        refine lv_pop hx hb dX2_goes_16 rfl ?_
        refine lv_iinc (v := (x2 + 1)) (lv' := [(2, .int (x2 + 1)), (0, .ref x0), (1, .int x1)]) hx hb dX2_goes_17 hl (k := 2) rfl rfl (by decide) rfl (fun ls hl => ?_)
        refine lv_goto (tgt := 2) hx hb dX2_goes_20 (by decide) ?_
        exact (ih) x0 x1 (x2 + 1) v6.2.1 ((nc + v3.2.2.1) + v6.2.2.1) ls H locs ((ce + v3.2.2.1) + v6.2.2.1) ((sl + v3.2.2.2) + v6.2.2.2) o7 hB (by omega) hT (lv_sub (l' := [(0, .ref x0), (1, .int x1), (2, .int (x2 + 1))]) hl [1, 2, 0] rfl) hf
  have hT : TL out out 0 0 := TL_0
  rw [f_X2_goes] at hf
  refine lv_iconst hx hb dX2_goes_0 kc_i0 ?_
  refine lv_istore_n (i := 2) (lv' := [(2, .int 0), (0, .ref o), (1, .int a0)]) hx hb dX2_goes_1 rfl hl (by decide) rfl (fun ls hl => ?_)
  exact (w2 FU) o a0 0 h nx ls s.heap [] 0 0 out hB (by omega) hT (lv_sub (l' := [(0, .ref o), (1, .int a0), (2, .int 0)]) hl [1, 2, 0] rfl) hf
set_option maxRecDepth 100000 in
theorem mc_X1_400 {o : Nat} {a0 : Int32} {out : Unit × AH × Nat × Nat} (S : CallFix p m c cc nL s args lw_all RX1) (hE : IfOK l G E fE lE) (hS : SK G E.1 hSites A s) (hB : BI G A s.heap h nx H locs) (ho : isO h o 1 = true) (hf : f_X2_goes E h nx o a0 = some out) (hsz : ls.size = nL) (hR : (fE + 11) + 1 ≤ R.frames ∧ 8 + (3 + 11) + (lE + 354) ≤ R.locals) (hW : (rest.map fun v => v.category).sum ≤ 8) (hcs : cells + out.2.2.1 ≤ R.cells ∧ slots + out.2.2.2 ≤ R.slots) (hdg : decode cc pc = .ok (.invokevirtual 400, 3))  (kk : ∀ (H1 : Heap) (locs1 : List Loc), True → BI G A s.heap out.2.1 (nx + out.2.2.1) H1 locs1 → W p l e R s m args below meth c H1 locs1 (cells + out.2.2.1) (slots + out.2.2.2) Q (F0 m (pc + 3) ls (rest))) : W p l e R s m args below meth c H locs cells slots Q (F0 m pc ls (.int a0 :: .ref o :: rest)) := by
  have hN := hS.2.1
  obtain ⟨fs, he⟩ := isO_s ho
  exact br_v (va_runV (As := [.int a0]) S (mm_X2_goes hE hf) (cwV 1 S.2.2.2.2 (lw_V q1398 q1399 q1400 q178 q1401) rfl rfl rfl hd_X2_goes hR) (bPreV hS hB (ci := 1) rfl he) rfl rfl hsz rfl (lv_room hW) hdg hcs) hB kk
theorem hd_X2_couldHave : yX2_couldHave.cls = RX2 ∧ yX2_couldHave.cls ≠ "java/lang/invoke/MethodHandle" ∧ yX2_couldHave.cls ≠ "java/lang/invoke/VarHandle" ∧ (parseMethodDescriptor yX2_couldHave.desc).map (fun d => d.parameters.length) = some 2 := by decide +kernel
set_option maxHeartbeats 4000000 in
set_option maxRecDepth 100000 in
theorem mm_X2_couldHave {o : Nat} {a0 : Int32} {a1 : Int32} {out : Int32} (hf : f_X2_couldHave E h o a0 a1 = some out) : Met l yX2_couldHave (ws_ yX2_couldHave cX2_couldHave 3 (some .boolean)) (rM (fE + 5) (lE + 107)) (bPc G E.1 hSites h nx [.ref o, .int a0, .int a1]) (gR (some (.int out)) (narrow .boolean (.int out) = .int out)) 0 0 (fun _ => False) := by
  refine bGo (by decide +kernel) (Nat.le_of_ble_eq_true rfl) (fun p e s m below meth c ls S hr hlocks hin hnm hS hB hl => ?_)
  have S : CallFix p m c cX2_couldHave 3 s _ lw_all RX2 := S
  obtain ⟨hx, hb, hml, hown, hts⟩ := id S
  have hl : lv_has ls 3 [(0, .ref o), (1, .int a0), (2, .int a1)] := hl
  rw [f_X2_couldHave] at hf
  refine lv_aload_n hx hb dX2_couldHave_0 rfl (lv_at hl 0 rfl) ?_
  refine lv_iload_n hx hb dX2_couldHave_1 rfl (lv_at hl 1 rfl) ?_
  obtain ⟨g1, hf⟩ := gd_t hf
  obtain ⟨v2, hv2, hf⟩ := ob_s hf
  refine mc_X2_183 (fE := fE) (lE := lE) S hS hB g1 hv2 hl.1 ⟨(by show _ ≤ (fE + 5); omega), (by show _ ≤ (lE + 107); omega)⟩ (Nat.le_of_ble_eq_true rfl) ⟨Nat.zero_le _, Nat.zero_le _⟩ dX2_couldHave_2 (fun hnv2 => ?_)
  refine lv_if_eq (tgt := 30) hx hb dX2_couldHave_5 (by decide) (fun c3 => ?_) (fun c3 => ?_)
  · replace hf := it_t c3 hf
    refine lv_iconst hx hb dX2_couldHave_30 kc_i0 ?_
    have hE9 := Option.some.inj hf
    subst hE9
    exact gt_rz S hr hlocks nb0 dX2_couldHave_31
  · replace hf := it_f c3 hf
    refine lv_aload_n hx hb dX2_couldHave_8 rfl (lv_at hl 0 rfl) ?_
    refine lv_iload_n hx hb dX2_couldHave_9 rfl (lv_at hl 1 rfl) ?_
    refine lv_iload_n hx hb dX2_couldHave_10 rfl (lv_at hl 2 rfl) ?_
    obtain ⟨g4, hf⟩ := gd_t hf
    obtain ⟨v5, hv5, hf⟩ := ob_s hf
    refine mc_X2_187 (fE := fE) (lE := lE) S hS hB g4 hv5 hl.1 ⟨(by show _ ≤ (fE + 5); omega), (by show _ ≤ (lE + 107); omega)⟩ (Nat.le_of_ble_eq_true rfl) ⟨Nat.zero_le _, Nat.zero_le _⟩ dX2_couldHave_11 (fun hnv5 => ?_)
    refine lv_if_eq (tgt := 30) hx hb dX2_couldHave_14 (by decide) (fun c6 => ?_) (fun c6 => ?_)
    · replace hf := it_t c6 hf
      refine lv_iconst hx hb dX2_couldHave_30 kc_i0 ?_
      have hE9 := Option.some.inj hf
      subst hE9
      exact gt_rz S hr hlocks nb0 dX2_couldHave_31
    · replace hf := it_f c6 hf
      refine lv_aload_n hx hb dX2_couldHave_17 rfl (lv_at hl 0 rfl) ?_
      refine lv_iload_n hx hb dX2_couldHave_18 rfl (lv_at hl 1 rfl) ?_
      refine lv_iload_n hx hb dX2_couldHave_19 rfl (lv_at hl 2 rfl) ?_
      obtain ⟨g7, hf⟩ := gd_t hf
      obtain ⟨v8, hv8, hf⟩ := ob_s hf
      refine mc_X2_190 (fE := fE) (lE := lE) S hS hB g7 hv8 hl.1 ⟨(by show _ ≤ (fE + 5); omega), (by show _ ≤ (lE + 107); omega)⟩ (Nat.le_of_ble_eq_true rfl) ⟨Nat.zero_le _, Nat.zero_le _⟩ dX2_couldHave_20 (fun hnv8 => ?_)
      refine lv_if_eq (tgt := 30) hx hb dX2_couldHave_23 (by decide) (fun c9 => ?_) (fun c9 => ?_)
      · replace hf := it_t c9 hf
        refine lv_iconst hx hb dX2_couldHave_30 kc_i0 ?_
        have hE9 := Option.some.inj hf
        subst hE9
        exact gt_rz S hr hlocks nb0 dX2_couldHave_31
      · replace hf := it_f c9 hf
        refine lv_iconst hx hb dX2_couldHave_26 kc_i1 ?_
        refine lv_goto (tgt := 31) hx hb dX2_couldHave_27 (by decide) ?_
        have hE9 := Option.some.inj hf
        subst hE9
        exact gt_rz S hr hlocks nb1 dX2_couldHave_31
set_option maxRecDepth 100000 in
theorem mc_X1_439 {o : Nat} {a0 : Int32} {a1 : Int32} {out : Int32} (S : CallFix p m c cc nL s args lw_all RX1) (hS : SK G E.1 hSites A s) (hB : BI G A s.heap h nx H locs) (ho : isO h o 1 = true) (hf : f_X2_couldHave E h o a0 a1 = some out) (hsz : ls.size = nL) (hR : (fE + 5) + 1 ≤ R.frames ∧ 8 + (3 + 11) + (lE + 107) ≤ R.locals) (hW : (rest.map fun v => v.category).sum ≤ 8) (hcs : cells ≤ R.cells ∧ slots ≤ R.slots) (hdg : decode cc pc = .ok (.invokevirtual 439, 3))  (kk : (narrow .boolean (.int out) = .int out) → W p l e R s m args below meth c H locs cells slots Q (F0 m (pc + 3) ls (.int out :: rest))) : W p l e R s m args below meth c H locs cells slots Q (F0 m pc ls (.int a1 :: .int a0 :: .ref o :: rest)) := by
  have hN := hS.2.1
  obtain ⟨fs, he⟩ := isO_s ho
  exact br_r (va_runV (As := [.int a0, .int a1]) S (mm_X2_couldHave (l := l) (G := G) (nx := nx) (fE := fE) (lE := lE) hf) (cwV 2 S.2.2.2.2 (lw_V q1514 q1515 q1516 q178 q1517) rfl rfl rfl hd_X2_couldHave hR) (bPreV hS hB (ci := 1) rfl he) rfl rfl hsz rfl (lv_room hW) hdg hcs) kk
set_option maxRecDepth 100000 in
theorem mc_X11_65 {o : Nat} {a0 : Int32} {a1 : Int32} {out : Int32} (S : CallFix p m c cc nL s args lw_all RX11) (hS : SK G E.1 hSites A s) (hB : BI G A s.heap h nx H locs) (ho : isO h o 1 = true) (hf : f_X2_couldHave E h o a0 a1 = some out) (hsz : ls.size = nL) (hR : (fE + 5) + 1 ≤ R.frames ∧ 8 + (3 + 11) + (lE + 107) ≤ R.locals) (hW : (rest.map fun v => v.category).sum ≤ 8) (hcs : cells ≤ R.cells ∧ slots ≤ R.slots) (hdg : decode cc pc = .ok (.invokevirtual 65, 3))  (kk : (narrow .boolean (.int out) = .int out) → W p l e R s m args below meth c H locs cells slots Q (F0 m (pc + 3) ls (.int out :: rest))) : W p l e R s m args below meth c H locs cells slots Q (F0 m pc ls (.int a1 :: .int a0 :: .ref o :: rest)) := by
  have hN := hS.2.1
  obtain ⟨fs, he⟩ := isO_s ho
  exact br_r (va_runV (As := [.int a0, .int a1]) S (mm_X2_couldHave (l := l) (G := G) (nx := nx) (fE := fE) (lE := lE) hf) (cwV 2 S.2.2.2.2 (lw_V q1742 q1515 q1516 q178 q1517) rfl rfl rfl hd_X2_couldHave hR) (bPreV hS hB (ci := 1) rfl he) rfl rfl hsz rfl (lv_room hW) hdg hcs) kk
set_option maxRecDepth 100000 in
theorem mc_X9_57 {o : Nat} {a0 : Int32} {a1 : Int32} {out : Int32} (S : CallFix p m c cc nL s args lw_all RX9) (hS : SK G E.1 hSites A s) (hB : BI G A s.heap h nx H locs) (ho : isO h o 1 = true) (hf : f_X2_couldHave E h o a0 a1 = some out) (hsz : ls.size = nL) (hR : (fE + 5) + 1 ≤ R.frames ∧ 8 + (3 + 11) + (lE + 107) ≤ R.locals) (hW : (rest.map fun v => v.category).sum ≤ 8) (hcs : cells ≤ R.cells ∧ slots ≤ R.slots) (hdg : decode cc pc = .ok (.invokevirtual 57, 3))  (kk : (narrow .boolean (.int out) = .int out) → W p l e R s m args below meth c H locs cells slots Q (F0 m (pc + 3) ls (.int out :: rest))) : W p l e R s m args below meth c H locs cells slots Q (F0 m pc ls (.int a1 :: .int a0 :: .ref o :: rest)) := by
  have hN := hS.2.1
  obtain ⟨fs, he⟩ := isO_s ho
  exact br_r (va_runV (As := [.int a0, .int a1]) S (mm_X2_couldHave (l := l) (G := G) (nx := nx) (fE := fE) (lE := lE) hf) (cwV 2 S.2.2.2.2 (lw_V q1652 q1515 q1516 q178 q1517) rfl rfl rfl hd_X2_couldHave hR) (bPreV hS hB (ci := 1) rfl he) rfl rfl hsz rfl (lv_room hW) hdg hcs) kk
theorem hd_X2_compareBy : yX2_compareBy.cls = RX2 ∧ yX2_compareBy.cls ≠ "java/lang/invoke/MethodHandle" ∧ yX2_compareBy.cls ≠ "java/lang/invoke/VarHandle" ∧ (parseMethodDescriptor yX2_compareBy.desc).map (fun d => d.parameters.length) = some 4 := by decide +kernel
set_option maxHeartbeats 4000000 in
set_option maxRecDepth 100000 in
theorem mm_X2_compareBy {o : Nat} {a0 : Int32} {a1 : Int32} {a2 : Int32} {a3 : Int32} {out : Int32 × AH × Nat × Nat} (hE : IfOK l G E fE lE) (hf : f_X2_compareBy E h nx o a0 a1 a2 a3 = some out) : Met l yX2_compareBy (ws_ yX2_compareBy cX2_compareBy 6 (some .int)) (rC (fE + 2) (lE + 63) out.2.2.1 out.2.2.2) (bPc G E.1 hSites h nx [.ref o, .int a0, .int a1, .int a2, .int a3]) (bQ G (some (.int out.1)) True out.2.1 (nx + out.2.2.1) (AA h nx)) out.2.2.1 out.2.2.2 (AA h nx) := by
  refine bGo (by decide +kernel) (Nat.le_of_ble_eq_true rfl) (fun p e s m below meth c ls S hr hlocks hin hnm hS hB hl => ?_)
  have S : CallFix p m c cX2_compareBy 6 s _ lw_all RX2 := S
  obtain ⟨hx, hb, hml, hown, hts⟩ := id S
  have hl : lv_has ls 6 [(0, .ref o), (1, .int a0), (2, .int a1), (3, .int a2), (4, .int a3)] := hl
  have hT : TL out out 0 0 := TL_0
  rw [f_X2_compareBy] at hf
  refine lv_aload_n hx hb dX2_compareBy_0 rfl (lv_at hl 0 rfl) ?_
  refine lv_iload_n hx hb dX2_compareBy_1 rfl (lv_at hl 2 rfl) ?_
  obtain ⟨h1, hh1, hf⟩ := ob_s hf
  refine bp_X2_205 S hS hB hh1 dX2_compareBy_2 (fun H locs hB => ?_)
  refine lv_aload_n hx hb dX2_compareBy_5 rfl (lv_at hl 0 rfl) ?_
  refine lv_iload_n hx hb dX2_compareBy_6 rfl (lv_at hl 3 rfl) ?_
  obtain ⟨h2, hh2, hf⟩ := ob_s hf
  refine bp_X2_208 S hS hB hh2 dX2_compareBy_7 (fun H locs hB => ?_)
  refine lv_aload_n hx hb dX2_compareBy_10 rfl (lv_at hl 0 rfl) ?_
  refine lv_iload_n hx hb dX2_compareBy_11 rfl (lv_at hl 1 rfl) ?_
  refine lv_iload_n hx hb dX2_compareBy_12 rfl (lv_at hl 2 rfl) ?_
  refine lv_iload hx hb dX2_compareBy_13 (lv_at hl 4 rfl) ?_
  obtain ⟨g3, hf⟩ := gd_t hf
  obtain ⟨v4, hv4, hf⟩ := ob_s hf
  obtain ⟨o5, hf, hT⟩ := TL_c hT hf
  refine mc_X2_267 (fE := fE) (lE := lE) S hE hS hB g3 hv4 hl.1 ⟨(by show _ ≤ (fE + 2); omega), (by show _ ≤ (lE + 63); omega)⟩ (Nat.le_of_ble_eq_true rfl) ⟨(TL_m hT).1, (TL_m hT).2⟩ dX2_compareBy_15 (fun H locs _ hB => ?_)
  refine lv_istore (lv' := [(5, .int v4.1), (0, .ref o), (1, .int a0), (2, .int a1), (3, .int a2), (4, .int a3)]) hx hb dX2_compareBy_18 hl (by decide) rfl (fun ls hl => ?_)
  refine lv_aload_n hx hb dX2_compareBy_20 rfl (lv_at hl 1 rfl) ?_
  refine lv_iconst hx hb dX2_compareBy_21 kc_i0 ?_
  obtain ⟨h6, hh6, hf⟩ := ob_s hf
  refine bp_X2_208 S hS hB hh6 dX2_compareBy_22 (fun H locs hB => ?_)
  refine lv_iload hx hb dX2_compareBy_25 (lv_at hl 0 rfl) ?_
  have hE9 := TL_e hT hf
  subst hE9
  exact bt_i S hr hlocks hB (by omega) trivial dX2_compareBy_27
set_option maxRecDepth 100000 in
theorem mc_X1_534 {o : Nat} {a0 : Int32} {a1 : Int32} {a2 : Int32} {a3 : Int32} {out : Int32 × AH × Nat × Nat} (S : CallFix p m c cc nL s args lw_all RX1) (hE : IfOK l G E fE lE) (hS : SK G E.1 hSites A s) (hB : BI G A s.heap h nx H locs) (ho : isO h o 1 = true) (hf : f_X2_compareBy E h nx o a0 a1 a2 a3 = some out) (hsz : ls.size = nL) (hR : (fE + 2) + 1 ≤ R.frames ∧ 8 + (6 + 11) + (lE + 63) ≤ R.locals) (hW : (rest.map fun v => v.category).sum ≤ 8) (hcs : cells + out.2.2.1 ≤ R.cells ∧ slots + out.2.2.2 ≤ R.slots) (hdg : decode cc pc = .ok (.invokevirtual 534, 3))  (kk : ∀ (H1 : Heap) (locs1 : List Loc), True → BI G A s.heap out.2.1 (nx + out.2.2.1) H1 locs1 → W p l e R s m args below meth c H1 locs1 (cells + out.2.2.1) (slots + out.2.2.2) Q (F0 m (pc + 3) ls (.int out.1 :: rest))) : W p l e R s m args below meth c H locs cells slots Q (F0 m pc ls (.int a3 :: .int a2 :: .int a1 :: .int a0 :: .ref o :: rest)) := by
  have hN := hS.2.1
  obtain ⟨fs, he⟩ := isO_s ho
  exact br_w (va_runV (As := [.int a0, .int a1, .int a2, .int a3]) S (mm_X2_compareBy hE hf) (cwV 4 S.2.2.2.2 (lw_V q1780 q1781 q1782 q178 q1783) rfl rfl rfl hd_X2_compareBy hR) (bPreV hS hB (ci := 1) rfl he) rfl rfl hsz rfl (lv_room hW) hdg hcs) hB kk
theorem hd_X2_quits : yX2_quits.cls = RX2 ∧ yX2_quits.cls ≠ "java/lang/invoke/MethodHandle" ∧ yX2_quits.cls ≠ "java/lang/invoke/VarHandle" ∧ (parseMethodDescriptor yX2_quits.desc).map (fun d => d.parameters.length) = some 1 := by decide +kernel
set_option maxHeartbeats 4000000 in
set_option maxRecDepth 100000 in
theorem mm_X2_quits {o : Nat} {a0 : Int32} {out : Unit × AH × Nat × Nat} (hf : f_X2_quits E h nx o a0 = some out) : Met l yX2_quits (ws_ yX2_quits cX2_quits 2 none) (rC (fE + 1) (lE + 22) out.2.2.1 out.2.2.2) (bPc G E.1 hSites h nx [.ref o, .int a0]) (bQ G none True out.2.1 (nx + out.2.2.1) (AA h nx)) out.2.2.1 out.2.2.2 (AA h nx) := by
  refine bGo (by decide +kernel) (Nat.le_of_ble_eq_true rfl) (fun p e s m below meth c ls S hr hlocks hin hnm hS hB hl => ?_)
  have S : CallFix p m c cX2_quits 2 s _ lw_all RX2 := S
  obtain ⟨hx, hb, hml, hown, hts⟩ := id S
  have hl : lv_has ls 2 [(0, .ref o), (1, .int a0)] := hl
  have w20 : ∀ (x0 : Nat) (x1 : Int32) (hc : AH) (nc : Nat) (ls : Array Slot) (H : Heap) (locs : List Loc) (ce sl : Nat) (o1 : Unit × AH × Nat × Nat), BI G (AA h nx) s.heap hc nc H locs → nc = nx + ce → TL out o1 ce sl → lv_has ls 2 [(0, .ref x0), (1, .int x1)] → f_X2_quits_20 E x0 x1 hc nc = some o1 → W p l e (rC (fE + 1) (lE + 22) out.2.2.1 out.2.2.2) s m ([.ref o, .int a0] : List Value).toArray below meth c H locs ce sl (MQ below (bQ G none True out.2.1 (nx + out.2.2.1) (AA h nx)) ([.ref o, .int a0] : List Value).toArray s out.2.2.1 out.2.2.2 (AA h nx)) (F0 m 20 ls []) := by
    intro x0 x1 hc nc ls H locs ce sl o1 hB hn hT hl hf
    rw [f_X2_quits_20] at hf
    refine lv_aload_n hx hb dX2_quits_20 rfl (lv_at hl 0 rfl) ?_
    obtain ⟨v1, hv1, hf⟩ := ob_s hf
    refine bg_X2_19 S hS hB (vR_s hv1) dX2_quits_21 ?_
    refine lv_iload_n hx hb dX2_quits_24 rfl (lv_at hl 1 rfl) ?_
    refine lv_iconst hx hb dX2_quits_25 kc_im1 ?_
    obtain ⟨h2, hh2, hf⟩ := ob_s hf
    refine b_iast S hS.1 hB hh2 dX2_quits_26 (fun H locs hB => ?_)
    refine lv_aload_n hx hb dX2_quits_27 rfl (lv_at hl 0 rfl) ?_
    obtain ⟨v3, hv3, hf⟩ := ob_s hf
    refine bg_X2_56 S hS hB (vR_s hv3) dX2_quits_28 ?_
    refine lv_iload_n hx hb dX2_quits_31 rfl (lv_at hl 1 rfl) ?_
    refine lv_iconst hx hb dX2_quits_32 kc_i1 ?_
    obtain ⟨h4, hh4, hf⟩ := ob_s hf
    refine b_zast S hS.1 hB hh4 dX2_quits_33 (fun H locs hB => ?_)
    refine lv_aload_n hx hb dX2_quits_34 rfl (lv_at hl 0 rfl) ?_
    obtain ⟨v5, hv5, hf⟩ := ob_s hf
    refine bg_X2_31 S hS hB (vR_s hv5) dX2_quits_35 ?_
    refine lv_iload_n hx hb dX2_quits_38 rfl (lv_at hl 1 rfl) ?_
    refine lv_iconst hx hb dX2_quits_39 kc_i0 ?_
    obtain ⟨h6, hh6, hf⟩ := ob_s hf
    refine b_iast S hS.1 hB hh6 dX2_quits_40 (fun H locs hB => ?_)
    have hE9 := TL_e hT hf
    subst hE9
    exact bt_v S hr hlocks hB (by omega) trivial dX2_quits_41
  have hT : TL out out 0 0 := TL_0
  rw [f_X2_quits] at hf
  refine lv_aload_n hx hb dX2_quits_0 rfl (lv_at hl 0 rfl) ?_
  obtain ⟨v1, hv1, hf⟩ := ob_s hf
  refine bg_X2_19 S hS hB (vR_s hv1) dX2_quits_1 ?_
  refine lv_iload_n hx hb dX2_quits_4 rfl (lv_at hl 1 rfl) ?_
  obtain ⟨v2, hv2, hf⟩ := ob_s hf
  refine b_iald S hS.1 hB hv2 dX2_quits_5 ?_
  refine lv_if_lt (tgt := 20) hx hb dX2_quits_6 (by decide) (fun c3 => ?_) (fun c3 => ?_)
  · replace hf := it_t c3 hf
    exact (w20) o a0 h nx ls s.heap [] 0 0 out hB (by omega) hT hl hf
  · replace hf := it_f c3 hf
    refine lv_aload_n hx hb dX2_quits_9 rfl (lv_at hl 0 rfl) ?_
    refine lv_aload_n hx hb dX2_quits_10 rfl (lv_at hl 0 rfl) ?_
    obtain ⟨v4, hv4, hf⟩ := ob_s hf
    refine bg_X2_19 S hS hB (vR_s hv4) dX2_quits_11 ?_
    refine lv_iload_n hx hb dX2_quits_14 rfl (lv_at hl 1 rfl) ?_
    obtain ⟨v5, hv5, hf⟩ := ob_s hf
    refine b_iald S hS.1 hB hv5 dX2_quits_15 ?_
    refine lv_iconst hx hb dX2_quits_16 kc_im1 ?_
    obtain ⟨g6, hf⟩ := gd_t hf
    obtain ⟨v7, hv7, hf⟩ := ob_s hf
    obtain ⟨o8, hf, hT⟩ := TL_c hT hf
    refine mc_X2_318 (fE := fE) (lE := lE) S hS hB g6 hv7 hl.1 ⟨(by show _ ≤ (fE + 1); omega), (by show _ ≤ (lE + 22); omega)⟩ (Nat.le_of_ble_eq_true rfl) ⟨(TL_m hT).1, (TL_m hT).2⟩ dX2_quits_17 (fun H locs _ hB => ?_)
    exact (w20) o a0 v7.2.1 (nx + v7.2.2.1) ls H locs (0 + v7.2.2.1) (0 + v7.2.2.2) o8 hB (by omega) hT hl hf
set_option maxRecDepth 100000 in
theorem mc_X1_561 {o : Nat} {a0 : Int32} {out : Unit × AH × Nat × Nat} (S : CallFix p m c cc nL s args lw_all RX1) (hS : SK G E.1 hSites A s) (hB : BI G A s.heap h nx H locs) (ho : isO h o 1 = true) (hf : f_X2_quits E h nx o a0 = some out) (hsz : ls.size = nL) (hR : (fE + 1) + 1 ≤ R.frames ∧ 8 + (2 + 11) + (lE + 22) ≤ R.locals) (hW : (rest.map fun v => v.category).sum ≤ 8) (hcs : cells + out.2.2.1 ≤ R.cells ∧ slots + out.2.2.2 ≤ R.slots) (hdg : decode cc pc = .ok (.invokevirtual 561, 3))  (kk : ∀ (H1 : Heap) (locs1 : List Loc), True → BI G A s.heap out.2.1 (nx + out.2.2.1) H1 locs1 → W p l e R s m args below meth c H1 locs1 (cells + out.2.2.1) (slots + out.2.2.2) Q (F0 m (pc + 3) ls (rest))) : W p l e R s m args below meth c H locs cells slots Q (F0 m pc ls (.int a0 :: .ref o :: rest)) := by
  have hN := hS.2.1
  obtain ⟨fs, he⟩ := isO_s ho
  exact br_v (va_runV (As := [.int a0]) S (mm_X2_quits (l := l) (G := G) (fE := fE) (lE := lE) hf) (cwV 1 S.2.2.2.2 (lw_V q1827 q1828 q1829 q178 q1830) rfl rfl rfl hd_X2_quits hR) (bPreV hS hB (ci := 1) rfl he) rfl rfl hsz rfl (lv_room hW) hdg hcs) hB kk
theorem hd_X9_isGood : yX9_isGood.cls = RX9 ∧ yX9_isGood.cls ≠ "java/lang/invoke/MethodHandle" ∧ yX9_isGood.cls ≠ "java/lang/invoke/VarHandle" ∧ (parseMethodDescriptor yX9_isGood.desc).map (fun d => d.parameters.length) = some 3 := by decide +kernel
set_option maxHeartbeats 4000000 in
set_option maxRecDepth 100000 in
theorem mm_X9_isGood {o : Nat} {a0 : Int32} {a1 : Int32} {a2 : Int32} {out : Int32} (hf : f_X9_isGood E h o a0 a1 a2 = some out) : Met l yX9_isGood (ws_ yX9_isGood cX9_isGood 4 (some .boolean)) (rM (fE + 6) (lE + 129)) (bPc G E.1 hSites h nx [.ref o, .int a0, .int a1, .int a2]) (gR (some (.int out)) (narrow .boolean (.int out) = .int out)) 0 0 (fun _ => False) := by
  refine bGo (by decide +kernel) (Nat.le_of_ble_eq_true rfl) (fun p e s m below meth c ls S hr hlocks hin hnm hS hB hl => ?_)
  have S : CallFix p m c cX9_isGood 4 s _ lw_all RX9 := S
  obtain ⟨hx, hb, hml, hown, hts⟩ := id S
  have hl : lv_has ls 4 [(0, .ref o), (1, .int a0), (2, .int a1), (3, .int a2)] := hl
  rw [f_X9_isGood] at hf
  refine lv_iload_n hx hb dX9_isGood_0 rfl (lv_at hl 3 rfl) ?_
  refine lv_iload_n hx hb dX9_isGood_1 rfl (lv_at hl 2 rfl) ?_
  refine lv_ishr hx hb dX9_isGood_2 ?_
  refine lv_iconst hx hb dX9_isGood_3 kc_i1 ?_
  refine lv_iand hx hb dX9_isGood_4 ?_
  refine lv_if_ne (tgt := 41) hx hb dX9_isGood_5 (by decide) (fun c1 => ?_) (fun c1 => ?_)
  · replace hf := it_f c1 hf
    refine lv_iconst hx hb dX9_isGood_41 kc_i0 ?_
    have hE9 := Option.some.inj hf
    subst hE9
    exact gt_rz S hr hlocks nb0 dX9_isGood_42
  · replace hf := it_t c1 hf
    refine lv_aload_n hx hb dX9_isGood_8 rfl (lv_at hl 0 rfl) ?_
    obtain ⟨v2, hv2, hf⟩ := ob_s hf
    refine bg_X9_3 S hS hB (vR_s hv2) dX9_isGood_9 ?_
    obtain ⟨v3, hv3, hf⟩ := ob_s hf
    refine bg_X9_47 S hS hB (vR_s hv3) dX9_isGood_12 ?_
    refine lv_iload_n hx hb dX9_isGood_15 rfl (lv_at hl 2 rfl) ?_
    obtain ⟨g4, hf⟩ := gd_t hf
    obtain ⟨v5, hv5, hf⟩ := ob_s hf
    refine mc_X9_51 (fE := fE) (lE := lE) S hS hB g4 hv5 hl.1 ⟨(by show _ ≤ (fE + 6); omega), (by show _ ≤ (lE + 129); omega)⟩ (Nat.le_of_ble_eq_true rfl) ⟨Nat.zero_le _, Nat.zero_le _⟩ dX9_isGood_16 (fun hnv5 => ?_)
    refine lv_if_eq (tgt := 41) hx hb dX9_isGood_19 (by decide) (fun c6 => ?_) (fun c6 => ?_)
    · replace hf := it_t c6 hf
      refine lv_iconst hx hb dX9_isGood_41 kc_i0 ?_
      have hE9 := Option.some.inj hf
      subst hE9
      exact gt_rz S hr hlocks nb0 dX9_isGood_42
    · replace hf := it_f c6 hf
      refine lv_aload_n hx hb dX9_isGood_22 rfl (lv_at hl 0 rfl) ?_
      obtain ⟨v7, hv7, hf⟩ := ob_s hf
      refine bg_X9_3 S hS hB (vR_s hv7) dX9_isGood_23 ?_
      obtain ⟨v8, hv8, hf⟩ := ob_s hf
      refine bg_X9_47 S hS hB (vR_s hv8) dX9_isGood_26 ?_
      refine lv_iload_n hx hb dX9_isGood_29 rfl (lv_at hl 1 rfl) ?_
      refine lv_iload_n hx hb dX9_isGood_30 rfl (lv_at hl 2 rfl) ?_
      obtain ⟨g9, hf⟩ := gd_t hf
      obtain ⟨v10, hv10, hf⟩ := ob_s hf
      refine mc_X9_57 (fE := fE) (lE := lE) S hS hB g9 hv10 hl.1 ⟨(by show _ ≤ (fE + 6); omega), (by show _ ≤ (lE + 129); omega)⟩ (Nat.le_of_ble_eq_true rfl) ⟨Nat.zero_le _, Nat.zero_le _⟩ dX9_isGood_31 (fun hnv10 => ?_)
      refine lv_if_eq (tgt := 41) hx hb dX9_isGood_34 (by decide) (fun c11 => ?_) (fun c11 => ?_)
      · replace hf := it_t c11 hf
        refine lv_iconst hx hb dX9_isGood_41 kc_i0 ?_
        have hE9 := Option.some.inj hf
        subst hE9
        exact gt_rz S hr hlocks nb0 dX9_isGood_42
      · replace hf := it_f c11 hf
        refine lv_iconst hx hb dX9_isGood_37 kc_i1 ?_
        refine lv_goto (tgt := 42) hx hb dX9_isGood_38 (by decide) ?_
        have hE9 := Option.some.inj hf
        subst hE9
        exact gt_rz S hr hlocks nb1 dX9_isGood_42
set_option maxRecDepth 100000 in
theorem mc_X9_43 {o : Nat} {a0 : Int32} {a1 : Int32} {a2 : Int32} {out : Int32} (S : CallFix p m c cc nL s args lw_all RX9) (hS : SK G E.1 hSites A s) (hB : BI G A s.heap h nx H locs) (ho : isO h o 8 = true) (hf : f_X9_isGood E h o a0 a1 a2 = some out) (hsz : ls.size = nL) (hR : (fE + 6) + 1 ≤ R.frames ∧ 8 + (4 + 11) + (lE + 129) ≤ R.locals) (hW : (rest.map fun v => v.category).sum ≤ 8) (hcs : cells ≤ R.cells ∧ slots ≤ R.slots) (hdg : decode cc pc = .ok (.invokevirtual 43, 3))  (kk : (narrow .boolean (.int out) = .int out) → W p l e R s m args below meth c H locs cells slots Q (F0 m (pc + 3) ls (.int out :: rest))) : W p l e R s m args below meth c H locs cells slots Q (F0 m pc ls (.int a2 :: .int a1 :: .int a0 :: .ref o :: rest)) := by
  have hN := hS.2.1
  obtain ⟨fs, he⟩ := isO_s ho
  exact br_r (va_runV (As := [.int a0, .int a1, .int a2]) S (mm_X9_isGood (l := l) (G := G) (nx := nx) (fE := fE) (lE := lE) hf) (cwV 3 S.2.2.2.2 (lw_V q1647 q1649 qs81 q203 q1650) rfl rfl rfl hd_X9_isGood hR) (bPreV hS hB (ci := 8) rfl he) rfl rfl hsz rfl (lv_room hW) hdg hcs) kk
theorem hd_X9_finds : yX9_finds.cls = RX9 ∧ yX9_finds.cls ≠ "java/lang/invoke/MethodHandle" ∧ yX9_finds.cls ≠ "java/lang/invoke/VarHandle" ∧ (parseMethodDescriptor yX9_finds.desc).map (fun d => d.parameters.length) = some 3 := by decide +kernel
set_option maxRecDepth 100000 in
theorem mr_X9_61 {o : Nat} {a0 : Int32} {a1 : Int32} {a2 : Nat} {out : Int32 × AH × Nat × Nat} {F Lo : Nat} (hM : Met l yX9_finds (ws_ yX9_finds cX9_finds 5 (some .boolean)) (rC F Lo out.2.2.1 out.2.2.2) (bPc G E.1 hSites h nx [.ref o, .int a0, .int a1, .ref a2]) (bQ G (some (.int out.1)) (narrow .boolean (.int out.1) = .int out.1) out.2.1 (nx + out.2.2.1) (AA h nx)) out.2.2.1 out.2.2.2 (AA h nx)) (S : CallFix p m c cc nL s args lw_all RX9) (hS : SK G E.1 hSites A s) (hB : BI G A s.heap h nx H locs) (ho : isO h o 8 = true) (hsz : ls.size = nL) (hR : F + 1 ≤ R.frames ∧ 8 + (5 + 11) + Lo ≤ R.locals) (hW : (rest.map fun v => v.category).sum ≤ 8) (hcs : cells + out.2.2.1 ≤ R.cells ∧ slots + out.2.2.2 ≤ R.slots) (hdg : decode cc pc = .ok (.invokevirtual 61, 3))  (kk : ∀ (H1 : Heap) (locs1 : List Loc), (narrow .boolean (.int out.1) = .int out.1) → BI G A s.heap out.2.1 (nx + out.2.2.1) H1 locs1 → W p l e R s m args below meth c H1 locs1 (cells + out.2.2.1) (slots + out.2.2.2) Q (F0 m (pc + 3) ls (.int out.1 :: rest))) : W p l e R s m args below meth c H locs cells slots Q (F0 m pc ls (.ref a2 :: .int a1 :: .int a0 :: .ref o :: rest)) := by
  have hN := hS.2.1
  obtain ⟨fs, he⟩ := isO_s ho
  exact br_w (va_runV (As := [.int a0, .int a1, .ref a2]) S hM (cwV 3 S.2.2.2.2 (lw_V q1643 q1645 qs80 q203 q1646) rfl rfl rfl hd_X9_finds hR) (bPreV hS hB (ci := 8) rfl he) rfl rfl hsz rfl (lv_room hW) hdg hcs) hB kk
set_option maxHeartbeats 4000000 in
set_option maxRecDepth 100000 in
theorem mm_X9_finds : ∀ (dp : Nat) {h : AH} {nx : Nat} {o : Nat} {a0 : Int32} {a1 : Int32} {a2 : Nat} {out : Int32 × AH × Nat × Nat}, f_X9_finds dp E h nx o a0 a1 a2 = some out → Met l yX9_finds (ws_ yX9_finds cX9_finds 5 (some .boolean)) (rC (fE + 7 * dp) (lE + 152 * dp) out.2.2.1 out.2.2.2) (bPc G E.1 hSites h nx [.ref o, .int a0, .int a1, .ref a2]) (bQ G (some (.int out.1)) (narrow .boolean (.int out.1) = .int out.1) out.2.1 (nx + out.2.2.1) (AA h nx)) out.2.2.1 out.2.2.2 (AA h nx) := by
  intro dp
  induction dp with
  | zero =>
    intro h nx o a0 a1 a2 out hf
    exact absurd hf (by rw [f_X9_finds]; exact nofun)
  | succ dp ih =>
    intro h nx o a0 a1 a2 out hf
    rw [f_X9_finds] at hf
    generalize hs0 : f_X9_finds dp E = self at ih hf
    refine bGo (by decide +kernel) (Nat.le_of_ble_eq_true rfl) (fun p e s m below meth c ls S hr hlocks hin hnm hS hB hl => ?_)
    have S : CallFix p m c cX9_finds 5 s _ lw_all RX9 := S
    obtain ⟨hx, hb, hml, hown, hts⟩ := id S
    have hl : lv_has ls 5 [(0, .ref o), (1, .int a0), (2, .int a1), (3, .ref a2)] := hl
    have ihR := @ih
    have w73 : ∀ (x0 : Nat) (x1 : Int32) (x4 : Int32) (hc : AH) (nc : Nat) (ls : Array Slot) (H : Heap) (locs : List Loc) (ce sl : Nat) (o1 : Int32 × AH × Nat × Nat), BI G (AA h nx) s.heap hc nc H locs → nc = nx + ce → TL out o1 ce sl → lv_has ls 5 [(0, .ref x0), (1, .int x1), (4, .int x4)] → f_X9_finds_73 E self x0 x1 x4 hc nc = some o1 → W p l e (rC (fE + 7 * (dp + 1)) (lE + 152 * (dp + 1)) out.2.2.1 out.2.2.2) s m ([.ref o, .int a0, .int a1, .ref a2] : List Value).toArray below meth c H locs ce sl (MQ below (bQ G (some (.int out.1)) (narrow .boolean (.int out.1) = .int out.1) out.2.1 (nx + out.2.2.1) (AA h nx)) ([.ref o, .int a0, .int a1, .ref a2] : List Value).toArray s out.2.2.1 out.2.2.2 (AA h nx)) (F0 m 73 ls []) := by
      intro x0 x1 x4 hc nc ls H locs ce sl o1 hB hn hT hl hf
      rw [f_X9_finds_73] at hf
      refine lv_aload_n hx hb dX9_finds_73 rfl (lv_at hl 0 rfl) ?_
      obtain ⟨v1, hv1, hf⟩ := ob_s hf
      refine bg_X9_15 S hS hB (vR_s hv1) dX9_finds_74 ?_
      refine lv_iload hx hb dX9_finds_77 (lv_at hl 2 rfl) ?_
      refine lv_iload_n hx hb dX9_finds_79 rfl (lv_at hl 1 rfl) ?_
      obtain ⟨h2, hh2, hf⟩ := ob_s hf
      refine b_iast S hS.1 hB hh2 dX9_finds_80 (fun H locs hB => ?_)
      refine lv_iconst hx hb dX9_finds_81 kc_i1 ?_
      have hE9 := TL_e hT hf
      subst hE9
      exact bt_z S hr hlocks hB (by omega) nb1 dX9_finds_82
    have w3 : ∀ (n : Nat) , ∀ (x0 : Nat) (x1 : Int32) (x2 : Int32) (x3 : Nat) (x4 : Int32) (hc : AH) (nc : Nat) (ls : Array Slot) (H : Heap) (locs : List Loc) (ce sl : Nat) (o1 : Int32 × AH × Nat × Nat), BI G (AA h nx) s.heap hc nc H locs → nc = nx + ce → TL out o1 ce sl → lv_has ls 5 [(0, .ref x0), (1, .int x1), (2, .int x2), (3, .ref x3), (4, .int x4)] → f_X9_finds_3 n E self x0 x1 x2 x3 x4 hc nc = some o1 → W p l e (rC (fE + 7 * (dp + 1)) (lE + 152 * (dp + 1)) out.2.2.1 out.2.2.2) s m ([.ref o, .int a0, .int a1, .ref a2] : List Value).toArray below meth c H locs ce sl (MQ below (bQ G (some (.int out.1)) (narrow .boolean (.int out.1) = .int out.1) out.2.1 (nx + out.2.2.1) (AA h nx)) ([.ref o, .int a0, .int a1, .ref a2] : List Value).toArray s out.2.2.1 out.2.2.2 (AA h nx)) (F0 m 3 ls []) := by
      intro n
      induction n with
      | zero =>
        intro x0 x1 x2 x3 x4 hc nc ls H locs ce sl o1 hB hn hT hl hf
        exact absurd hf (by rw [f_X9_finds_3]; exact nofun)
      | succ n ih =>
        intro x0 x1 x2 x3 x4 hc nc ls H locs ce sl o1 hB hn hT hl hf
        rw [f_X9_finds_3] at hf
        refine lv_iload hx hb dX9_finds_3 (lv_at hl 4 rfl) ?_
        refine lv_aload_n hx hb dX9_finds_5 rfl (lv_at hl 0 rfl) ?_
        obtain ⟨v1, hv1, hf⟩ := ob_s hf
        refine bg_X9_3 S hS hB (vR_s hv1) dX9_finds_6 ?_
        obtain ⟨v2, hv2, hf⟩ := ob_s hf
        refine bg_X9_40 S hS hB (vR_s hv2) dX9_finds_9 ?_
        obtain ⟨g3, hf⟩ := gd_t hf
        obtain ⟨v4, hv4, hf⟩ := ob_s hf
        refine mc_X9_34 (fE := fE) (lE := lE) S hS hB g3 hv4 hl.1 ⟨(by show _ ≤ (fE + 7 * (dp + 1)); omega), (by show _ ≤ (lE + 152 * (dp + 1)); omega)⟩ (Nat.le_of_ble_eq_true rfl) ⟨(TL_m hT).1, (TL_m hT).2⟩ dX9_finds_12 (fun _ => ?_)
        refine lv_icmp_ge (tgt := 89) hx hb dX9_finds_15 (by decide) (fun c5 => ?_) (fun c5 => ?_)
        · replace hf := it_t c5 hf
          refine lv_iconst hx hb dX9_finds_89 kc_i0 ?_
          have hE9 := TL_e hT hf
          subst hE9
          exact bt_z S hr hlocks hB (by omega) nb0 dX9_finds_90
        · replace hf := it_f c5 hf
          refine lv_aload_n hx hb dX9_finds_18 rfl (lv_at hl 3 rfl) ?_
          refine lv_iload hx hb dX9_finds_19 (lv_at hl 4 rfl) ?_
          obtain ⟨v6, hv6, hf⟩ := ob_s hf
          refine b_zald S hS.1 hB hv6 dX9_finds_21 ?_
          refine lv_if_ne (tgt := 83) hx hb dX9_finds_22 (by decide) (fun c7 => ?_) (fun c7 => ?_)
          · replace hf := it_f c7 hf
            refine lv_iinc (v := (x4 + 1)) (lv' := [(4, .int (x4 + 1)), (0, .ref x0), (1, .int x1), (2, .int x2), (3, .ref x3)]) hx hb dX9_finds_83 hl (k := 4) rfl rfl (by decide) rfl (fun ls hl => ?_)
            refine lv_goto (tgt := 3) hx hb dX9_finds_86 (by decide) ?_
            exact (ih) x0 x1 x2 x3 (x4 + 1) hc nc ls H locs ce sl o1 hB (by omega) hT (lv_sub (l' := [(0, .ref x0), (1, .int x1), (2, .int x2), (3, .ref x3), (4, .int (x4 + 1))]) hl [1, 2, 3, 4, 0] rfl) hf
          · replace hf := it_t c7 hf
            refine lv_aload_n hx hb dX9_finds_25 rfl (lv_at hl 0 rfl) ?_
            refine lv_iload_n hx hb dX9_finds_26 rfl (lv_at hl 1 rfl) ?_
            refine lv_iload hx hb dX9_finds_27 (lv_at hl 4 rfl) ?_
            refine lv_iload_n hx hb dX9_finds_29 rfl (lv_at hl 2 rfl) ?_
            obtain ⟨g8, hf⟩ := gd_t hf
            obtain ⟨v9, hv9, hf⟩ := ob_s hf
            refine mc_X9_43 (fE := fE) (lE := lE) S hS hB g8 hv9 hl.1 ⟨(by show _ ≤ (fE + 7 * (dp + 1)); omega), (by show _ ≤ (lE + 152 * (dp + 1)); omega)⟩ (Nat.le_of_ble_eq_true rfl) ⟨(TL_m hT).1, (TL_m hT).2⟩ dX9_finds_30 (fun hnv9 => ?_)
            refine lv_if_ne (tgt := 39) hx hb dX9_finds_33 (by decide) (fun c10 => ?_) (fun c10 => ?_)
            · replace hf := it_f c10 hf
              refine lv_aload_n hx hb dX9_finds_39 rfl (lv_at hl 3 rfl) ?_
              refine lv_iload hx hb dX9_finds_40 (lv_at hl 4 rfl) ?_
              refine lv_iconst hx hb dX9_finds_42 kc_i1 ?_
              obtain ⟨h11, hh11, hf⟩ := ob_s hf
              refine b_zast S hS.1 hB hh11 dX9_finds_43 (fun H locs hB => ?_)
              refine lv_aload_n hx hb dX9_finds_44 rfl (lv_at hl 0 rfl) ?_
              obtain ⟨v12, hv12, hf⟩ := ob_s hf
              refine bg_X9_15 S hS hB (vR_s hv12) dX9_finds_45 ?_
              refine lv_iload hx hb dX9_finds_48 (lv_at hl 4 rfl) ?_
              obtain ⟨v13, hv13, hf⟩ := ob_s hf
              refine b_iald S hS.1 hB hv13 dX9_finds_50 ?_
              refine lv_if_lt (tgt := 73) hx hb dX9_finds_51 (by decide) (fun c14 => ?_) (fun c14 => ?_)
              · replace hf := it_t c14 hf
                exact (w73) x0 x1 x4 h11 nc ls H locs ce sl o1 hB (by omega) hT (lv_sub (l' := [(0, .ref x0), (1, .int x1), (4, .int x4)]) hl [0, 1, 4] rfl) hf
              · replace hf := it_f c14 hf
                refine lv_aload_n hx hb dX9_finds_54 rfl (lv_at hl 0 rfl) ?_
                refine lv_aload_n hx hb dX9_finds_55 rfl (lv_at hl 0 rfl) ?_
                obtain ⟨v15, hv15, hf⟩ := ob_s hf
                refine bg_X9_15 S hS hB (vR_s hv15) dX9_finds_56 ?_
                refine lv_iload hx hb dX9_finds_59 (lv_at hl 4 rfl) ?_
                obtain ⟨v16, hv16, hf⟩ := ob_s hf
                refine b_iald S hS.1 hB hv16 dX9_finds_61 ?_
                refine lv_iload_n hx hb dX9_finds_62 rfl (lv_at hl 2 rfl) ?_
                refine lv_aload_n hx hb dX9_finds_63 rfl (lv_at hl 3 rfl) ?_
                obtain ⟨g17, hf⟩ := gd_t hf
                obtain ⟨v18, hv18, hf⟩ := ob_s hf
                obtain ⟨o19, hf, hT⟩ := TL_c hT hf
                refine mr_X9_61 (ihR hv18) S hS hB g17 hl.1 ⟨(by show _ ≤ (fE + 7 * (dp + 1)); omega), (by show _ ≤ (lE + 152 * (dp + 1)); omega)⟩ (Nat.le_of_ble_eq_true rfl) ⟨(TL_m hT).1, (TL_m hT).2⟩ dX9_finds_64 (fun H locs hnv18 hB => ?_)
                refine lv_if_ne (tgt := 73) hx hb dX9_finds_67 (by decide) (fun c20 => ?_) (fun c20 => ?_)
                · replace hf := it_f c20 hf
                  exact (w73) x0 x1 x4 v18.2.1 (nc + v18.2.2.1) ls H locs (ce + v18.2.2.1) (sl + v18.2.2.2) o19 hB (by omega) hT (lv_sub (l' := [(0, .ref x0), (1, .int x1), (4, .int x4)]) hl [0, 1, 4] rfl) hf
                · replace hf := it_t c20 hf
                  refine lv_goto (tgt := 83) hx hb dX9_finds_70 (by decide) ?_
                  refine lv_iinc (v := (x4 + 1)) (lv' := [(4, .int (x4 + 1)), (0, .ref x0), (1, .int x1), (2, .int x2), (3, .ref x3)]) hx hb dX9_finds_83 hl (k := 4) rfl rfl (by decide) rfl (fun ls hl => ?_)
                  refine lv_goto (tgt := 3) hx hb dX9_finds_86 (by decide) ?_
                  exact (ih) x0 x1 x2 x3 (x4 + 1) v18.2.1 (nc + v18.2.2.1) ls H locs (ce + v18.2.2.1) (sl + v18.2.2.2) o19 hB (by omega) hT (lv_sub (l' := [(0, .ref x0), (1, .int x1), (2, .int x2), (3, .ref x3), (4, .int (x4 + 1))]) hl [1, 2, 3, 4, 0] rfl) hf
            · replace hf := it_t c10 hf
              refine lv_goto (tgt := 83) hx hb dX9_finds_36 (by decide) ?_
              refine lv_iinc (v := (x4 + 1)) (lv' := [(4, .int (x4 + 1)), (0, .ref x0), (1, .int x1), (2, .int x2), (3, .ref x3)]) hx hb dX9_finds_83 hl (k := 4) rfl rfl (by decide) rfl (fun ls hl => ?_)
              refine lv_goto (tgt := 3) hx hb dX9_finds_86 (by decide) ?_
              exact (ih) x0 x1 x2 x3 (x4 + 1) hc nc ls H locs ce sl o1 hB (by omega) hT (lv_sub (l' := [(0, .ref x0), (1, .int x1), (2, .int x2), (3, .ref x3), (4, .int (x4 + 1))]) hl [1, 2, 3, 4, 0] rfl) hf
    have hT : TL out out 0 0 := TL_0
    refine lv_iconst hx hb dX9_finds_0 kc_i0 ?_
    refine lv_istore (lv' := [(4, .int 0), (0, .ref o), (1, .int a0), (2, .int a1), (3, .ref a2)]) hx hb dX9_finds_1 hl (by decide) rfl (fun ls hl => ?_)
    exact (w3 FU) o a0 a1 a2 0 h nx ls s.heap [] 0 0 out hB (by omega) hT (lv_sub (l' := [(0, .ref o), (1, .int a0), (2, .int a1), (3, .ref a2), (4, .int 0)]) hl [1, 2, 3, 4, 0] rfl) hf
set_option maxRecDepth 100000 in
theorem mc_X9_61 {o : Nat} {a0 : Int32} {a1 : Int32} {a2 : Nat} {out : Int32 × AH × Nat × Nat} (S : CallFix p m c cc nL s args lw_all RX9) (hS : SK G E.1 hSites A s) (hB : BI G A s.heap h nx H locs) (ho : isO h o 8 = true) (hf : f_X9_finds 12 E h nx o a0 a1 a2 = some out) (hsz : ls.size = nL) (hR : (fE + 84) + 1 ≤ R.frames ∧ 8 + (5 + 11) + (lE + 1824) ≤ R.locals) (hW : (rest.map fun v => v.category).sum ≤ 8) (hcs : cells + out.2.2.1 ≤ R.cells ∧ slots + out.2.2.2 ≤ R.slots) (hdg : decode cc pc = .ok (.invokevirtual 61, 3))  (kk : ∀ (H1 : Heap) (locs1 : List Loc), (narrow .boolean (.int out.1) = .int out.1) → BI G A s.heap out.2.1 (nx + out.2.2.1) H1 locs1 → W p l e R s m args below meth c H1 locs1 (cells + out.2.2.1) (slots + out.2.2.2) Q (F0 m (pc + 3) ls (.int out.1 :: rest))) : W p l e R s m args below meth c H locs cells slots Q (F0 m pc ls (.ref a2 :: .int a1 :: .int a0 :: .ref o :: rest)) := by
  have hN := hS.2.1
  obtain ⟨fs, he⟩ := isO_s ho
  exact br_w (va_runV (As := [.int a0, .int a1, .ref a2]) S (mm_X9_finds (l := l) (G := G) (fE := fE) (lE := lE) 12 (nx := nx) hf) (cwV 3 S.2.2.2.2 (lw_V q1643 q1645 qs80 q203 q1646) rfl rfl rfl hd_X9_finds hR) (bPreV hS hB (ci := 8) rfl he) rfl rfl hsz rfl (lv_room hW) hdg hcs) hB kk
theorem hd_X9_mostFrom : yX9_mostFrom.cls = RX9 ∧ yX9_mostFrom.cls ≠ "java/lang/invoke/MethodHandle" ∧ yX9_mostFrom.cls ≠ "java/lang/invoke/VarHandle" ∧ (parseMethodDescriptor yX9_mostFrom.desc).map (fun d => d.parameters.length) = some 2 := by decide +kernel
set_option maxHeartbeats 4000000 in
set_option maxRecDepth 100000 in
theorem mm_X9_mostFrom {o : Nat} {a0 : Int32} {a1 : Int32} {out : Int32 × AH × Nat × Nat} (hf : f_X9_mostFrom E h nx o a0 a1 = some out) : Met l yX9_mostFrom (ws_ yX9_mostFrom cX9_mostFrom 5 (some .int)) (rC (fE + 85) (lE + 1848) out.2.2.1 out.2.2.2) (bPc G E.1 hSites h nx [.ref o, .int a0, .int a1]) (bQ G (some (.int out.1)) True out.2.1 (nx + out.2.2.1) (AA h nx)) out.2.2.1 out.2.2.2 (AA h nx) := by
  refine bGo (by decide +kernel) (Nat.le_of_ble_eq_true rfl) (fun p e s m below meth c ls S hr hlocks hin hnm hS hB hl => ?_)
  have S : CallFix p m c cX9_mostFrom 5 s _ lw_all RX9 := S
  obtain ⟨hx, hb, hml, hown, hts⟩ := id S
  have hl : lv_has ls 5 [(0, .ref o), (1, .int a0), (2, .int a1)] := hl
  have w26 : ∀ (n : Nat) , ∀ (x0 : Nat) (x2 : Int32) (x3 : Int32) (x4 : Int32) (hc : AH) (nc : Nat) (ls : Array Slot) (H : Heap) (locs : List Loc) (ce sl : Nat) (o1 : Int32 × AH × Nat × Nat), BI G (AA h nx) s.heap hc nc H locs → nc = nx + ce → TL out o1 ce sl → lv_has ls 5 [(0, .ref x0), (2, .int x2), (3, .int x3), (4, .int x4)] → f_X9_mostFrom_26 n E x0 x2 x3 x4 hc nc = some o1 → W p l e (rC (fE + 85) (lE + 1848) out.2.2.1 out.2.2.2) s m ([.ref o, .int a0, .int a1] : List Value).toArray below meth c H locs ce sl (MQ below (bQ G (some (.int out.1)) True out.2.1 (nx + out.2.2.1) (AA h nx)) ([.ref o, .int a0, .int a1] : List Value).toArray s out.2.2.1 out.2.2.2 (AA h nx)) (F0 m 26 ls []) := by
    intro n
    induction n with
    | zero =>
      intro x0 x2 x3 x4 hc nc ls H locs ce sl o1 hB hn hT hl hf
      exact absurd hf (by rw [f_X9_mostFrom_26]; exact nofun)
    | succ n ih =>
      intro x0 x2 x3 x4 hc nc ls H locs ce sl o1 hB hn hT hl hf
      rw [f_X9_mostFrom_26] at hf
      refine lv_iload hx hb dX9_mostFrom_26 (lv_at hl 3 rfl) ?_
      refine lv_aload_n hx hb dX9_mostFrom_28 rfl (lv_at hl 0 rfl) ?_
      obtain ⟨v1, hv1, hf⟩ := ob_s hf
      refine bg_X9_3 S hS hB (vR_s hv1) dX9_mostFrom_29 ?_
      obtain ⟨v2, hv2, hf⟩ := ob_s hf
      refine bg_X9_30 S hS hB (vR_s hv2) dX9_mostFrom_32 ?_
      obtain ⟨g3, hf⟩ := gd_t hf
      obtain ⟨v4, hv4, hf⟩ := ob_s hf
      refine mc_X9_34 (fE := fE) (lE := lE) S hS hB g3 hv4 hl.1 ⟨(by show _ ≤ (fE + 85); omega), (by show _ ≤ (lE + 1848); omega)⟩ (Nat.le_of_ble_eq_true rfl) ⟨(TL_m hT).1, (TL_m hT).2⟩ dX9_mostFrom_35 (fun _ => ?_)
      refine lv_icmp_ge (tgt := 64) hx hb dX9_mostFrom_38 (by decide) (fun c5 => ?_) (fun c5 => ?_)
      · replace hf := it_t c5 hf
        refine lv_iload_n hx hb dX9_mostFrom_64 rfl (lv_at hl 2 rfl) ?_
        have hE9 := TL_e hT hf
        subst hE9
        exact bt_i S hr hlocks hB (by omega) trivial dX9_mostFrom_65
      · replace hf := it_f c5 hf
        refine lv_iload_n hx hb dX9_mostFrom_41 rfl (lv_at hl 2 rfl) ?_
        refine lv_aload_n hx hb dX9_mostFrom_42 rfl (lv_at hl 0 rfl) ?_
        refine lv_iload hx hb dX9_mostFrom_43 (lv_at hl 3 rfl) ?_
        refine lv_iload_n hx hb dX9_mostFrom_45 rfl (lv_at hl 1 rfl) ?_
        refine lv_bipush hx hb dX9_mostFrom_46 kc_b10 ?_
        obtain ⟨o6, hf, hT⟩ := TL_c hT hf
        refine b_newZ S hS hB kn_10 kna_10 (TL_m hT).1 (TL_m hT).2 dX9_mostFrom_48 (fun H hB => ?_)
        obtain ⟨g7, hf⟩ := gd_t hf
        obtain ⟨v8, hv8, hf⟩ := ob_s hf
        obtain ⟨o9, hf, hT⟩ := TL_c hT hf
        refine mc_X9_61 (fE := fE) (lE := lE) S hS hB g7 hv8 hl.1 ⟨(by show _ ≤ (fE + 85); omega), (by show _ ≤ (lE + 1848); omega)⟩ (Nat.le_of_ble_eq_true rfl) ⟨(TL_m hT).1, (TL_m hT).2⟩ dX9_mostFrom_50 (fun H locs hnv8 hB => ?_)
        obtain ⟨v10, hv10, hf⟩ := ob_s hf
        refine mc_X9_65 S hS.1 hS.2.1 hv10 hl.1 ⟨(by show _ ≤ (fE + 85); omega), (by show _ ≤ (lE + 1848); omega)⟩ (Nat.le_of_ble_eq_true rfl) ⟨(TL_m hT).1, (TL_m hT).2⟩ dX9_mostFrom_53 (fun _ => ?_)
        refine lv_iadd hx hb dX9_mostFrom_56 ?_
        refine lv_istore_n (i := 3) (lv' := [(3, .int (x3 + v10)), (0, .ref x0), (2, .int x2), (4, .int x4)]) hx hb dX9_mostFrom_57 rfl hl (by decide) rfl (fun ls hl => ?_)
        refine lv_iinc (v := (x4 + 1)) (lv' := [(4, .int (x4 + 1)), (3, .int (x3 + v10)), (0, .ref x0), (2, .int x2)]) hx hb dX9_mostFrom_58 hl (k := 3) rfl rfl (by decide) rfl (fun ls hl => ?_)
        refine lv_goto (tgt := 26) hx hb dX9_mostFrom_61 (by decide) ?_
        exact (ih) x0 x2 (x3 + v10) (x4 + 1) v8.2.1 ((nc + 1) + v8.2.2.1) ls H locs ((ce + 1) + v8.2.2.1) ((sl + 10) + v8.2.2.2) o9 hB (by omega) hT (lv_sub (l' := [(0, .ref x0), (2, .int x2), (3, .int (x3 + v10)), (4, .int (x4 + 1))]) hl [2, 3, 1, 0] rfl) hf
  have w2 : ∀ (n : Nat) , ∀ (x0 : Nat) (x1 : Int32) (x2 : Int32) (x3 : Int32) (hc : AH) (nc : Nat) (ls : Array Slot) (H : Heap) (locs : List Loc) (ce sl : Nat) (o1 : Int32 × AH × Nat × Nat), BI G (AA h nx) s.heap hc nc H locs → nc = nx + ce → TL out o1 ce sl → lv_has ls 5 [(0, .ref x0), (1, .int x1), (2, .int x2), (3, .int x3)] → f_X9_mostFrom_2 n E x0 x1 x2 x3 hc nc = some o1 → W p l e (rC (fE + 85) (lE + 1848) out.2.2.1 out.2.2.2) s m ([.ref o, .int a0, .int a1] : List Value).toArray below meth c H locs ce sl (MQ below (bQ G (some (.int out.1)) True out.2.1 (nx + out.2.2.1) (AA h nx)) ([.ref o, .int a0, .int a1] : List Value).toArray s out.2.2.1 out.2.2.2 (AA h nx)) (F0 m 2 ls []) := by
    intro n
    induction n with
    | zero =>
      intro x0 x1 x2 x3 hc nc ls H locs ce sl o1 hB hn hT hl hf
      exact absurd hf (by rw [f_X9_mostFrom_2]; exact nofun)
    | succ n ih =>
      intro x0 x1 x2 x3 hc nc ls H locs ce sl o1 hB hn hT hl hf
      rw [f_X9_mostFrom_2] at hf
      refine lv_iload_n hx hb dX9_mostFrom_2 rfl (lv_at hl 3 rfl) ?_
      refine lv_bipush hx hb dX9_mostFrom_3 kc_b10 ?_
      refine lv_icmp_ge (tgt := 21) hx hb dX9_mostFrom_5 (by decide) (fun c1 => ?_) (fun c1 => ?_)
      · replace hf := it_t c1 hf
        refine lv_iconst hx hb dX9_mostFrom_21 kc_i0 ?_
        refine lv_istore_n (i := 3) (lv' := [(3, .int 0), (0, .ref x0), (1, .int x1), (2, .int x2)]) hx hb dX9_mostFrom_22 rfl hl (by decide) rfl (fun ls hl => ?_)
        refine lv_iload_n hx hb dX9_mostFrom_23 rfl (lv_at hl 2 rfl) ?_
        refine lv_istore (lv' := [(4, .int x1), (3, .int 0), (0, .ref x0), (1, .int x1), (2, .int x2)]) hx hb dX9_mostFrom_24 hl (by decide) rfl (fun ls hl => ?_)
        exact (w26 FU) x0 x2 0 x1 hc nc ls H locs ce sl o1 hB (by omega) hT (lv_sub (l' := [(0, .ref x0), (2, .int x2), (3, .int 0), (4, .int x1)]) hl [2, 4, 1, 0] rfl) hf
      · replace hf := it_f c1 hf
        refine lv_aload_n hx hb dX9_mostFrom_8 rfl (lv_at hl 0 rfl) ?_
        obtain ⟨v2, hv2, hf⟩ := ob_s hf
        refine bg_X9_15 S hS hB (vR_s hv2) dX9_mostFrom_9 ?_
        refine lv_iload_n hx hb dX9_mostFrom_12 rfl (lv_at hl 3 rfl) ?_
        refine lv_iconst hx hb dX9_mostFrom_13 kc_im1 ?_
        obtain ⟨h3, hh3, hf⟩ := ob_s hf
        refine b_iast S hS.1 hB hh3 dX9_mostFrom_14 (fun H locs hB => ?_)
        refine lv_iinc (v := (x3 + 1)) (lv' := [(3, .int (x3 + 1)), (0, .ref x0), (1, .int x1), (2, .int x2)]) hx hb dX9_mostFrom_15 hl (k := 3) rfl rfl (by decide) rfl (fun ls hl => ?_)
        refine lv_goto (tgt := 2) hx hb dX9_mostFrom_18 (by decide) ?_
        exact (ih) x0 x1 x2 (x3 + 1) h3 nc ls H locs ce sl o1 hB (by omega) hT (lv_sub (l' := [(0, .ref x0), (1, .int x1), (2, .int x2), (3, .int (x3 + 1))]) hl [1, 2, 3, 0] rfl) hf
  have hT : TL out out 0 0 := TL_0
  rw [f_X9_mostFrom] at hf
  refine lv_iconst hx hb dX9_mostFrom_0 kc_i0 ?_
  refine lv_istore_n (i := 3) (lv' := [(3, .int 0), (0, .ref o), (1, .int a0), (2, .int a1)]) hx hb dX9_mostFrom_1 rfl hl (by decide) rfl (fun ls hl => ?_)
  exact (w2 FU) o a0 a1 0 h nx ls s.heap [] 0 0 out hB (by omega) hT (lv_sub (l' := [(0, .ref o), (1, .int a0), (2, .int a1), (3, .int 0)]) hl [1, 2, 3, 0] rfl) hf
set_option maxRecDepth 100000 in
theorem mc_X9_22 {o : Nat} {a0 : Int32} {a1 : Int32} {out : Int32 × AH × Nat × Nat} (S : CallFix p m c cc nL s args lw_all RX9) (hS : SK G E.1 hSites A s) (hB : BI G A s.heap h nx H locs) (ho : isO h o 8 = true) (hf : f_X9_mostFrom E h nx o a0 a1 = some out) (hsz : ls.size = nL) (hR : (fE + 85) + 1 ≤ R.frames ∧ 8 + (5 + 11) + (lE + 1848) ≤ R.locals) (hW : (rest.map fun v => v.category).sum ≤ 8) (hcs : cells + out.2.2.1 ≤ R.cells ∧ slots + out.2.2.2 ≤ R.slots) (hdg : decode cc pc = .ok (.invokevirtual 22, 3))  (kk : ∀ (H1 : Heap) (locs1 : List Loc), True → BI G A s.heap out.2.1 (nx + out.2.2.1) H1 locs1 → W p l e R s m args below meth c H1 locs1 (cells + out.2.2.1) (slots + out.2.2.2) Q (F0 m (pc + 3) ls (.int out.1 :: rest))) : W p l e R s m args below meth c H locs cells slots Q (F0 m pc ls (.int a1 :: .int a0 :: .ref o :: rest)) := by
  have hN := hS.2.1
  obtain ⟨fs, he⟩ := isO_s ho
  exact br_w (va_runV (As := [.int a0, .int a1]) S (mm_X9_mostFrom (l := l) (G := G) (fE := fE) (lE := lE) hf) (cwV 2 S.2.2.2.2 (lw_V q1638 q1640 qs79 q203 q1641) rfl rfl rfl hd_X9_mostFrom hR) (bPreV hS hB (ci := 8) rfl he) rfl rfl hsz rfl (lv_room hW) hdg hcs) hB kk
end
