section
variable {l : Launch} {D : va_G} {cl : List vw_C} {tys : List (ClassId × FieldType)} {G : hG} {E : bE} {fE lE : Nat} {h : AH} {nx : Nat} {A : Nat → Prop}
variable {p : Program} {e : Env} {R : Room} {s : State} {m : MethodId} {args : Array Value} {below : List Frame} {meth : Method} {c : Code} {H H0 : Heap} {locs : List Loc} {cells slots : Nat} {Q : State → Prop} {cc : ByteArray} {nL pc : Nat} {ls : Array Slot} {rest : List Value}
theorem hd_X2_whoIn : yX2_whoIn.cls = RX2 ∧ yX2_whoIn.cls ≠ "java/lang/invoke/MethodHandle" ∧ yX2_whoIn.cls ≠ "java/lang/invoke/VarHandle" ∧ (parseMethodDescriptor yX2_whoIn.desc).map (fun d => d.parameters.length) = some 1 := by decide +kernel
set_option maxHeartbeats 4000000 in
set_option maxRecDepth 100000 in
theorem mm_X2_whoIn {o : Nat} {a0 : Int32} {out : Int32} (hf : f_X2_whoIn E h o a0 = some out) : Met l yX2_whoIn (ws_ yX2_whoIn cX2_whoIn 3 (some .int)) (rM (fE + 1) (lE + 20)) (bPc G E.1 hSites h nx [.ref o, .int a0]) (gR (some (.int out)) True) 0 0 (fun _ => False) := by
  refine bGo (by decide +kernel) (Nat.le_of_ble_eq_true rfl) (fun p e s m below meth c ls S hr hlocks hin hnm hS hB hl => ?_)
  have S : CallFix p m c cX2_whoIn 3 s _ lw_all RX2 := S
  obtain ⟨hx, hb, hml, hown, hts⟩ := id S
  have hl : lv_has ls 3 [(0, .ref o), (1, .int a0)] := hl
  have w2 : ∀ (n : Nat) , ∀ (x0 : Nat) (x1 : Int32) (x2 : Int32) (ls : Array Slot), lv_has ls 3 [(0, .ref x0), (1, .int x1), (2, .int x2)] → f_X2_whoIn_2 n E h x0 x1 x2 = some out → W p l e (rM (fE + 1) (lE + 20)) s m ([.ref o, .int a0] : List Value).toArray below meth c s.heap [] 0 0 (MQ below (gR (some (.int out)) True) ([.ref o, .int a0] : List Value).toArray s 0 0 (fun _ => False)) (F0 m 2 ls []) := by
    intro n
    induction n with
    | zero =>
      intro x0 x1 x2 ls hl hf
      exact absurd hf (by rw [f_X2_whoIn_2]; exact nofun)
    | succ n ih =>
      intro x0 x1 x2 ls hl hf
      rw [f_X2_whoIn_2] at hf
      refine lv_iload_n hx hb dX2_whoIn_2 rfl (lv_at hl 2 rfl) ?_
      refine lv_aload_n hx hb dX2_whoIn_3 rfl (lv_at hl 0 rfl) ?_
      obtain ⟨v1, hv1, hf⟩ := ob_s hf
      refine bg_X2_3 S hS hB (vR_s hv1) dX2_whoIn_4 ?_
      obtain ⟨v2, hv2, hf⟩ := ob_s hf
      refine bg_X2_146 S hS hB (vR_s hv2) dX2_whoIn_7 ?_
      obtain ⟨g3, hf⟩ := gd_t hf
      obtain ⟨v4, hv4, hf⟩ := ob_s hf
      refine mc_X2_149 (fE := fE) (lE := lE) S hS hB g3 hv4 hl.1 ⟨(by show _ ≤ (fE + 1); omega), (by show _ ≤ (lE + 20); omega)⟩ (Nat.le_of_ble_eq_true rfl) ⟨Nat.zero_le _, Nat.zero_le _⟩ dX2_whoIn_10 (fun _ => ?_)
      refine lv_icmp_ge (tgt := 34) hx hb dX2_whoIn_13 (by decide) (fun c5 => ?_) (fun c5 => ?_)
      · replace hf := it_t c5 hf
        refine lv_iconst hx hb dX2_whoIn_34 kc_im1 ?_
        have hE9 := Option.some.inj hf
        subst hE9
        exact gt_ri S hr hlocks trivial dX2_whoIn_35
      · replace hf := it_f c5 hf
        refine lv_aload_n hx hb dX2_whoIn_16 rfl (lv_at hl 0 rfl) ?_
        obtain ⟨v6, hv6, hf⟩ := ob_s hf
        refine bg_X2_19 S hS hB (vR_s hv6) dX2_whoIn_17 ?_
        refine lv_iload_n hx hb dX2_whoIn_20 rfl (lv_at hl 2 rfl) ?_
        obtain ⟨v7, hv7, hf⟩ := ob_s hf
        refine b_iald S hS.1 hB hv7 dX2_whoIn_21 ?_
        refine lv_iload_n hx hb dX2_whoIn_22 rfl (lv_at hl 1 rfl) ?_
        refine lv_icmp_ne (tgt := 28) hx hb dX2_whoIn_23 (by decide) (fun c8 => ?_) (fun c8 => ?_)
        · replace hf := it_f c8 hf
          refine lv_iinc (v := (x2 + 1)) (lv' := [(2, .int (x2 + 1)), (0, .ref x0), (1, .int x1)]) hx hb dX2_whoIn_28 hl (k := 2) rfl rfl (by decide) rfl (fun ls hl => ?_)
          refine lv_goto (tgt := 2) hx hb dX2_whoIn_31 (by decide) ?_
          exact (ih) x0 x1 (x2 + 1) ls (lv_sub (l' := [(0, .ref x0), (1, .int x1), (2, .int (x2 + 1))]) hl [1, 2, 0] rfl) hf
        · replace hf := it_t c8 hf
          refine lv_iload_n hx hb dX2_whoIn_26 rfl (lv_at hl 2 rfl) ?_
          have hE9 := Option.some.inj hf
          subst hE9
          exact gt_ri S hr hlocks trivial dX2_whoIn_27
  rw [f_X2_whoIn] at hf
  refine lv_iconst hx hb dX2_whoIn_0 kc_i0 ?_
  refine lv_istore_n (i := 2) (lv' := [(2, .int 0), (0, .ref o), (1, .int a0)]) hx hb dX2_whoIn_1 rfl hl (by decide) rfl (fun ls hl => ?_)
  exact (w2 FU) o a0 0 ls (lv_sub (l' := [(0, .ref o), (1, .int a0), (2, .int 0)]) hl [1, 2, 0] rfl) hf
set_option maxRecDepth 100000 in
theorem mc_X1_244 {o : Nat} {a0 : Int32} {out : Int32} (S : CallFix p m c cc nL s args lw_all RX1) (hS : SK G E.1 hSites A s) (hB : BI G A s.heap h nx H locs) (ho : isO h o 1 = true) (hf : f_X2_whoIn E h o a0 = some out) (hsz : ls.size = nL) (hR : (fE + 1) + 1 ≤ R.frames ∧ 8 + (3 + 11) + (lE + 20) ≤ R.locals) (hW : (rest.map fun v => v.category).sum ≤ 8) (hcs : cells ≤ R.cells ∧ slots ≤ R.slots) (hdg : decode cc pc = .ok (.invokevirtual 244, 3))  (kk : True → W p l e R s m args below meth c H locs cells slots Q (F0 m (pc + 3) ls (.int out :: rest))) : W p l e R s m args below meth c H locs cells slots Q (F0 m pc ls (.int a0 :: .ref o :: rest)) := by
  have hN := hS.2.1
  obtain ⟨fs, he⟩ := isO_s ho
  exact br_r (va_runV (As := [.int a0]) S (mm_X2_whoIn (l := l) (G := G) (nx := nx) (fE := fE) (lE := lE) hf) (cwV 1 S.2.2.2.2 (lw_V q1218 q274 q275 q178 q276) rfl rfl rfl hd_X2_whoIn hR) (bPreV hS hB (ci := 1) rfl he) rfl rfl hsz rfl (lv_room hW) hdg hcs) kk
set_option maxRecDepth 100000 in
theorem mc_X10_58 {o : Nat} {a0 : Int32} {out : Int32} (S : CallFix p m c cc nL s args lw_all RX10) (hS : SK G E.1 hSites A s) (hB : BI G A s.heap h nx H locs) (ho : isO h o 1 = true) (hf : f_X2_whoIn E h o a0 = some out) (hsz : ls.size = nL) (hR : (fE + 1) + 1 ≤ R.frames ∧ 8 + (3 + 11) + (lE + 20) ≤ R.locals) (hW : (rest.map fun v => v.category).sum ≤ 8) (hcs : cells ≤ R.cells ∧ slots ≤ R.slots) (hdg : decode cc pc = .ok (.invokevirtual 58, 3))  (kk : True → W p l e R s m args below meth c H locs cells slots Q (F0 m (pc + 3) ls (.int out :: rest))) : W p l e R s m args below meth c H locs cells slots Q (F0 m pc ls (.int a0 :: .ref o :: rest)) := by
  have hN := hS.2.1
  obtain ⟨fs, he⟩ := isO_s ho
  exact br_r (va_runV (As := [.int a0]) S (mm_X2_whoIn (l := l) (G := G) (nx := nx) (fE := fE) (lE := lE) hf) (cwV 1 S.2.2.2.2 (lw_V q1698 q274 q275 q178 q276) rfl rfl rfl hd_X2_whoIn hR) (bPreV hS hB (ci := 1) rfl he) rfl rfl hsz rfl (lv_room hW) hdg hcs) kk
set_option maxRecDepth 100000 in
theorem mc_X2_153 {o : Nat} {a0 : Int32} {out : Int32} (S : CallFix p m c cc nL s args lw_all RX2) (hS : SK G E.1 hSites A s) (hB : BI G A s.heap h nx H locs) (ho : isO h o 1 = true) (hf : f_X2_whoIn E h o a0 = some out) (hsz : ls.size = nL) (hR : (fE + 1) + 1 ≤ R.frames ∧ 8 + (3 + 11) + (lE + 20) ≤ R.locals) (hW : (rest.map fun v => v.category).sum ≤ 8) (hcs : cells ≤ R.cells ∧ slots ≤ R.slots) (hdg : decode cc pc = .ok (.invokevirtual 153, 3))  (kk : True → W p l e R s m args below meth c H locs cells slots Q (F0 m (pc + 3) ls (.int out :: rest))) : W p l e R s m args below meth c H locs cells slots Q (F0 m pc ls (.int a0 :: .ref o :: rest)) := by
  have hN := hS.2.1
  obtain ⟨fs, he⟩ := isO_s ho
  exact br_r (va_runV (As := [.int a0]) S (mm_X2_whoIn (l := l) (G := G) (nx := nx) (fE := fE) (lE := lE) hf) (cwV 1 S.2.2.2.2 (lw_V q273 q274 q275 q178 q276) rfl rfl rfl hd_X2_whoIn hR) (bPreV hS hB (ci := 1) rfl he) rfl rfl hsz rfl (lv_room hW) hdg hcs) kk
theorem hd_X2_isFree : yX2_isFree.cls = RX2 ∧ yX2_isFree.cls ≠ "java/lang/invoke/MethodHandle" ∧ yX2_isFree.cls ≠ "java/lang/invoke/VarHandle" ∧ (parseMethodDescriptor yX2_isFree.desc).map (fun d => d.parameters.length) = some 1 := by decide +kernel
set_option maxHeartbeats 4000000 in
set_option maxRecDepth 100000 in
theorem mm_X2_isFree {o : Nat} {a0 : Int32} {out : Int32} (hf : f_X2_isFree E h o a0 = some out) : Met l yX2_isFree (ws_ yX2_isFree cX2_isFree 2 (some .boolean)) (rM (fE + 2) (lE + 42)) (bPc G E.1 hSites h nx [.ref o, .int a0]) (gR (some (.int out)) (narrow .boolean (.int out) = .int out)) 0 0 (fun _ => False) := by
  refine bGo (by decide +kernel) (Nat.le_of_ble_eq_true rfl) (fun p e s m below meth c ls S hr hlocks hin hnm hS hB hl => ?_)
  have S : CallFix p m c cX2_isFree 2 s _ lw_all RX2 := S
  obtain ⟨hx, hb, hml, hown, hts⟩ := id S
  have hl : lv_has ls 2 [(0, .ref o), (1, .int a0)] := hl
  rw [f_X2_isFree] at hf
  refine lv_aload_n hx hb dX2_isFree_0 rfl (lv_at hl 0 rfl) ?_
  refine lv_iload_n hx hb dX2_isFree_1 rfl (lv_at hl 1 rfl) ?_
  obtain ⟨g1, hf⟩ := gd_t hf
  obtain ⟨v2, hv2, hf⟩ := ob_s hf
  refine mc_X2_153 (fE := fE) (lE := lE) S hS hB g1 hv2 hl.1 ⟨(by show _ ≤ (fE + 2); omega), (by show _ ≤ (lE + 42); omega)⟩ (Nat.le_of_ble_eq_true rfl) ⟨Nat.zero_le _, Nat.zero_le _⟩ dX2_isFree_2 (fun _ => ?_)
  refine lv_if_ge (tgt := 34) hx hb dX2_isFree_5 (by decide) (fun c3 => ?_) (fun c3 => ?_)
  · replace hf := it_t c3 hf
    refine lv_iconst hx hb dX2_isFree_34 kc_i0 ?_
    have hE9 := Option.some.inj hf
    subst hE9
    exact gt_rz S hr hlocks nb0 dX2_isFree_35
  · replace hf := it_f c3 hf
    refine lv_aload_n hx hb dX2_isFree_8 rfl (lv_at hl 0 rfl) ?_
    obtain ⟨v4, hv4, hf⟩ := ob_s hf
    refine bg_X2_40 S hS hB (vR_s hv4) dX2_isFree_9 ?_
    refine lv_iload_n hx hb dX2_isFree_12 rfl (lv_at hl 1 rfl) ?_
    obtain ⟨v5, hv5, hf⟩ := ob_s hf
    refine b_iald S hS.1 hB hv5 dX2_isFree_13 ?_
    refine lv_aload_n hx hb dX2_isFree_14 rfl (lv_at hl 0 rfl) ?_
    obtain ⟨v6, hv6, hf⟩ := ob_s hf
    refine bg_X2_138 S hS hB (vI_s hv6) dX2_isFree_15 ?_
    refine lv_icmp_gt (tgt := 34) hx hb dX2_isFree_18 (by decide) (fun c7 => ?_) (fun c7 => ?_)
    · replace hf := it_t c7 hf
      refine lv_iconst hx hb dX2_isFree_34 kc_i0 ?_
      have hE9 := Option.some.inj hf
      subst hE9
      exact gt_rz S hr hlocks nb0 dX2_isFree_35
    · replace hf := it_f c7 hf
      refine lv_aload_n hx hb dX2_isFree_21 rfl (lv_at hl 0 rfl) ?_
      obtain ⟨v8, hv8, hf⟩ := ob_s hf
      refine bg_X2_52 S hS hB (vR_s hv8) dX2_isFree_22 ?_
      refine lv_iload_n hx hb dX2_isFree_25 rfl (lv_at hl 1 rfl) ?_
      obtain ⟨v9, hv9, hf⟩ := ob_s hf
      refine b_zald S hS.1 hB hv9 dX2_isFree_26 ?_
      refine lv_if_ne (tgt := 34) hx hb dX2_isFree_27 (by decide) (fun c10 => ?_) (fun c10 => ?_)
      · replace hf := it_f c10 hf
        refine lv_iconst hx hb dX2_isFree_34 kc_i0 ?_
        have hE9 := Option.some.inj hf
        subst hE9
        exact gt_rz S hr hlocks nb0 dX2_isFree_35
      · replace hf := it_t c10 hf
        refine lv_iconst hx hb dX2_isFree_30 kc_i1 ?_
        refine lv_goto (tgt := 35) hx hb dX2_isFree_31 (by decide) ?_
        have hE9 := Option.some.inj hf
        subst hE9
        exact gt_rz S hr hlocks nb1 dX2_isFree_35
set_option maxRecDepth 100000 in
theorem mc_X1_250 {o : Nat} {a0 : Int32} {out : Int32} (S : CallFix p m c cc nL s args lw_all RX1) (hS : SK G E.1 hSites A s) (hB : BI G A s.heap h nx H locs) (ho : isO h o 1 = true) (hf : f_X2_isFree E h o a0 = some out) (hsz : ls.size = nL) (hR : (fE + 2) + 1 ≤ R.frames ∧ 8 + (2 + 11) + (lE + 42) ≤ R.locals) (hW : (rest.map fun v => v.category).sum ≤ 8) (hcs : cells ≤ R.cells ∧ slots ≤ R.slots) (hdg : decode cc pc = .ok (.invokevirtual 250, 3))  (kk : (narrow .boolean (.int out) = .int out) → W p l e R s m args below meth c H locs cells slots Q (F0 m (pc + 3) ls (.int out :: rest))) : W p l e R s m args below meth c H locs cells slots Q (F0 m pc ls (.int a0 :: .ref o :: rest)) := by
  have hN := hS.2.1
  obtain ⟨fs, he⟩ := isO_s ho
  exact br_r (va_runV (As := [.int a0]) S (mm_X2_isFree (l := l) (G := G) (nx := nx) (fE := fE) (lE := lE) hf) (cwV 1 S.2.2.2.2 (lw_V q1198 q270 q271 q178 q272) rfl rfl rfl hd_X2_isFree hR) (bPreV hS hB (ci := 1) rfl he) rfl rfl hsz rfl (lv_room hW) hdg hcs) kk
set_option maxRecDepth 100000 in
theorem mc_X11_43 {o : Nat} {a0 : Int32} {out : Int32} (S : CallFix p m c cc nL s args lw_all RX11) (hS : SK G E.1 hSites A s) (hB : BI G A s.heap h nx H locs) (ho : isO h o 1 = true) (hf : f_X2_isFree E h o a0 = some out) (hsz : ls.size = nL) (hR : (fE + 2) + 1 ≤ R.frames ∧ 8 + (2 + 11) + (lE + 42) ≤ R.locals) (hW : (rest.map fun v => v.category).sum ≤ 8) (hcs : cells ≤ R.cells ∧ slots ≤ R.slots) (hdg : decode cc pc = .ok (.invokevirtual 43, 3))  (kk : (narrow .boolean (.int out) = .int out) → W p l e R s m args below meth c H locs cells slots Q (F0 m (pc + 3) ls (.int out :: rest))) : W p l e R s m args below meth c H locs cells slots Q (F0 m pc ls (.int a0 :: .ref o :: rest)) := by
  have hN := hS.2.1
  obtain ⟨fs, he⟩ := isO_s ho
  exact br_r (va_runV (As := [.int a0]) S (mm_X2_isFree (l := l) (G := G) (nx := nx) (fE := fE) (lE := lE) hf) (cwV 1 S.2.2.2.2 (lw_V q1736 q270 q271 q178 q272) rfl rfl rfl hd_X2_isFree hR) (bPreV hS hB (ci := 1) rfl he) rfl rfl hsz rfl (lv_room hW) hdg hcs) kk
set_option maxRecDepth 100000 in
theorem mc_X2_328 {o : Nat} {a0 : Int32} {out : Int32} (S : CallFix p m c cc nL s args lw_all RX2) (hS : SK G E.1 hSites A s) (hB : BI G A s.heap h nx H locs) (ho : isO h o 1 = true) (hf : f_X2_isFree E h o a0 = some out) (hsz : ls.size = nL) (hR : (fE + 2) + 1 ≤ R.frames ∧ 8 + (2 + 11) + (lE + 42) ≤ R.locals) (hW : (rest.map fun v => v.category).sum ≤ 8) (hcs : cells ≤ R.cells ∧ slots ≤ R.slots) (hdg : decode cc pc = .ok (.invokevirtual 328, 3))  (kk : (narrow .boolean (.int out) = .int out) → W p l e R s m args below meth c H locs cells slots Q (F0 m (pc + 3) ls (.int out :: rest))) : W p l e R s m args below meth c H locs cells slots Q (F0 m pc ls (.int a0 :: .ref o :: rest)) := by
  have hN := hS.2.1
  obtain ⟨fs, he⟩ := isO_s ho
  exact br_r (va_runV (As := [.int a0]) S (mm_X2_isFree (l := l) (G := G) (nx := nx) (fE := fE) (lE := lE) hf) (cwV 1 S.2.2.2.2 (lw_V q269 q270 q271 q178 q272) rfl rfl rfl hd_X2_isFree hR) (bPreV hS hB (ci := 1) rfl he) rfl rfl hsz rfl (lv_room hW) hdg hcs) kk
set_option maxRecDepth 100000 in
theorem mc_X9_51 {o : Nat} {a0 : Int32} {out : Int32} (S : CallFix p m c cc nL s args lw_all RX9) (hS : SK G E.1 hSites A s) (hB : BI G A s.heap h nx H locs) (ho : isO h o 1 = true) (hf : f_X2_isFree E h o a0 = some out) (hsz : ls.size = nL) (hR : (fE + 2) + 1 ≤ R.frames ∧ 8 + (2 + 11) + (lE + 42) ≤ R.locals) (hW : (rest.map fun v => v.category).sum ≤ 8) (hcs : cells ≤ R.cells ∧ slots ≤ R.slots) (hdg : decode cc pc = .ok (.invokevirtual 51, 3))  (kk : (narrow .boolean (.int out) = .int out) → W p l e R s m args below meth c H locs cells slots Q (F0 m (pc + 3) ls (.int out :: rest))) : W p l e R s m args below meth c H locs cells slots Q (F0 m pc ls (.int a0 :: .ref o :: rest)) := by
  have hN := hS.2.1
  obtain ⟨fs, he⟩ := isO_s ho
  exact br_r (va_runV (As := [.int a0]) S (mm_X2_isFree (l := l) (G := G) (nx := nx) (fE := fE) (lE := lE) hf) (cwV 1 S.2.2.2.2 (lw_V q1651 q270 q271 q178 q272) rfl rfl rfl hd_X2_isFree hR) (bPreV hS hB (ci := 1) rfl he) rfl rfl hsz rfl (lv_room hW) hdg hcs) kk
theorem hd_X2_lambda_new_2 : yX2_lambda_new_2.cls = RX2 ∧ yX2_lambda_new_2.cls ≠ "java/lang/invoke/MethodHandle" ∧ yX2_lambda_new_2.cls ≠ "java/lang/invoke/VarHandle" ∧ (parseMethodDescriptor yX2_lambda_new_2.desc).map (fun d => d.parameters.length) = some 1 := by decide +kernel
set_option maxHeartbeats 4000000 in
set_option maxRecDepth 100000 in
theorem mm_X2_lambda_new_2 {o : Nat} {a0 : Int32} {out : Int32} (hf : f_X2_lambda_new_2 E h o a0 = some out) : Met l yX2_lambda_new_2 (ws_ yX2_lambda_new_2 cX2_lambda_new_2 2 (some .boolean)) (rM (fE + 3) (lE + 63)) (bPc G E.1 hSites h nx [.ref o, .int a0]) (gR (some (.int out)) (narrow .boolean (.int out) = .int out)) 0 0 (fun _ => False) := by
  refine bGo (by decide +kernel) (Nat.le_of_ble_eq_true rfl) (fun p e s m below meth c ls S hr hlocks hin hnm hS hB hl => ?_)
  have S : CallFix p m c cX2_lambda_new_2 2 s _ lw_all RX2 := S
  obtain ⟨hx, hb, hml, hown, hts⟩ := id S
  have hl : lv_has ls 2 [(0, .ref o), (1, .int a0)] := hl
  rw [f_X2_lambda_new_2] at hf
  refine lv_aload_n hx hb dX2_lambda_new_2_0 rfl (lv_at hl 0 rfl) ?_
  refine lv_iload_n hx hb dX2_lambda_new_2_1 rfl (lv_at hl 1 rfl) ?_
  obtain ⟨g1, hf⟩ := gd_t hf
  obtain ⟨v2, hv2, hf⟩ := ob_s hf
  refine mc_X2_328 (fE := fE) (lE := lE) S hS hB g1 hv2 hl.1 ⟨(by show _ ≤ (fE + 3); omega), (by show _ ≤ (lE + 63); omega)⟩ (Nat.le_of_ble_eq_true rfl) ⟨Nat.zero_le _, Nat.zero_le _⟩ dX2_lambda_new_2_2 (fun hnv2 => ?_)
  refine lv_if_ne (tgt := 12) hx hb dX2_lambda_new_2_5 (by decide) (fun c3 => ?_) (fun c3 => ?_)
  · replace hf := it_f c3 hf
    refine lv_iconst hx hb dX2_lambda_new_2_12 kc_i0 ?_
    have hE9 := Option.some.inj hf
    subst hE9
    exact gt_rz S hr hlocks nb0 dX2_lambda_new_2_13
  · replace hf := it_t c3 hf
    refine lv_iconst hx hb dX2_lambda_new_2_8 kc_i1 ?_
    refine lv_goto (tgt := 13) hx hb dX2_lambda_new_2_9 (by decide) ?_
    have hE9 := Option.some.inj hf
    subst hE9
    exact gt_rz S hr hlocks nb1 dX2_lambda_new_2_13
theorem hd_X1_homeAt : yX1_homeAt.cls = RX1 ∧ yX1_homeAt.cls ≠ "java/lang/invoke/MethodHandle" ∧ yX1_homeAt.cls ≠ "java/lang/invoke/VarHandle" ∧ (parseMethodDescriptor yX1_homeAt.desc).map (fun d => d.parameters.length) = some 1 := by decide +kernel
set_option maxHeartbeats 4000000 in
set_option maxRecDepth 100000 in
theorem mm_X1_homeAt {o : Nat} {a0 : Int32} {out : Nat} (hf : f_X1_homeAt E h o a0 = some out) : Met l yX1_homeAt (ws_ yX1_homeAt cX1_homeAt 2 (some (.object "HomesQueue$Home"))) (rM (fE + 3) (lE + 64)) (bPc G E.1 hSites h nx [.ref o, .int a0]) (gR (some (.ref out)) True) 0 0 (fun _ => False) := by
  refine bGo (by decide +kernel) (Nat.le_of_ble_eq_true rfl) (fun p e s m below meth c ls S hr hlocks hin hnm hS hB hl => ?_)
  have S : CallFix p m c cX1_homeAt 2 s _ lw_all RX1 := S
  obtain ⟨hx, hb, hml, hown, hts⟩ := id S
  have hl : lv_has ls 2 [(0, .ref o), (1, .int a0)] := hl
  rw [f_X1_homeAt] at hf
  refine lv_aload_n hx hb dX1_homeAt_0 rfl (lv_at hl 0 rfl) ?_
  obtain ⟨v1, hv1, hf⟩ := ob_s hf
  refine bg_X1_39 S hS hB (vR_s hv1) dX1_homeAt_1 ?_
  refine lv_iload_n hx hb dX1_homeAt_4 rfl (lv_at hl 1 rfl) ?_
  obtain ⟨g2, hf⟩ := gd_t hf
  obtain ⟨v3, hv3, hf⟩ := ob_s hf
  refine mc_X1_43 (fE := fE) (lE := lE) S hS hB g2 hv3 hl.1 ⟨(by show _ ≤ (fE + 3); omega), (by show _ ≤ (lE + 64); omega)⟩ (Nat.le_of_ble_eq_true rfl) ⟨Nat.zero_le _, Nat.zero_le _⟩ dX1_homeAt_5 (fun _ => ?_)
  obtain ⟨g4, hf⟩ := gd_t hf
  refine b_castO S hS.1 hB (ci := 5) rfl (hts _ q306) g4 dX1_homeAt_8 ?_
  have hE9 := Option.some.inj hf
  subst hE9
  exact gt_ra S hr (Or.inl ⟨_, rfl⟩) hlocks trivial dX1_homeAt_11
set_option maxRecDepth 100000 in
theorem mc_X1_234 {o : Nat} {a0 : Int32} {out : Nat} (S : CallFix p m c cc nL s args lw_all RX1) (hS : SK G E.1 hSites A s) (hB : BI G A s.heap h nx H locs) (ho : isO h o 0 = true) (hf : f_X1_homeAt E h o a0 = some out) (hsz : ls.size = nL) (hR : (fE + 3) + 1 ≤ R.frames ∧ 8 + (2 + 11) + (lE + 64) ≤ R.locals) (hW : (rest.map fun v => v.category).sum ≤ 8) (hcs : cells ≤ R.cells ∧ slots ≤ R.slots) (hdg : decode cc pc = .ok (.invokevirtual 234, 3))  (kk : True → W p l e R s m args below meth c H locs cells slots Q (F0 m (pc + 3) ls (.ref out :: rest))) : W p l e R s m args below meth c H locs cells slots Q (F0 m pc ls (.int a0 :: .ref o :: rest)) := by
  have hN := hS.2.1
  obtain ⟨fs, he⟩ := isO_s ho
  exact br_r (va_runV (As := [.int a0]) S (mm_X1_homeAt (l := l) (G := G) (nx := nx) (fE := fE) (lE := lE) hf) (cwV 1 S.2.2.2.2 (lw_V q1217 q290 qs4 q174 q291) rfl rfl rfl hd_X1_homeAt hR) (bPreV hS hB (ci := 0) rfl he) rfl rfl hsz rfl (lv_room hW) hdg hcs) kk
set_option maxRecDepth 100000 in
theorem mc_X2_157 {o : Nat} {a0 : Int32} {out : Nat} (S : CallFix p m c cc nL s args lw_all RX2) (hS : SK G E.1 hSites A s) (hB : BI G A s.heap h nx H locs) (ho : isO h o 0 = true) (hf : f_X1_homeAt E h o a0 = some out) (hsz : ls.size = nL) (hR : (fE + 3) + 1 ≤ R.frames ∧ 8 + (2 + 11) + (lE + 64) ≤ R.locals) (hW : (rest.map fun v => v.category).sum ≤ 8) (hcs : cells ≤ R.cells ∧ slots ≤ R.slots) (hdg : decode cc pc = .ok (.invokevirtual 157, 3))  (kk : True → W p l e R s m args below meth c H locs cells slots Q (F0 m (pc + 3) ls (.ref out :: rest))) : W p l e R s m args below meth c H locs cells slots Q (F0 m pc ls (.int a0 :: .ref o :: rest)) := by
  have hN := hS.2.1
  obtain ⟨fs, he⟩ := isO_s ho
  exact br_r (va_runVN (As := [.int a0]) S (mm_X1_homeAt (l := l) (G := G) (nx := nx) (fE := fE) (lE := lE) hf) (⟨va_cnB 1 S.2.2.2.2 (lw_meth q291) rfl rfl rfl (hN _ q288 rfl) (S.2.2.2.2 _ q174) hd_X1_homeAt.2 hR, S.2.2.2.2 _ q290, S.2.2.2.2 _ qs4⟩) (bPreV hS hB (ci := 0) rfl he) rfl rfl hsz rfl (lv_room hW) hdg hcs) kk
theorem hd_X1_isIn : yX1_isIn.cls ≠ "java/lang/invoke/MethodHandle" ∧ yX1_isIn.cls ≠ "java/lang/invoke/VarHandle" ∧ (parseMethodDescriptor yX1_isIn.desc).map (fun d => d.parameters.length) = some 3 := by decide +kernel
set_option maxHeartbeats 4000000 in
set_option maxRecDepth 100000 in
theorem mm_X1_isIn {a0 : Int64} {a1 : Int64} {a2 : Int64} {out : Int32} (hf : f_X1_isIn a0 a1 a2 = some out) : Met l yX1_isIn (ws_ yX1_isIn cX1_isIn 6 (some .boolean)) (rM 0 0) (gPc D cl tys [.long a0, .long a1, .long a2] []) (gR (some (.int out)) (narrow .boolean (.int out) = .int out)) 0 0 (fun _ => False) := by
  refine gGo (by decide +kernel) (Nat.le_of_ble_eq_true rfl) (fun p e s m below meth c ls S hr hlocks hK hP hl => ?_)
  have S : CallFix p m c cX1_isIn 6 s _ lw_all RX1 := S
  obtain ⟨hx, hb, hml, hown, hts⟩ := id S
  have hl : lv_has ls 6 [(0, .long a0), (2, .long a1), (4, .long a2)] := hl
  rw [f_X1_isIn] at hf
  refine lv_lload_n hx hb dX1_isIn_0 rfl (lv_at hl 0 rfl) ?_
  refine lv_lload_n hx hb dX1_isIn_1 rfl (lv_at hl 1 rfl) ?_
  refine W.lcmp hx hb dX1_isIn_2 ?_
  refine lv_if_lt (tgt := 17) hx hb dX1_isIn_3 (by decide) (fun c1 => ?_) (fun c1 => ?_)
  · replace hf := it_t c1 hf
    refine lv_iconst hx hb dX1_isIn_17 kc_i0 ?_
    have hE9 := Option.some.inj hf
    subst hE9
    exact gt_rz S hr hlocks nb0 dX1_isIn_18
  · replace hf := it_f c1 hf
    refine lv_lload_n hx hb dX1_isIn_6 rfl (lv_at hl 0 rfl) ?_
    refine lv_lload hx hb dX1_isIn_7 (lv_at hl 2 rfl) ?_
    refine W.lcmp hx hb dX1_isIn_9 ?_
    refine lv_if_gt (tgt := 17) hx hb dX1_isIn_10 (by decide) (fun c2 => ?_) (fun c2 => ?_)
    · replace hf := it_t c2 hf
      refine lv_iconst hx hb dX1_isIn_17 kc_i0 ?_
      have hE9 := Option.some.inj hf
      subst hE9
      exact gt_rz S hr hlocks nb0 dX1_isIn_18
    · replace hf := it_f c2 hf
      refine lv_iconst hx hb dX1_isIn_13 kc_i1 ?_
      refine lv_goto (tgt := 18) hx hb dX1_isIn_14 (by decide) ?_
      have hE9 := Option.some.inj hf
      subst hE9
      exact gt_rz S hr hlocks nb1 dX1_isIn_18
set_option maxRecDepth 100000 in
theorem mc_X1_134 {a0 : Int64} {a1 : Int64} {a2 : Int64} {out : Int32} (S : CallFix p m c cc nL s args lw_all RX1) (hK : va_K D cl tys s) (hf : f_X1_isIn a0 a1 a2 = some out) (hsz : ls.size = nL) (hR : 0 + 1 ≤ R.frames ∧ 8 + (6 + 11) + 0 ≤ R.locals) (hW : (rest.map fun v => v.category).sum ≤ 8) (hcs : cells ≤ R.cells ∧ slots ≤ R.slots) (hdg : decode cc pc = .ok (.invokestatic 134, 3))  (kk : (narrow .boolean (.int out) = .int out) → W p l e R s m args below meth c H locs cells slots Q (F0 m (pc + 3) ls (.int out :: rest))) : W p l e R s m args below meth c H locs cells slots Q (F0 m pc ls (.long a2 :: .long a1 :: .long a0 :: rest)) := by
  exact br_r (va_runS (As := [.long a0, .long a1, .long a2]) S (mm_X1_isIn hf) (va_cwS 3 S.2.2.2.2 (lw_S q652 q308 q174 q309) rfl rfl rfl hd_X1_isIn hR) (gPreS hK gP0) rfl rfl hsz rfl (lv_room hW) hdg hcs) kk
set_option maxRecDepth 100000 in
theorem mc_X2_166 {a0 : Int64} {a1 : Int64} {a2 : Int64} {out : Int32} (S : CallFix p m c cc nL s args lw_all RX2) (hK : va_K D cl tys s) (hN : NK s) (hf : f_X1_isIn a0 a1 a2 = some out) (hsz : ls.size = nL) (hR : 0 + 1 ≤ R.frames ∧ 8 + (6 + 11) + 0 ≤ R.locals) (hW : (rest.map fun v => v.category).sum ≤ 8) (hcs : cells ≤ R.cells ∧ slots ≤ R.slots) (hdg : decode cc pc = .ok (.invokestatic 166, 3))  (kk : (narrow .boolean (.int out) = .int out) → W p l e R s m args below meth c H locs cells slots Q (F0 m (pc + 3) ls (.int out :: rest))) : W p l e R s m args below meth c H locs cells slots Q (F0 m pc ls (.long a2 :: .long a1 :: .long a0 :: rest)) := by
  exact br_r (va_runSN (As := [.long a0, .long a1, .long a2]) S (mm_X1_isIn hf) (⟨va_cnB 3 S.2.2.2.2 (lw_meth q309) rfl rfl rfl (hN _ q307 rfl) (S.2.2.2.2 _ q174) hd_X1_isIn hR, S.2.2.2.2 _ q308, trivial⟩) (gPreS hK gP0) rfl rfl hsz rfl (lv_room hW) hdg hcs) kk
set_option maxRecDepth 100000 in
theorem mc_X4_53 {a0 : Int64} {a1 : Int64} {a2 : Int64} {out : Int32} (S : CallFix p m c cc nL s args lw_all RX4) (hK : va_K D cl tys s) (hN : NK s) (hf : f_X1_isIn a0 a1 a2 = some out) (hsz : ls.size = nL) (hR : 0 + 1 ≤ R.frames ∧ 8 + (6 + 11) + 0 ≤ R.locals) (hW : (rest.map fun v => v.category).sum ≤ 8) (hcs : cells ≤ R.cells ∧ slots ≤ R.slots) (hdg : decode cc pc = .ok (.invokestatic 53, 3))  (kk : (narrow .boolean (.int out) = .int out) → W p l e R s m args below meth c H locs cells slots Q (F0 m (pc + 3) ls (.int out :: rest))) : W p l e R s m args below meth c H locs cells slots Q (F0 m pc ls (.long a2 :: .long a1 :: .long a0 :: rest)) := by
  exact br_r (va_runSN (As := [.long a0, .long a1, .long a2]) S (mm_X1_isIn hf) (⟨va_cnB 3 S.2.2.2.2 (lw_meth q309) rfl rfl rfl (hN _ q676 rfl) (S.2.2.2.2 _ q174) hd_X1_isIn hR, S.2.2.2.2 _ q308, trivial⟩) (gPreS hK gP0) rfl rfl hsz rfl (lv_room hW) hdg hcs) kk
theorem hd_X2_isFitting : yX2_isFitting.cls = RX2 ∧ yX2_isFitting.cls ≠ "java/lang/invoke/MethodHandle" ∧ yX2_isFitting.cls ≠ "java/lang/invoke/VarHandle" ∧ (parseMethodDescriptor yX2_isFitting.desc).map (fun d => d.parameters.length) = some 2 := by decide +kernel
set_option maxHeartbeats 4000000 in
set_option maxRecDepth 100000 in
theorem mm_X2_isFitting {o : Nat} {a0 : Int32} {a1 : Int32} {out : Int32} (hf : f_X2_isFitting E h o a0 a1 = some out) : Met l yX2_isFitting (ws_ yX2_isFitting cX2_isFitting 3 (some .boolean)) (rM (fE + 4) (lE + 85)) (bPc G E.1 hSites h nx [.ref o, .int a0, .int a1]) (gR (some (.int out)) (narrow .boolean (.int out) = .int out)) 0 0 (fun _ => False) := by
  refine bGo (by decide +kernel) (Nat.le_of_ble_eq_true rfl) (fun p e s m below meth c ls S hr hlocks hin hnm hS hB hl => ?_)
  have S : CallFix p m c cX2_isFitting 3 s _ lw_all RX2 := S
  obtain ⟨hx, hb, hml, hown, hts⟩ := id S
  have hl : lv_has ls 3 [(0, .ref o), (1, .int a0), (2, .int a1)] := hl
  rw [f_X2_isFitting] at hf
  refine lv_aload_n hx hb dX2_isFitting_0 rfl (lv_at hl 0 rfl) ?_
  obtain ⟨v1, hv1, hf⟩ := ob_s hf
  refine bg_X2_3 S hS hB (vR_s hv1) dX2_isFitting_1 ?_
  refine lv_iload_n hx hb dX2_isFitting_4 rfl (lv_at hl 2 rfl) ?_
  obtain ⟨g2, hf⟩ := gd_t hf
  obtain ⟨v3, hv3, hf⟩ := ob_s hf
  refine mc_X2_157 (fE := fE) (lE := lE) S hS hB g2 hv3 hl.1 ⟨(by show _ ≤ (fE + 4); omega), (by show _ ≤ (lE + 85); omega)⟩ (Nat.le_of_ble_eq_true rfl) ⟨Nat.zero_le _, Nat.zero_le _⟩ dX2_isFitting_5 (fun _ => ?_)
  obtain ⟨v4, hv4, hf⟩ := ob_s hf
  refine bg_X2_161 S hS hB (vI_s hv4) dX2_isFitting_8 ?_
  refine lv_aload_n hx hb dX2_isFitting_11 rfl (lv_at hl 0 rfl) ?_
  obtain ⟨v5, hv5, hf⟩ := ob_s hf
  refine bg_X2_46 S hS hB (vR_s hv5) dX2_isFitting_12 ?_
  refine lv_iload_n hx hb dX2_isFitting_15 rfl (lv_at hl 1 rfl) ?_
  obtain ⟨v6, hv6, hf⟩ := ob_s hf
  refine b_iald S hS.1 hB hv6 dX2_isFitting_16 ?_
  refine lv_isub hx hb dX2_isFitting_17 ?_
  refine lv_i2l hx hb dX2_isFitting_18 rfl ?_
  refine lv_lconst (v := 0) hx hb dX2_isFitting_19 (by decide) ?_
  refine lv_lconst (v := 1) hx hb dX2_isFitting_20 (by decide) ?_
  obtain ⟨v7, hv7, hf⟩ := ob_s hf
  refine mc_X2_166 S hS.1 hS.2.1 hv7 hl.1 ⟨(by show _ ≤ (fE + 4); omega), (by show _ ≤ (lE + 85); omega)⟩ (Nat.le_of_ble_eq_true rfl) ⟨Nat.zero_le _, Nat.zero_le _⟩ dX2_isFitting_21 (fun hnv7 => ?_)
  have hE9 := Option.some.inj hf
  subst hE9
  exact gt_rz S hr hlocks hnv7 dX2_isFitting_24
set_option maxRecDepth 100000 in
theorem mc_X1_338 {o : Nat} {a0 : Int32} {a1 : Int32} {out : Int32} (S : CallFix p m c cc nL s args lw_all RX1) (hS : SK G E.1 hSites A s) (hB : BI G A s.heap h nx H locs) (ho : isO h o 1 = true) (hf : f_X2_isFitting E h o a0 a1 = some out) (hsz : ls.size = nL) (hR : (fE + 4) + 1 ≤ R.frames ∧ 8 + (3 + 11) + (lE + 85) ≤ R.locals) (hW : (rest.map fun v => v.category).sum ≤ 8) (hcs : cells ≤ R.cells ∧ slots ≤ R.slots) (hdg : decode cc pc = .ok (.invokevirtual 338, 3))  (kk : (narrow .boolean (.int out) = .int out) → W p l e R s m args below meth c H locs cells slots Q (F0 m (pc + 3) ls (.int out :: rest))) : W p l e R s m args below meth c H locs cells slots Q (F0 m pc ls (.int a1 :: .int a0 :: .ref o :: rest)) := by
  have hN := hS.2.1
  obtain ⟨fs, he⟩ := isO_s ho
  exact br_r (va_runV (As := [.int a0, .int a1]) S (mm_X2_isFitting (l := l) (G := G) (nx := nx) (fE := fE) (lE := lE) hf) (cwV 2 S.2.2.2.2 (lw_V q1306 q285 q286 q178 q287) rfl rfl rfl hd_X2_isFitting hR) (bPreV hS hB (ci := 1) rfl he) rfl rfl hsz rfl (lv_room hW) hdg hcs) kk
set_option maxRecDepth 100000 in
theorem mc_X10_61 {o : Nat} {a0 : Int32} {a1 : Int32} {out : Int32} (S : CallFix p m c cc nL s args lw_all RX10) (hS : SK G E.1 hSites A s) (hB : BI G A s.heap h nx H locs) (ho : isO h o 1 = true) (hf : f_X2_isFitting E h o a0 a1 = some out) (hsz : ls.size = nL) (hR : (fE + 4) + 1 ≤ R.frames ∧ 8 + (3 + 11) + (lE + 85) ≤ R.locals) (hW : (rest.map fun v => v.category).sum ≤ 8) (hcs : cells ≤ R.cells ∧ slots ≤ R.slots) (hdg : decode cc pc = .ok (.invokevirtual 61, 3))  (kk : (narrow .boolean (.int out) = .int out) → W p l e R s m args below meth c H locs cells slots Q (F0 m (pc + 3) ls (.int out :: rest))) : W p l e R s m args below meth c H locs cells slots Q (F0 m pc ls (.int a1 :: .int a0 :: .ref o :: rest)) := by
  have hN := hS.2.1
  obtain ⟨fs, he⟩ := isO_s ho
  exact br_r (va_runV (As := [.int a0, .int a1]) S (mm_X2_isFitting (l := l) (G := G) (nx := nx) (fE := fE) (lE := lE) hf) (cwV 2 S.2.2.2.2 (lw_V q1699 q285 q286 q178 q287) rfl rfl rfl hd_X2_isFitting hR) (bPreV hS hB (ci := 1) rfl he) rfl rfl hsz rfl (lv_room hW) hdg hcs) kk
set_option maxRecDepth 100000 in
theorem mc_X2_187 {o : Nat} {a0 : Int32} {a1 : Int32} {out : Int32} (S : CallFix p m c cc nL s args lw_all RX2) (hS : SK G E.1 hSites A s) (hB : BI G A s.heap h nx H locs) (ho : isO h o 1 = true) (hf : f_X2_isFitting E h o a0 a1 = some out) (hsz : ls.size = nL) (hR : (fE + 4) + 1 ≤ R.frames ∧ 8 + (3 + 11) + (lE + 85) ≤ R.locals) (hW : (rest.map fun v => v.category).sum ≤ 8) (hcs : cells ≤ R.cells ∧ slots ≤ R.slots) (hdg : decode cc pc = .ok (.invokevirtual 187, 3))  (kk : (narrow .boolean (.int out) = .int out) → W p l e R s m args below meth c H locs cells slots Q (F0 m (pc + 3) ls (.int out :: rest))) : W p l e R s m args below meth c H locs cells slots Q (F0 m pc ls (.int a1 :: .int a0 :: .ref o :: rest)) := by
  have hN := hS.2.1
  obtain ⟨fs, he⟩ := isO_s ho
  exact br_r (va_runV (As := [.int a0, .int a1]) S (mm_X2_isFitting (l := l) (G := G) (nx := nx) (fE := fE) (lE := lE) hf) (cwV 2 S.2.2.2.2 (lw_V q284 q285 q286 q178 q287) rfl rfl rfl hd_X2_isFitting hR) (bPreV hS hB (ci := 1) rfl he) rfl rfl hsz rfl (lv_room hW) hdg hcs) kk
theorem hd_X2_lambda_new_3 : yX2_lambda_new_3.cls = RX2 ∧ yX2_lambda_new_3.cls ≠ "java/lang/invoke/MethodHandle" ∧ yX2_lambda_new_3.cls ≠ "java/lang/invoke/VarHandle" ∧ (parseMethodDescriptor yX2_lambda_new_3.desc).map (fun d => d.parameters.length) = some 1 := by decide +kernel
set_option maxHeartbeats 4000000 in
set_option maxRecDepth 100000 in
theorem mm_X2_lambda_new_3 {o : Nat} {a0 : Int32} {out : Int32} (hf : f_X2_lambda_new_3 E h o a0 = some out) : Met l yX2_lambda_new_3 (ws_ yX2_lambda_new_3 cX2_lambda_new_3 2 (some .boolean)) (rM (fE + 5) (lE + 107)) (bPc G E.1 hSites h nx [.ref o, .int a0]) (gR (some (.int out)) (narrow .boolean (.int out) = .int out)) 0 0 (fun _ => False) := by
  refine bGo (by decide +kernel) (Nat.le_of_ble_eq_true rfl) (fun p e s m below meth c ls S hr hlocks hin hnm hS hB hl => ?_)
  have S : CallFix p m c cX2_lambda_new_3 2 s _ lw_all RX2 := S
  obtain ⟨hx, hb, hml, hown, hts⟩ := id S
  have hl : lv_has ls 2 [(0, .ref o), (1, .int a0)] := hl
  rw [f_X2_lambda_new_3] at hf
  refine lv_aload_n hx hb dX2_lambda_new_3_0 rfl (lv_at hl 0 rfl) ?_
  refine lv_aload_n hx hb dX2_lambda_new_3_1 rfl (lv_at hl 0 rfl) ?_
  obtain ⟨v1, hv1, hf⟩ := ob_s hf
  refine bg_X2_281 S hS hB (vI_s hv1) dX2_lambda_new_3_2 ?_
  refine lv_iload_n hx hb dX2_lambda_new_3_5 rfl (lv_at hl 1 rfl) ?_
  obtain ⟨g2, hf⟩ := gd_t hf
  obtain ⟨v3, hv3, hf⟩ := ob_s hf
  refine mc_X2_187 (fE := fE) (lE := lE) S hS hB g2 hv3 hl.1 ⟨(by show _ ≤ (fE + 5); omega), (by show _ ≤ (lE + 107); omega)⟩ (Nat.le_of_ble_eq_true rfl) ⟨Nat.zero_le _, Nat.zero_le _⟩ dX2_lambda_new_3_6 (fun hnv3 => ?_)
  refine lv_if_ne (tgt := 16) hx hb dX2_lambda_new_3_9 (by decide) (fun c4 => ?_) (fun c4 => ?_)
  · replace hf := it_f c4 hf
    refine lv_iconst hx hb dX2_lambda_new_3_16 kc_i0 ?_
    have hE9 := Option.some.inj hf
    subst hE9
    exact gt_rz S hr hlocks nb0 dX2_lambda_new_3_17
  · replace hf := it_t c4 hf
    refine lv_iconst hx hb dX2_lambda_new_3_12 kc_i1 ?_
    refine lv_goto (tgt := 17) hx hb dX2_lambda_new_3_13 (by decide) ?_
    have hE9 := Option.some.inj hf
    subst hE9
    exact gt_rz S hr hlocks nb1 dX2_lambda_new_3_17
theorem hd_X2_bidsFor : yX2_bidsFor.cls = RX2 ∧ yX2_bidsFor.cls ≠ "java/lang/invoke/MethodHandle" ∧ yX2_bidsFor.cls ≠ "java/lang/invoke/VarHandle" ∧ (parseMethodDescriptor yX2_bidsFor.desc).map (fun d => d.parameters.length) = some 2 := by decide +kernel
set_option maxHeartbeats 4000000 in
set_option maxRecDepth 100000 in
theorem mm_X2_bidsFor {o : Nat} {a0 : Int32} {a1 : Int32} {out : Int32} (hf : f_X2_bidsFor E h o a0 a1 = some out) : Met l yX2_bidsFor (ws_ yX2_bidsFor cX2_bidsFor 3 (some .boolean)) (rM (fE + 0) (lE + 0)) (bPc G E.1 hSites h nx [.ref o, .int a0, .int a1]) (gR (some (.int out)) (narrow .boolean (.int out) = .int out)) 0 0 (fun _ => False) := by
  refine bGo (by decide +kernel) (Nat.le_of_ble_eq_true rfl) (fun p e s m below meth c ls S hr hlocks hin hnm hS hB hl => ?_)
  have S : CallFix p m c cX2_bidsFor 3 s _ lw_all RX2 := S
  obtain ⟨hx, hb, hml, hown, hts⟩ := id S
  have hl : lv_has ls 3 [(0, .ref o), (1, .int a0), (2, .int a1)] := hl
  rw [f_X2_bidsFor] at hf
  refine lv_aload_n hx hb dX2_bidsFor_0 rfl (lv_at hl 0 rfl) ?_
  obtain ⟨v1, hv1, hf⟩ := ob_s hf
  refine bg_X2_31 S hS hB (vR_s hv1) dX2_bidsFor_1 ?_
  refine lv_iload_n hx hb dX2_bidsFor_4 rfl (lv_at hl 1 rfl) ?_
  obtain ⟨v2, hv2, hf⟩ := ob_s hf
  refine b_iald S hS.1 hB hv2 dX2_bidsFor_5 ?_
  refine lv_iload_n hx hb dX2_bidsFor_6 rfl (lv_at hl 2 rfl) ?_
  refine lv_ishr hx hb dX2_bidsFor_7 ?_
  refine lv_iconst hx hb dX2_bidsFor_8 kc_i1 ?_
  refine lv_iand hx hb dX2_bidsFor_9 ?_
  refine lv_iconst hx hb dX2_bidsFor_10 kc_i1 ?_
  refine lv_icmp_ne (tgt := 18) hx hb dX2_bidsFor_11 (by decide) (fun c3 => ?_) (fun c3 => ?_)
  · replace hf := it_f c3 hf
    refine lv_iconst hx hb dX2_bidsFor_18 kc_i0 ?_
    have hE9 := Option.some.inj hf
    subst hE9
    exact gt_rz S hr hlocks nb0 dX2_bidsFor_19
  · replace hf := it_t c3 hf
    refine lv_iconst hx hb dX2_bidsFor_14 kc_i1 ?_
    refine lv_goto (tgt := 19) hx hb dX2_bidsFor_15 (by decide) ?_
    have hE9 := Option.some.inj hf
    subst hE9
    exact gt_rz S hr hlocks nb1 dX2_bidsFor_19
set_option maxRecDepth 100000 in
theorem mc_X1_325 {o : Nat} {a0 : Int32} {a1 : Int32} {out : Int32} (S : CallFix p m c cc nL s args lw_all RX1) (hS : SK G E.1 hSites A s) (hB : BI G A s.heap h nx H locs) (ho : isO h o 1 = true) (hf : f_X2_bidsFor E h o a0 a1 = some out) (hsz : ls.size = nL) (hR : (fE + 0) + 1 ≤ R.frames ∧ 8 + (3 + 11) + (lE + 0) ≤ R.locals) (hW : (rest.map fun v => v.category).sum ≤ 8) (hcs : cells ≤ R.cells ∧ slots ≤ R.slots) (hdg : decode cc pc = .ok (.invokevirtual 325, 3))  (kk : (narrow .boolean (.int out) = .int out) → W p l e R s m args below meth c H locs cells slots Q (F0 m (pc + 3) ls (.int out :: rest))) : W p l e R s m args below meth c H locs cells slots Q (F0 m pc ls (.int a1 :: .int a0 :: .ref o :: rest)) := by
  have hN := hS.2.1
  obtain ⟨fs, he⟩ := isO_s ho
  exact br_r (va_runV (As := [.int a0, .int a1]) S (mm_X2_bidsFor (l := l) (G := G) (nx := nx) (fE := fE) (lE := lE) hf) (cwV 2 S.2.2.2.2 (lw_V q1226 q314 q315 q178 q316) rfl rfl rfl hd_X2_bidsFor hR) (bPreV hS hB (ci := 1) rfl he) rfl rfl hsz rfl (lv_room hW) hdg hcs) kk
set_option maxRecDepth 100000 in
theorem mc_X2_271 {o : Nat} {a0 : Int32} {a1 : Int32} {out : Int32} (S : CallFix p m c cc nL s args lw_all RX2) (hS : SK G E.1 hSites A s) (hB : BI G A s.heap h nx H locs) (ho : isO h o 1 = true) (hf : f_X2_bidsFor E h o a0 a1 = some out) (hsz : ls.size = nL) (hR : (fE + 0) + 1 ≤ R.frames ∧ 8 + (3 + 11) + (lE + 0) ≤ R.locals) (hW : (rest.map fun v => v.category).sum ≤ 8) (hcs : cells ≤ R.cells ∧ slots ≤ R.slots) (hdg : decode cc pc = .ok (.invokevirtual 271, 3))  (kk : (narrow .boolean (.int out) = .int out) → W p l e R s m args below meth c H locs cells slots Q (F0 m (pc + 3) ls (.int out :: rest))) : W p l e R s m args below meth c H locs cells slots Q (F0 m pc ls (.int a1 :: .int a0 :: .ref o :: rest)) := by
  have hN := hS.2.1
  obtain ⟨fs, he⟩ := isO_s ho
  exact br_r (va_runV (As := [.int a0, .int a1]) S (mm_X2_bidsFor (l := l) (G := G) (nx := nx) (fE := fE) (lE := lE) hf) (cwV 2 S.2.2.2.2 (lw_V q313 q314 q315 q178 q316) rfl rfl rfl hd_X2_bidsFor hR) (bPreV hS hB (ci := 1) rfl he) rfl rfl hsz rfl (lv_room hW) hdg hcs) kk
theorem hd_X2_lambda_new_4 : yX2_lambda_new_4.cls = RX2 ∧ yX2_lambda_new_4.cls ≠ "java/lang/invoke/MethodHandle" ∧ yX2_lambda_new_4.cls ≠ "java/lang/invoke/VarHandle" ∧ (parseMethodDescriptor yX2_lambda_new_4.desc).map (fun d => d.parameters.length) = some 1 := by decide +kernel
set_option maxHeartbeats 4000000 in
set_option maxRecDepth 100000 in
theorem mm_X2_lambda_new_4 {o : Nat} {a0 : Int32} {out : Int32} (hf : f_X2_lambda_new_4 E h o a0 = some out) : Met l yX2_lambda_new_4 (ws_ yX2_lambda_new_4 cX2_lambda_new_4 2 (some .boolean)) (rM (fE + 1) (lE + 22)) (bPc G E.1 hSites h nx [.ref o, .int a0]) (gR (some (.int out)) (narrow .boolean (.int out) = .int out)) 0 0 (fun _ => False) := by
  refine bGo (by decide +kernel) (Nat.le_of_ble_eq_true rfl) (fun p e s m below meth c ls S hr hlocks hin hnm hS hB hl => ?_)
  have S : CallFix p m c cX2_lambda_new_4 2 s _ lw_all RX2 := S
  obtain ⟨hx, hb, hml, hown, hts⟩ := id S
  have hl : lv_has ls 2 [(0, .ref o), (1, .int a0)] := hl
  rw [f_X2_lambda_new_4] at hf
  refine lv_aload_n hx hb dX2_lambda_new_4_0 rfl (lv_at hl 0 rfl) ?_
  refine lv_aload_n hx hb dX2_lambda_new_4_1 rfl (lv_at hl 0 rfl) ?_
  obtain ⟨v1, hv1, hf⟩ := ob_s hf
  refine bg_X2_281 S hS hB (vI_s hv1) dX2_lambda_new_4_2 ?_
  refine lv_iload_n hx hb dX2_lambda_new_4_5 rfl (lv_at hl 1 rfl) ?_
  obtain ⟨g2, hf⟩ := gd_t hf
  obtain ⟨v3, hv3, hf⟩ := ob_s hf
  refine mc_X2_271 (fE := fE) (lE := lE) S hS hB g2 hv3 hl.1 ⟨(by show _ ≤ (fE + 1); omega), (by show _ ≤ (lE + 22); omega)⟩ (Nat.le_of_ble_eq_true rfl) ⟨Nat.zero_le _, Nat.zero_le _⟩ dX2_lambda_new_4_6 (fun hnv3 => ?_)
  have hE9 := Option.some.inj hf
  subst hE9
  exact gt_rz S hr hlocks hnv3 dX2_lambda_new_4_9
theorem hd_J5_bitCount : yJ5_bitCount.cls ≠ "java/lang/invoke/MethodHandle" ∧ yJ5_bitCount.cls ≠ "java/lang/invoke/VarHandle" ∧ (parseMethodDescriptor yJ5_bitCount.desc).map (fun d => d.parameters.length) = some 1 := by decide +kernel
set_option maxHeartbeats 4000000 in
set_option maxRecDepth 100000 in
theorem mm_J5_bitCount {a0 : Int32} {out : Int32} (hf : f_J5_bitCount a0 = some out) : Met l yJ5_bitCount (ws_ yJ5_bitCount cJ5_bitCount 1 (some .int)) (rM 0 0) (gPc D cl tys [.int a0] []) (gR (some (.int out)) True) 0 0 (fun _ => False) := by
  refine gGo (by decide +kernel) (Nat.le_of_ble_eq_true rfl) (fun p e s m below meth c ls S hr hlocks hK hP hl => ?_)
  have S : CallFix p m c cJ5_bitCount 1 s _ lw_all RJ5 := S
  obtain ⟨hx, hb, hml, hown, hts⟩ := id S
  have hl : lv_has ls 1 [(0, .int a0)] := hl
  rw [f_J5_bitCount] at hf
  refine lv_iload_n hx hb dJ5_bitCount_0 rfl (lv_at hl 0 rfl) ?_
  refine lv_iload_n hx hb dJ5_bitCount_1 rfl (lv_at hl 0 rfl) ?_
  refine lv_iconst hx hb dJ5_bitCount_2 kc_i1 ?_
  refine lv_iushr hx hb dJ5_bitCount_3 rfl ?_
  refine lv_ldcw hx hb hown (hts _ q327) dJ5_bitCount_4 ?_
  refine lv_iand hx hb dJ5_bitCount_7 ?_
  refine lv_isub hx hb dJ5_bitCount_8 ?_
  refine lv_topi (fun x1 ex1 => ?_)
  replace hf := bd_e ex1 hf
  refine lv_istore_n (i := 0) (lv' := [(0, .int x1)]) hx hb dJ5_bitCount_9 rfl hl (by decide) rfl (fun ls hl => ?_)
  refine lv_iload_n hx hb dJ5_bitCount_10 rfl (lv_at hl 0 rfl) ?_
  refine lv_ldcw hx hb hown (hts _ q328) dJ5_bitCount_11 ?_
  refine lv_iand hx hb dJ5_bitCount_14 ?_
  refine lv_iload_n hx hb dJ5_bitCount_15 rfl (lv_at hl 0 rfl) ?_
  refine lv_iconst hx hb dJ5_bitCount_16 kc_i2 ?_
  refine lv_iushr hx hb dJ5_bitCount_17 rfl ?_
  refine lv_ldcw hx hb hown (hts _ q328) dJ5_bitCount_18 ?_
  refine lv_iand hx hb dJ5_bitCount_21 ?_
  refine lv_iadd hx hb dJ5_bitCount_22 ?_
  refine lv_topi (fun x2 ex2 => ?_)
  replace hf := bd_e ex2 hf
  refine lv_istore_n (i := 0) (lv' := [(0, .int x2)]) hx hb dJ5_bitCount_23 rfl hl (by decide) rfl (fun ls hl => ?_)
  refine lv_iload_n hx hb dJ5_bitCount_24 rfl (lv_at hl 0 rfl) ?_
  refine lv_iload_n hx hb dJ5_bitCount_25 rfl (lv_at hl 0 rfl) ?_
  refine lv_iconst hx hb dJ5_bitCount_26 kc_i4 ?_
  refine lv_iushr hx hb dJ5_bitCount_27 rfl ?_
  refine lv_iadd hx hb dJ5_bitCount_28 ?_
  refine lv_ldcw hx hb hown (hts _ q329) dJ5_bitCount_29 ?_
  refine lv_iand hx hb dJ5_bitCount_32 ?_
  refine lv_topi (fun x3 ex3 => ?_)
  replace hf := bd_e ex3 hf
  refine lv_istore_n (i := 0) (lv' := [(0, .int x3)]) hx hb dJ5_bitCount_33 rfl hl (by decide) rfl (fun ls hl => ?_)
  refine lv_iload_n hx hb dJ5_bitCount_34 rfl (lv_at hl 0 rfl) ?_
  refine lv_iload_n hx hb dJ5_bitCount_35 rfl (lv_at hl 0 rfl) ?_
  refine lv_bipush hx hb dJ5_bitCount_36 kc_b8 ?_
  refine lv_iushr hx hb dJ5_bitCount_38 rfl ?_
  refine lv_iadd hx hb dJ5_bitCount_39 ?_
  refine lv_topi (fun x4 ex4 => ?_)
  replace hf := bd_e ex4 hf
  refine lv_istore_n (i := 0) (lv' := [(0, .int x4)]) hx hb dJ5_bitCount_40 rfl hl (by decide) rfl (fun ls hl => ?_)
  refine lv_iload_n hx hb dJ5_bitCount_41 rfl (lv_at hl 0 rfl) ?_
  refine lv_iload_n hx hb dJ5_bitCount_42 rfl (lv_at hl 0 rfl) ?_
  refine lv_bipush hx hb dJ5_bitCount_43 kc_b16 ?_
  refine lv_iushr hx hb dJ5_bitCount_45 rfl ?_
  refine lv_iadd hx hb dJ5_bitCount_46 ?_
  refine lv_topi (fun x5 ex5 => ?_)
  replace hf := bd_e ex5 hf
  refine lv_istore_n (i := 0) (lv' := [(0, .int x5)]) hx hb dJ5_bitCount_47 rfl hl (by decide) rfl (fun ls hl => ?_)
  refine lv_iload_n hx hb dJ5_bitCount_48 rfl (lv_at hl 0 rfl) ?_
  refine lv_bipush hx hb dJ5_bitCount_49 kc_b63 ?_
  refine lv_iand hx hb dJ5_bitCount_51 ?_
  have hE9 := Option.some.inj hf
  subst hE9
  exact gt_ri S hr hlocks trivial dJ5_bitCount_52
set_option maxRecDepth 100000 in
theorem mc_X10_68 {a0 : Int32} {out : Int32} (S : CallFix p m c cc nL s args lw_all RX10) (hK : va_K D cl tys s) (hf : f_J5_bitCount a0 = some out) (hsz : ls.size = nL) (hR : 0 + 1 ≤ R.frames ∧ 8 + (1 + 11) + 0 ≤ R.locals) (hW : (rest.map fun v => v.category).sum ≤ 8) (hcs : cells ≤ R.cells ∧ slots ≤ R.slots) (hdg : decode cc pc = .ok (.invokestatic 68, 3))  (kk : True → W p l e R s m args below meth c H locs cells slots Q (F0 m (pc + 3) ls (.int out :: rest))) : W p l e R s m args below meth c H locs cells slots Q (F0 m pc ls (.int a0 :: rest)) := by
  exact br_r (va_runS (As := [.int a0]) S (mm_J5_bitCount hf) (va_cwS 1 S.2.2.2.2 (lw_S q1700 q325 q183 q326) rfl rfl rfl hd_J5_bitCount hR) (gPreS hK gP0) rfl rfl hsz rfl (lv_room hW) hdg hcs) kk
set_option maxRecDepth 100000 in
theorem mc_X2_170 {a0 : Int32} {out : Int32} (S : CallFix p m c cc nL s args lw_all RX2) (hK : va_K D cl tys s) (hf : f_J5_bitCount a0 = some out) (hsz : ls.size = nL) (hR : 0 + 1 ≤ R.frames ∧ 8 + (1 + 11) + 0 ≤ R.locals) (hW : (rest.map fun v => v.category).sum ≤ 8) (hcs : cells ≤ R.cells ∧ slots ≤ R.slots) (hdg : decode cc pc = .ok (.invokestatic 170, 3))  (kk : True → W p l e R s m args below meth c H locs cells slots Q (F0 m (pc + 3) ls (.int out :: rest))) : W p l e R s m args below meth c H locs cells slots Q (F0 m pc ls (.int a0 :: rest)) := by
  exact br_r (va_runS (As := [.int a0]) S (mm_J5_bitCount hf) (va_cwS 1 S.2.2.2.2 (lw_S q324 q325 q183 q326) rfl rfl rfl hd_J5_bitCount hR) (gPreS hK gP0) rfl rfl hsz rfl (lv_room hW) hdg hcs) kk
theorem hd_X2_bidMany : yX2_bidMany.cls = RX2 ∧ yX2_bidMany.cls ≠ "java/lang/invoke/MethodHandle" ∧ yX2_bidMany.cls ≠ "java/lang/invoke/VarHandle" ∧ (parseMethodDescriptor yX2_bidMany.desc).map (fun d => d.parameters.length) = some 1 := by decide +kernel
set_option maxHeartbeats 4000000 in
set_option maxRecDepth 100000 in
theorem mm_X2_bidMany {o : Nat} {a0 : Int32} {out : Int32} (hf : f_X2_bidMany E h o a0 = some out) : Met l yX2_bidMany (ws_ yX2_bidMany cX2_bidMany 2 (some .int)) (rM (fE + 1) (lE + 20)) (bPc G E.1 hSites h nx [.ref o, .int a0]) (gR (some (.int out)) True) 0 0 (fun _ => False) := by
  refine bGo (by decide +kernel) (Nat.le_of_ble_eq_true rfl) (fun p e s m below meth c ls S hr hlocks hin hnm hS hB hl => ?_)
  have S : CallFix p m c cX2_bidMany 2 s _ lw_all RX2 := S
  obtain ⟨hx, hb, hml, hown, hts⟩ := id S
  have hl : lv_has ls 2 [(0, .ref o), (1, .int a0)] := hl
  rw [f_X2_bidMany] at hf
  refine lv_aload_n hx hb dX2_bidMany_0 rfl (lv_at hl 0 rfl) ?_
  obtain ⟨v1, hv1, hf⟩ := ob_s hf
  refine bg_X2_31 S hS hB (vR_s hv1) dX2_bidMany_1 ?_
  refine lv_iload_n hx hb dX2_bidMany_4 rfl (lv_at hl 1 rfl) ?_
  obtain ⟨v2, hv2, hf⟩ := ob_s hf
  refine b_iald S hS.1 hB hv2 dX2_bidMany_5 ?_
  obtain ⟨v3, hv3, hf⟩ := ob_s hf
  refine mc_X2_170 S hS.1 hv3 hl.1 ⟨(by show _ ≤ (fE + 1); omega), (by show _ ≤ (lE + 20); omega)⟩ (Nat.le_of_ble_eq_true rfl) ⟨Nat.zero_le _, Nat.zero_le _⟩ dX2_bidMany_6 (fun _ => ?_)
  have hE9 := Option.some.inj hf
  subst hE9
  exact gt_ri S hr hlocks trivial dX2_bidMany_9
set_option maxRecDepth 100000 in
theorem mc_X1_308 {o : Nat} {a0 : Int32} {out : Int32} (S : CallFix p m c cc nL s args lw_all RX1) (hS : SK G E.1 hSites A s) (hB : BI G A s.heap h nx H locs) (ho : isO h o 1 = true) (hf : f_X2_bidMany E h o a0 = some out) (hsz : ls.size = nL) (hR : (fE + 1) + 1 ≤ R.frames ∧ 8 + (2 + 11) + (lE + 20) ≤ R.locals) (hW : (rest.map fun v => v.category).sum ≤ 8) (hcs : cells ≤ R.cells ∧ slots ≤ R.slots) (hdg : decode cc pc = .ok (.invokevirtual 308, 3))  (kk : True → W p l e R s m args below meth c H locs cells slots Q (F0 m (pc + 3) ls (.int out :: rest))) : W p l e R s m args below meth c H locs cells slots Q (F0 m pc ls (.int a0 :: .ref o :: rest)) := by
  have hN := hS.2.1
  obtain ⟨fs, he⟩ := isO_s ho
  exact br_r (va_runV (As := [.int a0]) S (mm_X2_bidMany (l := l) (G := G) (nx := nx) (fE := fE) (lE := lE) hf) (cwV 1 S.2.2.2.2 (lw_V q1188 q321 q322 q178 q323) rfl rfl rfl hd_X2_bidMany hR) (bPreV hS hB (ci := 1) rfl he) rfl rfl hsz rfl (lv_room hW) hdg hcs) kk
set_option maxRecDepth 100000 in
theorem mc_X2_299 {o : Nat} {a0 : Int32} {out : Int32} (S : CallFix p m c cc nL s args lw_all RX2) (hS : SK G E.1 hSites A s) (hB : BI G A s.heap h nx H locs) (ho : isO h o 1 = true) (hf : f_X2_bidMany E h o a0 = some out) (hsz : ls.size = nL) (hR : (fE + 1) + 1 ≤ R.frames ∧ 8 + (2 + 11) + (lE + 20) ≤ R.locals) (hW : (rest.map fun v => v.category).sum ≤ 8) (hcs : cells ≤ R.cells ∧ slots ≤ R.slots) (hdg : decode cc pc = .ok (.invokevirtual 299, 3))  (kk : True → W p l e R s m args below meth c H locs cells slots Q (F0 m (pc + 3) ls (.int out :: rest))) : W p l e R s m args below meth c H locs cells slots Q (F0 m pc ls (.int a0 :: .ref o :: rest)) := by
  have hN := hS.2.1
  obtain ⟨fs, he⟩ := isO_s ho
  exact br_r (va_runV (As := [.int a0]) S (mm_X2_bidMany (l := l) (G := G) (nx := nx) (fE := fE) (lE := lE) hf) (cwV 1 S.2.2.2.2 (lw_V q320 q321 q322 q178 q323) rfl rfl rfl hd_X2_bidMany hR) (bPreV hS hB (ci := 1) rfl he) rfl rfl hsz rfl (lv_room hW) hdg hcs) kk
theorem hd_X2_lambda_new_5 : yX2_lambda_new_5.cls = RX2 ∧ yX2_lambda_new_5.cls ≠ "java/lang/invoke/MethodHandle" ∧ yX2_lambda_new_5.cls ≠ "java/lang/invoke/VarHandle" ∧ (parseMethodDescriptor yX2_lambda_new_5.desc).map (fun d => d.parameters.length) = some 1 := by decide +kernel
set_option maxHeartbeats 4000000 in
set_option maxRecDepth 100000 in
theorem mm_X2_lambda_new_5 {o : Nat} {a0 : Int32} {out : Int32} (hf : f_X2_lambda_new_5 E h o a0 = some out) : Met l yX2_lambda_new_5 (ws_ yX2_lambda_new_5 cX2_lambda_new_5 2 (some .boolean)) (rM (fE + 2) (lE + 41)) (bPc G E.1 hSites h nx [.ref o, .int a0]) (gR (some (.int out)) (narrow .boolean (.int out) = .int out)) 0 0 (fun _ => False) := by
  refine bGo (by decide +kernel) (Nat.le_of_ble_eq_true rfl) (fun p e s m below meth c ls S hr hlocks hin hnm hS hB hl => ?_)
  have S : CallFix p m c cX2_lambda_new_5 2 s _ lw_all RX2 := S
  obtain ⟨hx, hb, hml, hown, hts⟩ := id S
  have hl : lv_has ls 2 [(0, .ref o), (1, .int a0)] := hl
  rw [f_X2_lambda_new_5] at hf
  refine lv_aload_n hx hb dX2_lambda_new_5_0 rfl (lv_at hl 0 rfl) ?_
  refine lv_aload_n hx hb dX2_lambda_new_5_1 rfl (lv_at hl 0 rfl) ?_
  obtain ⟨v1, hv1, hf⟩ := ob_s hf
  refine bg_X2_281 S hS hB (vI_s hv1) dX2_lambda_new_5_2 ?_
  obtain ⟨g2, hf⟩ := gd_t hf
  obtain ⟨v3, hv3, hf⟩ := ob_s hf
  refine mc_X2_299 (fE := fE) (lE := lE) S hS hB g2 hv3 hl.1 ⟨(by show _ ≤ (fE + 2); omega), (by show _ ≤ (lE + 41); omega)⟩ (Nat.le_of_ble_eq_true rfl) ⟨Nat.zero_le _, Nat.zero_le _⟩ dX2_lambda_new_5_5 (fun _ => ?_)
  refine lv_aload_n hx hb dX2_lambda_new_5_8 rfl (lv_at hl 0 rfl) ?_
  obtain ⟨v4, hv4, hf⟩ := ob_s hf
  refine bg_X2_15 S hS hB (vR_s hv4) dX2_lambda_new_5_9 ?_
  refine lv_iconst hx hb dX2_lambda_new_5_12 kc_i5 ?_
  obtain ⟨v5, hv5, hf⟩ := ob_s hf
  refine b_iald S hS.1 hB hv5 dX2_lambda_new_5_13 ?_
  refine lv_icmp_lt (tgt := 21) hx hb dX2_lambda_new_5_14 (by decide) (fun c6 => ?_) (fun c6 => ?_)
  · replace hf := it_t c6 hf
    refine lv_iconst hx hb dX2_lambda_new_5_21 kc_i0 ?_
    have hE9 := Option.some.inj hf
    subst hE9
    exact gt_rz S hr hlocks nb0 dX2_lambda_new_5_22
  · replace hf := it_f c6 hf
    refine lv_iconst hx hb dX2_lambda_new_5_17 kc_i1 ?_
    refine lv_goto (tgt := 22) hx hb dX2_lambda_new_5_18 (by decide) ?_
    have hE9 := Option.some.inj hf
    subst hE9
    exact gt_rz S hr hlocks nb1 dX2_lambda_new_5_22
theorem hd_X1_houseAt : yX1_houseAt.cls = RX1 ∧ yX1_houseAt.cls ≠ "java/lang/invoke/MethodHandle" ∧ yX1_houseAt.cls ≠ "java/lang/invoke/VarHandle" ∧ (parseMethodDescriptor yX1_houseAt.desc).map (fun d => d.parameters.length) = some 1 := by decide +kernel
set_option maxHeartbeats 4000000 in
set_option maxRecDepth 100000 in
theorem mm_X1_houseAt {o : Nat} {a0 : Int32} {out : Nat} (hf : f_X1_houseAt E h o a0 = some out) : Met l yX1_houseAt (ws_ yX1_houseAt cX1_houseAt 2 (some (.object "HomesQueue$House"))) (rM (fE + 3) (lE + 64)) (bPc G E.1 hSites h nx [.ref o, .int a0]) (gR (some (.ref out)) True) 0 0 (fun _ => False) := by
  refine bGo (by decide +kernel) (Nat.le_of_ble_eq_true rfl) (fun p e s m below meth c ls S hr hlocks hin hnm hS hB hl => ?_)
  have S : CallFix p m c cX1_houseAt 2 s _ lw_all RX1 := S
  obtain ⟨hx, hb, hml, hown, hts⟩ := id S
  have hl : lv_has ls 2 [(0, .ref o), (1, .int a0)] := hl
  rw [f_X1_houseAt] at hf
  refine lv_aload_n hx hb dX1_houseAt_0 rfl (lv_at hl 0 rfl) ?_
  obtain ⟨v1, hv1, hf⟩ := ob_s hf
  refine bg_X1_51 S hS hB (vR_s hv1) dX1_houseAt_1 ?_
  refine lv_iload_n hx hb dX1_houseAt_4 rfl (lv_at hl 1 rfl) ?_
  obtain ⟨g2, hf⟩ := gd_t hf
  obtain ⟨v3, hv3, hf⟩ := ob_s hf
  refine mc_X1_43 (fE := fE) (lE := lE) S hS hB g2 hv3 hl.1 ⟨(by show _ ≤ (fE + 3); omega), (by show _ ≤ (lE + 64); omega)⟩ (Nat.le_of_ble_eq_true rfl) ⟨Nat.zero_le _, Nat.zero_le _⟩ dX1_houseAt_5 (fun _ => ?_)
  obtain ⟨g4, hf⟩ := gd_t hf
  refine b_castO S hS.1 hB (ci := 6) rfl (hts _ q343) g4 dX1_houseAt_8 ?_
  have hE9 := Option.some.inj hf
  subst hE9
  exact gt_ra S hr (Or.inl ⟨_, rfl⟩) hlocks trivial dX1_houseAt_11
set_option maxRecDepth 100000 in
theorem mc_X1_277 {o : Nat} {a0 : Int32} {out : Nat} (S : CallFix p m c cc nL s args lw_all RX1) (hS : SK G E.1 hSites A s) (hB : BI G A s.heap h nx H locs) (ho : isO h o 0 = true) (hf : f_X1_houseAt E h o a0 = some out) (hsz : ls.size = nL) (hR : (fE + 3) + 1 ≤ R.frames ∧ 8 + (2 + 11) + (lE + 64) ≤ R.locals) (hW : (rest.map fun v => v.category).sum ≤ 8) (hcs : cells ≤ R.cells ∧ slots ≤ R.slots) (hdg : decode cc pc = .ok (.invokevirtual 277, 3))  (kk : True → W p l e R s m args below meth c H locs cells slots Q (F0 m (pc + 3) ls (.ref out :: rest))) : W p l e R s m args below meth c H locs cells slots Q (F0 m pc ls (.int a0 :: .ref o :: rest)) := by
  have hN := hS.2.1
  obtain ⟨fs, he⟩ := isO_s ho
  exact br_r (va_runV (As := [.int a0]) S (mm_X1_houseAt (l := l) (G := G) (nx := nx) (fE := fE) (lE := lE) hf) (cwV 1 S.2.2.2.2 (lw_V q1243 q341 qs9 q174 q342) rfl rfl rfl hd_X1_houseAt hR) (bPreV hS hB (ci := 0) rfl he) rfl rfl hsz rfl (lv_room hW) hdg hcs) kk
set_option maxRecDepth 100000 in
theorem mc_X2_193 {o : Nat} {a0 : Int32} {out : Nat} (S : CallFix p m c cc nL s args lw_all RX2) (hS : SK G E.1 hSites A s) (hB : BI G A s.heap h nx H locs) (ho : isO h o 0 = true) (hf : f_X1_houseAt E h o a0 = some out) (hsz : ls.size = nL) (hR : (fE + 3) + 1 ≤ R.frames ∧ 8 + (2 + 11) + (lE + 64) ≤ R.locals) (hW : (rest.map fun v => v.category).sum ≤ 8) (hcs : cells ≤ R.cells ∧ slots ≤ R.slots) (hdg : decode cc pc = .ok (.invokevirtual 193, 3))  (kk : True → W p l e R s m args below meth c H locs cells slots Q (F0 m (pc + 3) ls (.ref out :: rest))) : W p l e R s m args below meth c H locs cells slots Q (F0 m pc ls (.int a0 :: .ref o :: rest)) := by
  have hN := hS.2.1
  obtain ⟨fs, he⟩ := isO_s ho
  exact br_r (va_runVN (As := [.int a0]) S (mm_X1_houseAt (l := l) (G := G) (nx := nx) (fE := fE) (lE := lE) hf) (⟨va_cnB 1 S.2.2.2.2 (lw_meth q342) rfl rfl rfl (hN _ q339 rfl) (S.2.2.2.2 _ q174) hd_X1_houseAt.2 hR, S.2.2.2.2 _ q341, S.2.2.2.2 _ qs9⟩) (bPreV hS hB (ci := 0) rfl he) rfl rfl hsz rfl (lv_room hW) hdg hcs) kk
theorem hd_X2_waited : yX2_waited.cls = RX2 ∧ yX2_waited.cls ≠ "java/lang/invoke/MethodHandle" ∧ yX2_waited.cls ≠ "java/lang/invoke/VarHandle" ∧ (parseMethodDescriptor yX2_waited.desc).map (fun d => d.parameters.length) = some 1 := by decide +kernel
set_option maxHeartbeats 4000000 in
set_option maxRecDepth 100000 in
theorem mm_X2_waited {o : Nat} {a0 : Int32} {out : Int32} (hf : f_X2_waited E h o a0 = some out) : Met l yX2_waited (ws_ yX2_waited cX2_waited 2 (some .int)) (rM (fE + 4) (lE + 85)) (bPc G E.1 hSites h nx [.ref o, .int a0]) (gR (some (.int out)) True) 0 0 (fun _ => False) := by
  refine bGo (by decide +kernel) (Nat.le_of_ble_eq_true rfl) (fun p e s m below meth c ls S hr hlocks hin hnm hS hB hl => ?_)
  have S : CallFix p m c cX2_waited 2 s _ lw_all RX2 := S
  obtain ⟨hx, hb, hml, hown, hts⟩ := id S
  have hl : lv_has ls 2 [(0, .ref o), (1, .int a0)] := hl
  rw [f_X2_waited] at hf
  refine lv_sipush hx hb dX2_waited_0 kc_s1000 ?_
  refine lv_bipush hx hb dX2_waited_3 kc_b7 ?_
  refine lv_aload_n hx hb dX2_waited_5 rfl (lv_at hl 0 rfl) ?_
  obtain ⟨v1, hv1, hf⟩ := ob_s hf
  refine bg_X2_138 S hS hB (vI_s hv1) dX2_waited_6 ?_
  refine lv_imul hx hb dX2_waited_9 ?_
  refine lv_iadd hx hb dX2_waited_10 ?_
  refine lv_aload_n hx hb dX2_waited_11 rfl (lv_at hl 0 rfl) ?_
  obtain ⟨v2, hv2, hf⟩ := ob_s hf
  refine bg_X2_3 S hS hB (vR_s hv2) dX2_waited_12 ?_
  refine lv_iload_n hx hb dX2_waited_15 rfl (lv_at hl 1 rfl) ?_
  obtain ⟨g3, hf⟩ := gd_t hf
  obtain ⟨v4, hv4, hf⟩ := ob_s hf
  refine mc_X2_193 (fE := fE) (lE := lE) S hS hB g3 hv4 hl.1 ⟨(by show _ ≤ (fE + 4); omega), (by show _ ≤ (lE + 85); omega)⟩ (Nat.le_of_ble_eq_true rfl) ⟨Nat.zero_le _, Nat.zero_le _⟩ dX2_waited_16 (fun _ => ?_)
  obtain ⟨g5, hf⟩ := gd_t hf
  obtain ⟨v6, hv6, hf⟩ := ob_s hf
  refine mc_X2_197 (fE := fE) (lE := lE) S hS hB g5 hv6 hl.1 ⟨(by show _ ≤ (fE + 4); omega), (by show _ ≤ (lE + 85); omega)⟩ (Nat.le_of_ble_eq_true rfl) ⟨Nat.zero_le _, Nat.zero_le _⟩ dX2_waited_19 (fun _ => ?_)
  refine lv_isub hx hb dX2_waited_22 ?_
  have hE9 := Option.some.inj hf
  subst hE9
  exact gt_ri S hr hlocks trivial dX2_waited_23
set_option maxRecDepth 100000 in
theorem mc_X1_442 {o : Nat} {a0 : Int32} {out : Int32} (S : CallFix p m c cc nL s args lw_all RX1) (hS : SK G E.1 hSites A s) (hB : BI G A s.heap h nx H locs) (ho : isO h o 1 = true) (hf : f_X2_waited E h o a0 = some out) (hsz : ls.size = nL) (hR : (fE + 4) + 1 ≤ R.frames ∧ 8 + (2 + 11) + (lE + 85) ≤ R.locals) (hW : (rest.map fun v => v.category).sum ≤ 8) (hcs : cells ≤ R.cells ∧ slots ≤ R.slots) (hdg : decode cc pc = .ok (.invokevirtual 442, 3))  (kk : True → W p l e R s m args below meth c H locs cells slots Q (F0 m (pc + 3) ls (.int out :: rest))) : W p l e R s m args below meth c H locs cells slots Q (F0 m pc ls (.int a0 :: .ref o :: rest)) := by
  have hN := hS.2.1
  obtain ⟨fs, he⟩ := isO_s ho
  exact br_r (va_runV (As := [.int a0]) S (mm_X2_waited (l := l) (G := G) (nx := nx) (fE := fE) (lE := lE) hf) (cwV 1 S.2.2.2.2 (lw_V q1563 q349 q350 q178 q351) rfl rfl rfl hd_X2_waited hR) (bPreV hS hB (ci := 1) rfl he) rfl rfl hsz rfl (lv_room hW) hdg hcs) kk
set_option maxRecDepth 100000 in
theorem mc_X2_214 {o : Nat} {a0 : Int32} {out : Int32} (S : CallFix p m c cc nL s args lw_all RX2) (hS : SK G E.1 hSites A s) (hB : BI G A s.heap h nx H locs) (ho : isO h o 1 = true) (hf : f_X2_waited E h o a0 = some out) (hsz : ls.size = nL) (hR : (fE + 4) + 1 ≤ R.frames ∧ 8 + (2 + 11) + (lE + 85) ≤ R.locals) (hW : (rest.map fun v => v.category).sum ≤ 8) (hcs : cells ≤ R.cells ∧ slots ≤ R.slots) (hdg : decode cc pc = .ok (.invokevirtual 214, 3))  (kk : True → W p l e R s m args below meth c H locs cells slots Q (F0 m (pc + 3) ls (.int out :: rest))) : W p l e R s m args below meth c H locs cells slots Q (F0 m pc ls (.int a0 :: .ref o :: rest)) := by
  have hN := hS.2.1
  obtain ⟨fs, he⟩ := isO_s ho
  exact br_r (va_runV (As := [.int a0]) S (mm_X2_waited (l := l) (G := G) (nx := nx) (fE := fE) (lE := lE) hf) (cwV 1 S.2.2.2.2 (lw_V q348 q349 q350 q178 q351) rfl rfl rfl hd_X2_waited hR) (bPreV hS hB (ci := 1) rfl he) rfl rfl hsz rfl (lv_room hW) hdg hcs) kk
theorem hd_X2_bandNow : yX2_bandNow.cls = RX2 ∧ yX2_bandNow.cls ≠ "java/lang/invoke/MethodHandle" ∧ yX2_bandNow.cls ≠ "java/lang/invoke/VarHandle" ∧ (parseMethodDescriptor yX2_bandNow.desc).map (fun d => d.parameters.length) = some 1 := by decide +kernel
set_option maxHeartbeats 4000000 in
set_option maxRecDepth 100000 in
theorem mm_X2_bandNow {o : Nat} {a0 : Int32} {out : Int32} (hf : f_X2_bandNow E h o a0 = some out) : Met l yX2_bandNow (ws_ yX2_bandNow cX2_bandNow 2 (some .int)) (rM (fE + 5) (lE + 106)) (bPc G E.1 hSites h nx [.ref o, .int a0]) (gR (some (.int out)) True) 0 0 (fun _ => False) := by
  refine bGo (by decide +kernel) (Nat.le_of_ble_eq_true rfl) (fun p e s m below meth c ls S hr hlocks hin hnm hS hB hl => ?_)
  have S : CallFix p m c cX2_bandNow 2 s _ lw_all RX2 := S
  obtain ⟨hx, hb, hml, hown, hts⟩ := id S
  have hl : lv_has ls 2 [(0, .ref o), (1, .int a0)] := hl
  rw [f_X2_bandNow] at hf
  refine lv_iconst hx hb dX2_bandNow_0 kc_i1 ?_
  refine lv_aload_n hx hb dX2_bandNow_1 rfl (lv_at hl 0 rfl) ?_
  obtain ⟨v1, hv1, hf⟩ := ob_s hf
  refine bg_X2_3 S hS hB (vR_s hv1) dX2_bandNow_2 ?_
  refine lv_iload_n hx hb dX2_bandNow_5 rfl (lv_at hl 1 rfl) ?_
  obtain ⟨g2, hf⟩ := gd_t hf
  obtain ⟨v3, hv3, hf⟩ := ob_s hf
  refine mc_X2_193 (fE := fE) (lE := lE) S hS hB g2 hv3 hl.1 ⟨(by show _ ≤ (fE + 5); omega), (by show _ ≤ (lE + 106); omega)⟩ (Nat.le_of_ble_eq_true rfl) ⟨Nat.zero_le _, Nat.zero_le _⟩ dX2_bandNow_6 (fun _ => ?_)
  obtain ⟨g4, hf⟩ := gd_t hf
  obtain ⟨v5, hv5, hf⟩ := ob_s hf
  refine mc_X2_211 (fE := fE) (lE := lE) S hS hB g4 hv5 hl.1 ⟨(by show _ ≤ (fE + 5); omega), (by show _ ≤ (lE + 106); omega)⟩ (Nat.le_of_ble_eq_true rfl) ⟨Nat.zero_le _, Nat.zero_le _⟩ dX2_bandNow_9 (fun _ => ?_)
  refine lv_aload_n hx hb dX2_bandNow_12 rfl (lv_at hl 0 rfl) ?_
  refine lv_iload_n hx hb dX2_bandNow_13 rfl (lv_at hl 1 rfl) ?_
  obtain ⟨g6, hf⟩ := gd_t hf
  obtain ⟨v7, hv7, hf⟩ := ob_s hf
  refine mc_X2_214 (fE := fE) (lE := lE) S hS hB g6 hv7 hl.1 ⟨(by show _ ≤ (fE + 5); omega), (by show _ ≤ (lE + 106); omega)⟩ (Nat.le_of_ble_eq_true rfl) ⟨Nat.zero_le _, Nat.zero_le _⟩ dX2_bandNow_14 (fun _ => ?_)
  refine lv_aload_n hx hb dX2_bandNow_17 rfl (lv_at hl 0 rfl) ?_
  obtain ⟨v8, hv8, hf⟩ := ob_s hf
  refine bg_X2_15 S hS hB (vR_s hv8) dX2_bandNow_18 ?_
  refine lv_iconst hx hb dX2_bandNow_21 kc_i4 ?_
  obtain ⟨v9, hv9, hf⟩ := ob_s hf
  refine b_iald S hS.1 hB hv9 dX2_bandNow_22 ?_
  obtain ⟨g10, hf⟩ := gd_t hf
  refine lv_idiv hx hb dX2_bandNow_23 (nz32_t g10) ?_
  refine lv_isub hx hb dX2_bandNow_24 ?_
  obtain ⟨v11, hv11, hf⟩ := ob_s hf
  refine mc_X2_217 S hS.1 hv11 hl.1 ⟨(by show _ ≤ (fE + 5); omega), (by show _ ≤ (lE + 106); omega)⟩ (Nat.le_of_ble_eq_true rfl) ⟨Nat.zero_le _, Nat.zero_le _⟩ dX2_bandNow_25 (fun _ => ?_)
  have hE9 := Option.some.inj hf
  subst hE9
  exact gt_ri S hr hlocks trivial dX2_bandNow_28
set_option maxRecDepth 100000 in
theorem mc_X1_284 {o : Nat} {a0 : Int32} {out : Int32} (S : CallFix p m c cc nL s args lw_all RX1) (hS : SK G E.1 hSites A s) (hB : BI G A s.heap h nx H locs) (ho : isO h o 1 = true) (hf : f_X2_bandNow E h o a0 = some out) (hsz : ls.size = nL) (hR : (fE + 5) + 1 ≤ R.frames ∧ 8 + (2 + 11) + (lE + 106) ≤ R.locals) (hW : (rest.map fun v => v.category).sum ≤ 8) (hcs : cells ≤ R.cells ∧ slots ≤ R.slots) (hdg : decode cc pc = .ok (.invokevirtual 284, 3))  (kk : True → W p l e R s m args below meth c H locs cells slots Q (F0 m (pc + 3) ls (.int out :: rest))) : W p l e R s m args below meth c H locs cells slots Q (F0 m pc ls (.int a0 :: .ref o :: rest)) := by
  have hN := hS.2.1
  obtain ⟨fs, he⟩ := isO_s ho
  exact br_r (va_runVN (As := [.int a0]) S (mm_X2_bandNow (l := l) (G := G) (nx := nx) (fE := fE) (lE := lE) hf) (⟨va_cnB 1 S.2.2.2.2 (lw_meth q338) rfl rfl rfl (hN _ q1245 rfl) (S.2.2.2.2 _ q178) hd_X2_bandNow.2 hR, S.2.2.2.2 _ q337, S.2.2.2.2 _ qs8⟩) (bPreV hS hB (ci := 1) rfl he) rfl rfl hsz rfl (lv_room hW) hdg hcs) kk
set_option maxRecDepth 100000 in
theorem mc_X2_202 {o : Nat} {a0 : Int32} {out : Int32} (S : CallFix p m c cc nL s args lw_all RX2) (hS : SK G E.1 hSites A s) (hB : BI G A s.heap h nx H locs) (ho : isO h o 1 = true) (hf : f_X2_bandNow E h o a0 = some out) (hsz : ls.size = nL) (hR : (fE + 5) + 1 ≤ R.frames ∧ 8 + (2 + 11) + (lE + 106) ≤ R.locals) (hW : (rest.map fun v => v.category).sum ≤ 8) (hcs : cells ≤ R.cells ∧ slots ≤ R.slots) (hdg : decode cc pc = .ok (.invokevirtual 202, 3))  (kk : True → W p l e R s m args below meth c H locs cells slots Q (F0 m (pc + 3) ls (.int out :: rest))) : W p l e R s m args below meth c H locs cells slots Q (F0 m pc ls (.int a0 :: .ref o :: rest)) := by
  have hN := hS.2.1
  obtain ⟨fs, he⟩ := isO_s ho
  exact br_r (va_runV (As := [.int a0]) S (mm_X2_bandNow (l := l) (G := G) (nx := nx) (fE := fE) (lE := lE) hf) (cwV 1 S.2.2.2.2 (lw_V q335 q337 qs8 q178 q338) rfl rfl rfl hd_X2_bandNow hR) (bPreV hS hB (ci := 1) rfl he) rfl rfl hsz rfl (lv_room hW) hdg hcs) kk
theorem hd_X2_bandThought : yX2_bandThought.cls = RX2 ∧ yX2_bandThought.cls ≠ "java/lang/invoke/MethodHandle" ∧ yX2_bandThought.cls ≠ "java/lang/invoke/VarHandle" ∧ (parseMethodDescriptor yX2_bandThought.desc).map (fun d => d.parameters.length) = some 1 := by decide +kernel
set_option maxHeartbeats 4000000 in
set_option maxRecDepth 100000 in
theorem mm_X2_bandThought {o : Nat} {a0 : Int32} {out : Int32} (hf : f_X2_bandThought E h o a0 = some out) : Met l yX2_bandThought (ws_ yX2_bandThought cX2_bandThought 2 (some .int)) (rM (fE + 6) (lE + 127)) (bPc G E.1 hSites h nx [.ref o, .int a0]) (gR (some (.int out)) True) 0 0 (fun _ => False) := by
  refine bGo (by decide +kernel) (Nat.le_of_ble_eq_true rfl) (fun p e s m below meth c ls S hr hlocks hin hnm hS hB hl => ?_)
  have S : CallFix p m c cX2_bandThought 2 s _ lw_all RX2 := S
  obtain ⟨hx, hb, hml, hown, hts⟩ := id S
  have hl : lv_has ls 2 [(0, .ref o), (1, .int a0)] := hl
  rw [f_X2_bandThought] at hf
  refine lv_aload_n hx hb dX2_bandThought_0 rfl (lv_at hl 0 rfl) ?_
  refine lv_iload_n hx hb dX2_bandThought_1 rfl (lv_at hl 1 rfl) ?_
  obtain ⟨g1, hf⟩ := gd_t hf
  obtain ⟨v2, hv2, hf⟩ := ob_s hf
  refine mc_X2_202 (fE := fE) (lE := lE) S hS hB g1 hv2 hl.1 ⟨(by show _ ≤ (fE + 6); omega), (by show _ ≤ (lE + 127); omega)⟩ (Nat.le_of_ble_eq_true rfl) ⟨Nat.zero_le _, Nat.zero_le _⟩ dX2_bandThought_2 (fun _ => ?_)
  refine lv_iload_n hx hb dX2_bandThought_5 rfl (lv_at hl 1 rfl) ?_
  refine lv_aload_n hx hb dX2_bandThought_6 rfl (lv_at hl 0 rfl) ?_
  obtain ⟨v3, hv3, hf⟩ := ob_s hf
  refine bg_X2_205 S hS hB (vI_s hv3) dX2_bandThought_7 ?_
  refine lv_icmp_ne (tgt := 20) hx hb dX2_bandThought_10 (by decide) (fun c4 => ?_) (fun c4 => ?_)
  · replace hf := it_f c4 hf
    refine lv_iconst hx hb dX2_bandThought_20 kc_i0 ?_
    refine lv_isub hx hb dX2_bandThought_21 ?_
    have hE9 := Option.some.inj hf
    subst hE9
    exact gt_ri S hr hlocks trivial dX2_bandThought_22
  · replace hf := it_t c4 hf
    refine lv_aload_n hx hb dX2_bandThought_13 rfl (lv_at hl 0 rfl) ?_
    obtain ⟨v5, hv5, hf⟩ := ob_s hf
    refine bg_X2_208 S hS hB (vI_s hv5) dX2_bandThought_14 ?_
    refine lv_goto (tgt := 21) hx hb dX2_bandThought_17 (by decide) ?_
    refine lv_isub hx hb dX2_bandThought_21 ?_
    have hE9 := Option.some.inj hf
    subst hE9
    exact gt_ri S hr hlocks trivial dX2_bandThought_22
theorem hd_X2_dayOf : yX2_dayOf.cls = RX2 ∧ yX2_dayOf.cls ≠ "java/lang/invoke/MethodHandle" ∧ yX2_dayOf.cls ≠ "java/lang/invoke/VarHandle" ∧ (parseMethodDescriptor yX2_dayOf.desc).map (fun d => d.parameters.length) = some 1 := by decide +kernel
set_option maxHeartbeats 4000000 in
set_option maxRecDepth 100000 in
theorem mm_X2_dayOf {o : Nat} {a0 : Int32} {out : Int32} (hf : f_X2_dayOf E h o a0 = some out) : Met l yX2_dayOf (ws_ yX2_dayOf cX2_dayOf 2 (some .int)) (rM (fE + 4) (lE + 85)) (bPc G E.1 hSites h nx [.ref o, .int a0]) (gR (some (.int out)) True) 0 0 (fun _ => False) := by
  refine bGo (by decide +kernel) (Nat.le_of_ble_eq_true rfl) (fun p e s m below meth c ls S hr hlocks hin hnm hS hB hl => ?_)
  have S : CallFix p m c cX2_dayOf 2 s _ lw_all RX2 := S
  obtain ⟨hx, hb, hml, hown, hts⟩ := id S
  have hl : lv_has ls 2 [(0, .ref o), (1, .int a0)] := hl
  rw [f_X2_dayOf] at hf
  refine lv_aload_n hx hb dX2_dayOf_0 rfl (lv_at hl 0 rfl) ?_
  obtain ⟨v1, hv1, hf⟩ := ob_s hf
  refine bg_X2_3 S hS hB (vR_s hv1) dX2_dayOf_1 ?_
  refine lv_iload_n hx hb dX2_dayOf_4 rfl (lv_at hl 1 rfl) ?_
  obtain ⟨g2, hf⟩ := gd_t hf
  obtain ⟨v3, hv3, hf⟩ := ob_s hf
  refine mc_X2_193 (fE := fE) (lE := lE) S hS hB g2 hv3 hl.1 ⟨(by show _ ≤ (fE + 4); omega), (by show _ ≤ (lE + 85); omega)⟩ (Nat.le_of_ble_eq_true rfl) ⟨Nat.zero_le _, Nat.zero_le _⟩ dX2_dayOf_5 (fun _ => ?_)
  obtain ⟨g4, hf⟩ := gd_t hf
  obtain ⟨v5, hv5, hf⟩ := ob_s hf
  refine mc_X2_197 (fE := fE) (lE := lE) S hS hB g4 hv5 hl.1 ⟨(by show _ ≤ (fE + 4); omega), (by show _ ≤ (lE + 85); omega)⟩ (Nat.le_of_ble_eq_true rfl) ⟨Nat.zero_le _, Nat.zero_le _⟩ dX2_dayOf_8 (fun _ => ?_)
  have hE9 := Option.some.inj hf
  subst hE9
  exact gt_ri S hr hlocks trivial dX2_dayOf_11
theorem hd_X2_numberOf : yX2_numberOf.cls = RX2 ∧ yX2_numberOf.cls ≠ "java/lang/invoke/MethodHandle" ∧ yX2_numberOf.cls ≠ "java/lang/invoke/VarHandle" ∧ (parseMethodDescriptor yX2_numberOf.desc).map (fun d => d.parameters.length) = some 1 := by decide +kernel
set_option maxHeartbeats 4000000 in
set_option maxRecDepth 100000 in
theorem mm_X2_numberOf {o : Nat} {a0 : Int32} {out : Int32} (hf : f_X2_numberOf E h o a0 = some out) : Met l yX2_numberOf (ws_ yX2_numberOf cX2_numberOf 2 (some .int)) (rM (fE + 0) (lE + 0)) (bPc G E.1 hSites h nx [.ref o, .int a0]) (gR (some (.int out)) True) 0 0 (fun _ => False) := by
  refine bGo (by decide +kernel) (Nat.le_of_ble_eq_true rfl) (fun p e s m below meth c ls S hr hlocks hin hnm hS hB hl => ?_)
  have S : CallFix p m c cX2_numberOf 2 s _ lw_all RX2 := S
  obtain ⟨hx, hb, hml, hown, hts⟩ := id S
  have hl : lv_has ls 2 [(0, .ref o), (1, .int a0)] := hl
  rw [f_X2_numberOf] at hf
  refine lv_iload_n hx hb dX2_numberOf_0 rfl (lv_at hl 1 rfl) ?_
  have hE9 := Option.some.inj hf
  subst hE9
  exact gt_ri S hr hlocks trivial dX2_numberOf_1
theorem hd_X1_one : yX1_one.cls ≠ "java/lang/invoke/MethodHandle" ∧ yX1_one.cls ≠ "java/lang/invoke/VarHandle" ∧ (parseMethodDescriptor yX1_one.desc).map (fun d => d.parameters.length) = some 1 := by decide +kernel
set_option maxHeartbeats 4000000 in
set_option maxRecDepth 100000 in
theorem mm_X1_one {a0 : Int32} {out : Int32} (hf : f_X1_one a0 = some out) : Met l yX1_one (ws_ yX1_one cX1_one 1 (some .int)) (rM 0 0) (gPc D cl tys [.int a0] []) (gR (some (.int out)) True) 0 0 (fun _ => False) := by
  refine gGo (by decide +kernel) (Nat.le_of_ble_eq_true rfl) (fun p e s m below meth c ls S hr hlocks hK hP hl => ?_)
  have S : CallFix p m c cX1_one 1 s _ lw_all RX1 := S
  obtain ⟨hx, hb, hml, hown, hts⟩ := id S
  have hl : lv_has ls 1 [(0, .int a0)] := hl
  rw [f_X1_one] at hf
  refine lv_iload_n hx hb dX1_one_0 rfl (lv_at hl 0 rfl) ?_
  refine lv_if_eq (tgt := 8) hx hb dX1_one_1 (by decide) (fun c1 => ?_) (fun c1 => ?_)
  · replace hf := it_t c1 hf
    refine lv_iconst hx hb dX1_one_8 kc_i0 ?_
    have hE9 := Option.some.inj hf
    subst hE9
    exact gt_ri S hr hlocks trivial dX1_one_9
  · replace hf := it_f c1 hf
    refine lv_iconst hx hb dX1_one_4 kc_i1 ?_
    refine lv_goto (tgt := 9) hx hb dX1_one_5 (by decide) ?_
    have hE9 := Option.some.inj hf
    subst hE9
    exact gt_ri S hr hlocks trivial dX1_one_9
set_option maxRecDepth 100000 in
theorem mc_X1_7 {a0 : Int32} {out : Int32} (S : CallFix p m c cc nL s args lw_all RX1) (hK : va_K D cl tys s) (hf : f_X1_one a0 = some out) (hsz : ls.size = nL) (hR : 0 + 1 ≤ R.frames ∧ 8 + (1 + 11) + 0 ≤ R.locals) (hW : (rest.map fun v => v.category).sum ≤ 8) (hcs : cells ≤ R.cells ∧ slots ≤ R.slots) (hdg : decode cc pc = .ok (.invokestatic 7, 3))  (kk : True → W p l e R s m args below meth c H locs cells slots Q (F0 m (pc + 3) ls (.int out :: rest))) : W p l e R s m args below meth c H locs cells slots Q (F0 m pc ls (.int a0 :: rest)) := by
  exact br_r (va_runS (As := [.int a0]) S (mm_X1_one hf) (va_cwS 1 S.2.2.2.2 (lw_S q416 q397 q174 q398) rfl rfl rfl hd_X1_one hR) (gPreS hK gP0) rfl rfl hsz rfl (lv_room hW) hdg hcs) kk
set_option maxRecDepth 100000 in
theorem mc_X10_38 {a0 : Int32} {out : Int32} (S : CallFix p m c cc nL s args lw_all RX10) (hK : va_K D cl tys s) (hN : NK s) (hf : f_X1_one a0 = some out) (hsz : ls.size = nL) (hR : 0 + 1 ≤ R.frames ∧ 8 + (1 + 11) + 0 ≤ R.locals) (hW : (rest.map fun v => v.category).sum ≤ 8) (hcs : cells ≤ R.cells ∧ slots ≤ R.slots) (hdg : decode cc pc = .ok (.invokestatic 38, 3))  (kk : True → W p l e R s m args below meth c H locs cells slots Q (F0 m (pc + 3) ls (.int out :: rest))) : W p l e R s m args below meth c H locs cells slots Q (F0 m pc ls (.int a0 :: rest)) := by
  exact br_r (va_runSN (As := [.int a0]) S (mm_X1_one hf) (⟨va_cnB 1 S.2.2.2.2 (lw_meth q398) rfl rfl rfl (hN _ q1684 rfl) (S.2.2.2.2 _ q174) hd_X1_one hR, S.2.2.2.2 _ q397, trivial⟩) (gPreS hK gP0) rfl rfl hsz rfl (lv_room hW) hdg hcs) kk
set_option maxRecDepth 100000 in
theorem mc_X2_234 {a0 : Int32} {out : Int32} (S : CallFix p m c cc nL s args lw_all RX2) (hK : va_K D cl tys s) (hN : NK s) (hf : f_X1_one a0 = some out) (hsz : ls.size = nL) (hR : 0 + 1 ≤ R.frames ∧ 8 + (1 + 11) + 0 ≤ R.locals) (hW : (rest.map fun v => v.category).sum ≤ 8) (hcs : cells ≤ R.cells ∧ slots ≤ R.slots) (hdg : decode cc pc = .ok (.invokestatic 234, 3))  (kk : True → W p l e R s m args below meth c H locs cells slots Q (F0 m (pc + 3) ls (.int out :: rest))) : W p l e R s m args below meth c H locs cells slots Q (F0 m pc ls (.int a0 :: rest)) := by
  exact br_r (va_runSN (As := [.int a0]) S (mm_X1_one hf) (⟨va_cnB 1 S.2.2.2.2 (lw_meth q398) rfl rfl rfl (hN _ q396 rfl) (S.2.2.2.2 _ q174) hd_X1_one hR, S.2.2.2.2 _ q397, trivial⟩) (gPreS hK gP0) rfl rfl hsz rfl (lv_room hW) hdg hcs) kk
set_option maxRecDepth 100000 in
theorem mc_X9_65 {a0 : Int32} {out : Int32} (S : CallFix p m c cc nL s args lw_all RX9) (hK : va_K D cl tys s) (hN : NK s) (hf : f_X1_one a0 = some out) (hsz : ls.size = nL) (hR : 0 + 1 ≤ R.frames ∧ 8 + (1 + 11) + 0 ≤ R.locals) (hW : (rest.map fun v => v.category).sum ≤ 8) (hcs : cells ≤ R.cells ∧ slots ≤ R.slots) (hdg : decode cc pc = .ok (.invokestatic 65, 3))  (kk : True → W p l e R s m args below meth c H locs cells slots Q (F0 m (pc + 3) ls (.int out :: rest))) : W p l e R s m args below meth c H locs cells slots Q (F0 m pc ls (.int a0 :: rest)) := by
  exact br_r (va_runSN (As := [.int a0]) S (mm_X1_one hf) (⟨va_cnB 1 S.2.2.2.2 (lw_meth q398) rfl rfl rfl (hN _ q1653 rfl) (S.2.2.2.2 _ q174) hd_X1_one hR, S.2.2.2.2 _ q397, trivial⟩) (gPreS hK gP0) rfl rfl hsz rfl (lv_room hW) hdg hcs) kk
theorem hd_X2_letsIn : yX2_letsIn.cls = RX2 ∧ yX2_letsIn.cls ≠ "java/lang/invoke/MethodHandle" ∧ yX2_letsIn.cls ≠ "java/lang/invoke/VarHandle" ∧ (parseMethodDescriptor yX2_letsIn.desc).map (fun d => d.parameters.length) = some 1 := by decide +kernel
set_option maxHeartbeats 4000000 in
set_option maxRecDepth 100000 in
theorem mm_X2_letsIn {o : Nat} {a0 : Int32} {out : Int32} (hf : f_X2_letsIn E h o a0 = some out) : Met l yX2_letsIn (ws_ yX2_letsIn cX2_letsIn 4 (some .int)) (rM (fE + 4) (lE + 85)) (bPc G E.1 hSites h nx [.ref o, .int a0]) (gR (some (.int out)) True) 0 0 (fun _ => False) := by
  refine bGo (by decide +kernel) (Nat.le_of_ble_eq_true rfl) (fun p e s m below meth c ls S hr hlocks hin hnm hS hB hl => ?_)
  have S : CallFix p m c cX2_letsIn 4 s _ lw_all RX2 := S
  obtain ⟨hx, hb, hml, hown, hts⟩ := id S
  have hl : lv_has ls 4 [(0, .ref o), (1, .int a0)] := hl
  have w49 : ∀ (k4 : Nat → Int32 → Int32 → Int32 → Option (Int32)), (∀ (b0 : Nat) (b1 : Int32) (b2 : Int32) (b3 : Int32) (ls : Array Slot), lv_has ls 4 [(0, .ref b0), (1, .int b1), (2, .int b2), (3, .int b3)] → k4 b0 b1 b2 b3 = some out → W p l e (rM (fE + 4) (lE + 85)) s m ([.ref o, .int a0] : List Value).toArray below meth c s.heap [] 0 0 (MQ below (gR (some (.int out)) True) ([.ref o, .int a0] : List Value).toArray s 0 0 (fun _ => False)) (F0 m 4 ls [])) → ∀ (x0 : Nat) (x1 : Int32) (x3 : Int32) (y0 : Int32) (y1 : Int32) (ls : Array Slot), lv_has ls 4 [(0, .ref x0), (1, .int x1), (3, .int x3)] → f_X2_letsIn_49 k4 E h x0 x1 x3 y0 y1 = some out → W p l e (rM (fE + 4) (lE + 85)) s m ([.ref o, .int a0] : List Value).toArray below meth c s.heap [] 0 0 (MQ below (gR (some (.int out)) True) ([.ref o, .int a0] : List Value).toArray s 0 0 (fun _ => False)) (F0 m 49 ls [.int y1, .int y0]) := by
    intro k4 hk4 x0 x1 x3 y0 y1 ls hl hf
    rw [f_X2_letsIn_49] at hf
    obtain ⟨v1, hv1, hf⟩ := ob_s hf
    refine mc_X2_234 S hS.1 hS.2.1 hv1 hl.1 ⟨(by show _ ≤ (fE + 4); omega), (by show _ ≤ (lE + 85); omega)⟩ (Nat.le_of_ble_eq_true rfl) ⟨Nat.zero_le _, Nat.zero_le _⟩ dX2_letsIn_49 (fun _ => ?_)
    refine lv_iadd hx hb dX2_letsIn_52 ?_
    refine lv_istore_n (i := 2) (lv' := [(2, .int (y0 + v1)), (0, .ref x0), (1, .int x1), (3, .int x3)]) hx hb dX2_letsIn_53 rfl hl (by decide) rfl (fun ls hl => ?_)
    refine lv_iinc (v := (x3 + 1)) (lv' := [(3, .int (x3 + 1)), (2, .int (y0 + v1)), (0, .ref x0), (1, .int x1)]) hx hb dX2_letsIn_54 hl (k := 3) rfl rfl (by decide) rfl (fun ls hl => ?_)
    refine lv_goto (tgt := 4) hx hb dX2_letsIn_57 (by decide) ?_
    exact hk4 x0 x1 (y0 + v1) (x3 + 1) ls (lv_sub (l' := [(0, .ref x0), (1, .int x1), (2, .int (y0 + v1)), (3, .int (x3 + 1))]) hl [2, 3, 1, 0] rfl) hf
  have w4 : ∀ (n : Nat) , ∀ (x0 : Nat) (x1 : Int32) (x2 : Int32) (x3 : Int32) (ls : Array Slot), lv_has ls 4 [(0, .ref x0), (1, .int x1), (2, .int x2), (3, .int x3)] → f_X2_letsIn_4 n E h x0 x1 x2 x3 = some out → W p l e (rM (fE + 4) (lE + 85)) s m ([.ref o, .int a0] : List Value).toArray below meth c s.heap [] 0 0 (MQ below (gR (some (.int out)) True) ([.ref o, .int a0] : List Value).toArray s 0 0 (fun _ => False)) (F0 m 4 ls []) := by
    intro n
    induction n with
    | zero =>
      intro x0 x1 x2 x3 ls hl hf
      exact absurd hf (by rw [f_X2_letsIn_4]; exact nofun)
    | succ n ih =>
      intro x0 x1 x2 x3 ls hl hf
      rw [f_X2_letsIn_4] at hf
      refine lv_iload_n hx hb dX2_letsIn_4 rfl (lv_at hl 3 rfl) ?_
      refine lv_aload_n hx hb dX2_letsIn_5 rfl (lv_at hl 0 rfl) ?_
      obtain ⟨v1, hv1, hf⟩ := ob_s hf
      refine bg_X2_67 S hS hB (vR_s hv1) dX2_letsIn_6 ?_
      obtain ⟨g2, hf⟩ := gd_t hf
      obtain ⟨v3, hv3, hf⟩ := ob_s hf
      refine mc_X2_149 (fE := fE) (lE := lE) S hS hB g2 hv3 hl.1 ⟨(by show _ ≤ (fE + 4); omega), (by show _ ≤ (lE + 85); omega)⟩ (Nat.le_of_ble_eq_true rfl) ⟨Nat.zero_le _, Nat.zero_le _⟩ dX2_letsIn_9 (fun _ => ?_)
      refine lv_icmp_ge (tgt := 60) hx hb dX2_letsIn_12 (by decide) (fun c4 => ?_) (fun c4 => ?_)
      · replace hf := it_t c4 hf
        refine lv_iload_n hx hb dX2_letsIn_60 rfl (lv_at hl 2 rfl) ?_
        have hE9 := Option.some.inj hf
        subst hE9
        exact gt_ri S hr hlocks trivial dX2_letsIn_61
      · replace hf := it_f c4 hf
        refine lv_iload_n hx hb dX2_letsIn_15 rfl (lv_at hl 2 rfl) ?_
        refine lv_aload_n hx hb dX2_letsIn_16 rfl (lv_at hl 0 rfl) ?_
        obtain ⟨v5, hv5, hf⟩ := ob_s hf
        refine bg_X2_3 S hS hB (vR_s hv5) dX2_letsIn_17 ?_
        refine lv_aload_n hx hb dX2_letsIn_20 rfl (lv_at hl 0 rfl) ?_
        obtain ⟨v6, hv6, hf⟩ := ob_s hf
        refine bg_X2_67 S hS hB (vR_s hv6) dX2_letsIn_21 ?_
        refine lv_iload_n hx hb dX2_letsIn_24 rfl (lv_at hl 3 rfl) ?_
        obtain ⟨g7, hf⟩ := gd_t hf
        obtain ⟨v8, hv8, hf⟩ := ob_s hf
        refine mc_X2_222 (fE := fE) (lE := lE) S hS hB g7 hv8 hl.1 ⟨(by show _ ≤ (fE + 4); omega), (by show _ ≤ (lE + 85); omega)⟩ (Nat.le_of_ble_eq_true rfl) ⟨Nat.zero_le _, Nat.zero_le _⟩ dX2_letsIn_25 (fun _ => ?_)
        obtain ⟨g9, hf⟩ := gd_t hf
        refine b_castO S hS.1 hB (ci := 7) rfl (hts _ q395) g9 dX2_letsIn_28 ?_
        obtain ⟨v10, hv10, hf⟩ := ob_s hf
        refine bg_X2_228 S hS hB (vI_s hv10) dX2_letsIn_31 ?_
        obtain ⟨g11, hf⟩ := gd_t hf
        obtain ⟨v12, hv12, hf⟩ := ob_s hf
        refine mc_X2_157 (fE := fE) (lE := lE) S hS hB g11 hv12 hl.1 ⟨(by show _ ≤ (fE + 4); omega), (by show _ ≤ (lE + 85); omega)⟩ (Nat.le_of_ble_eq_true rfl) ⟨Nat.zero_le _, Nat.zero_le _⟩ dX2_letsIn_34 (fun _ => ?_)
        obtain ⟨v13, hv13, hf⟩ := ob_s hf
        refine bg_X2_231 S hS hB (vI_s hv13) dX2_letsIn_37 ?_
        refine lv_iload_n hx hb dX2_letsIn_40 rfl (lv_at hl 1 rfl) ?_
        refine lv_icmp_ne (tgt := 48) hx hb dX2_letsIn_41 (by decide) (fun c14 => ?_) (fun c14 => ?_)
        · replace hf := it_f c14 hf
          refine lv_iconst hx hb dX2_letsIn_48 kc_i0 ?_
          exact (w49 (f_X2_letsIn_4 n E h) (ih)) x0 x1 x3 x2 0 ls (lv_sub (l' := [(0, .ref x0), (1, .int x1), (3, .int x3)]) hl [0, 1, 3] rfl) hf
        · replace hf := it_t c14 hf
          refine lv_iconst hx hb dX2_letsIn_44 kc_i1 ?_
          refine lv_goto (tgt := 49) hx hb dX2_letsIn_45 (by decide) ?_
          exact (w49 (f_X2_letsIn_4 n E h) (ih)) x0 x1 x3 x2 1 ls (lv_sub (l' := [(0, .ref x0), (1, .int x1), (3, .int x3)]) hl [0, 1, 3] rfl) hf
  rw [f_X2_letsIn] at hf
  refine lv_iconst hx hb dX2_letsIn_0 kc_i0 ?_
  refine lv_istore_n (i := 2) (lv' := [(2, .int 0), (0, .ref o), (1, .int a0)]) hx hb dX2_letsIn_1 rfl hl (by decide) rfl (fun ls hl => ?_)
  refine lv_iconst hx hb dX2_letsIn_2 kc_i0 ?_
  refine lv_istore_n (i := 3) (lv' := [(3, .int 0), (2, .int 0), (0, .ref o), (1, .int a0)]) hx hb dX2_letsIn_3 rfl hl (by decide) rfl (fun ls hl => ?_)
  exact (w4 FU) o a0 0 0 ls (lv_sub (l' := [(0, .ref o), (1, .int a0), (2, .int 0), (3, .int 0)]) hl [2, 3, 1, 0] rfl) hf
set_option maxRecDepth 100000 in
theorem mc_X2_238 {o : Nat} {a0 : Int32} {out : Int32} (S : CallFix p m c cc nL s args lw_all RX2) (hS : SK G E.1 hSites A s) (hB : BI G A s.heap h nx H locs) (ho : isO h o 1 = true) (hf : f_X2_letsIn E h o a0 = some out) (hsz : ls.size = nL) (hR : (fE + 4) + 1 ≤ R.frames ∧ 8 + (4 + 11) + (lE + 85) ≤ R.locals) (hW : (rest.map fun v => v.category).sum ≤ 8) (hcs : cells ≤ R.cells ∧ slots ≤ R.slots) (hdg : decode cc pc = .ok (.invokevirtual 238, 3))  (kk : True → W p l e R s m args below meth c H locs cells slots Q (F0 m (pc + 3) ls (.int out :: rest))) : W p l e R s m args below meth c H locs cells slots Q (F0 m pc ls (.int a0 :: .ref o :: rest)) := by
  have hN := hS.2.1
  obtain ⟨fs, he⟩ := isO_s ho
  exact br_r (va_runV (As := [.int a0]) S (mm_X2_letsIn (l := l) (G := G) (nx := nx) (fE := fE) (lE := lE) hf) (cwV 1 S.2.2.2.2 (lw_V q390 q391 q392 q178 q393) rfl rfl rfl hd_X2_letsIn hR) (bPreV hS hB (ci := 1) rfl he) rfl rfl hsz rfl (lv_room hW) hdg hcs) kk
theorem hd_X2_isLocalTurn : yX2_isLocalTurn.cls = RX2 ∧ yX2_isLocalTurn.cls ≠ "java/lang/invoke/MethodHandle" ∧ yX2_isLocalTurn.cls ≠ "java/lang/invoke/VarHandle" ∧ (parseMethodDescriptor yX2_isLocalTurn.desc).map (fun d => d.parameters.length) = some 1 := by decide +kernel
set_option maxHeartbeats 4000000 in
set_option maxRecDepth 100000 in
theorem mm_X2_isLocalTurn {o : Nat} {a0 : Int32} {out : Int32} (hf : f_X2_isLocalTurn E h o a0 = some out) : Met l yX2_isLocalTurn (ws_ yX2_isLocalTurn cX2_isLocalTurn 2 (some .boolean)) (rM (fE + 5) (lE + 108)) (bPc G E.1 hSites h nx [.ref o, .int a0]) (gR (some (.int out)) (narrow .boolean (.int out) = .int out)) 0 0 (fun _ => False) := by
  refine bGo (by decide +kernel) (Nat.le_of_ble_eq_true rfl) (fun p e s m below meth c ls S hr hlocks hin hnm hS hB hl => ?_)
  have S : CallFix p m c cX2_isLocalTurn 2 s _ lw_all RX2 := S
  obtain ⟨hx, hb, hml, hown, hts⟩ := id S
  have hl : lv_has ls 2 [(0, .ref o), (1, .int a0)] := hl
  rw [f_X2_isLocalTurn] at hf
  refine lv_aload_n hx hb dX2_isLocalTurn_0 rfl (lv_at hl 0 rfl) ?_
  obtain ⟨v1, hv1, hf⟩ := ob_s hf
  refine bg_X2_15 S hS hB (vR_s hv1) dX2_isLocalTurn_1 ?_
  refine lv_iconst hx hb dX2_isLocalTurn_4 kc_i2 ?_
  obtain ⟨v2, hv2, hf⟩ := ob_s hf
  refine b_iald S hS.1 hB hv2 dX2_isLocalTurn_5 ?_
  refine lv_if_le (tgt := 40) hx hb dX2_isLocalTurn_6 (by decide) (fun c3 => ?_) (fun c3 => ?_)
  · replace hf := it_t c3 hf
    refine lv_iconst hx hb dX2_isLocalTurn_40 kc_i0 ?_
    have hE9 := Option.some.inj hf
    subst hE9
    exact gt_rz S hr hlocks nb0 dX2_isLocalTurn_41
  · replace hf := it_f c3 hf
    refine lv_aload_n hx hb dX2_isLocalTurn_9 rfl (lv_at hl 0 rfl) ?_
    refine lv_aload_n hx hb dX2_isLocalTurn_10 rfl (lv_at hl 0 rfl) ?_
    obtain ⟨v4, hv4, hf⟩ := ob_s hf
    refine bg_X2_3 S hS hB (vR_s hv4) dX2_isLocalTurn_11 ?_
    refine lv_iload_n hx hb dX2_isLocalTurn_14 rfl (lv_at hl 1 rfl) ?_
    obtain ⟨g5, hf⟩ := gd_t hf
    obtain ⟨v6, hv6, hf⟩ := ob_s hf
    refine mc_X2_157 (fE := fE) (lE := lE) S hS hB g5 hv6 hl.1 ⟨(by show _ ≤ (fE + 5); omega), (by show _ ≤ (lE + 108); omega)⟩ (Nat.le_of_ble_eq_true rfl) ⟨Nat.zero_le _, Nat.zero_le _⟩ dX2_isLocalTurn_15 (fun _ => ?_)
    obtain ⟨v7, hv7, hf⟩ := ob_s hf
    refine bg_X2_231 S hS hB (vI_s hv7) dX2_isLocalTurn_18 ?_
    obtain ⟨g8, hf⟩ := gd_t hf
    obtain ⟨v9, hv9, hf⟩ := ob_s hf
    refine mc_X2_238 (fE := fE) (lE := lE) S hS hB g8 hv9 hl.1 ⟨(by show _ ≤ (fE + 5); omega), (by show _ ≤ (lE + 108); omega)⟩ (Nat.le_of_ble_eq_true rfl) ⟨Nat.zero_le _, Nat.zero_le _⟩ dX2_isLocalTurn_21 (fun _ => ?_)
    refine lv_iconst hx hb dX2_isLocalTurn_24 kc_i1 ?_
    refine lv_iadd hx hb dX2_isLocalTurn_25 ?_
    refine lv_aload_n hx hb dX2_isLocalTurn_26 rfl (lv_at hl 0 rfl) ?_
    obtain ⟨v10, hv10, hf⟩ := ob_s hf
    refine bg_X2_15 S hS hB (vR_s hv10) dX2_isLocalTurn_27 ?_
    refine lv_iconst hx hb dX2_isLocalTurn_30 kc_i2 ?_
    obtain ⟨v11, hv11, hf⟩ := ob_s hf
    refine b_iald S hS.1 hB hv11 dX2_isLocalTurn_31 ?_
    obtain ⟨g12, hf⟩ := gd_t hf
    refine lv_irem hx hb dX2_isLocalTurn_32 (nz32_t g12) ?_
    refine lv_if_ne (tgt := 40) hx hb dX2_isLocalTurn_33 (by decide) (fun c13 => ?_) (fun c13 => ?_)
    · replace hf := it_f c13 hf
      refine lv_iconst hx hb dX2_isLocalTurn_40 kc_i0 ?_
      have hE9 := Option.some.inj hf
      subst hE9
      exact gt_rz S hr hlocks nb0 dX2_isLocalTurn_41
    · replace hf := it_t c13 hf
      refine lv_iconst hx hb dX2_isLocalTurn_36 kc_i1 ?_
      refine lv_goto (tgt := 41) hx hb dX2_isLocalTurn_37 (by decide) ?_
      have hE9 := Option.some.inj hf
      subst hE9
      exact gt_rz S hr hlocks nb1 dX2_isLocalTurn_41
set_option maxRecDepth 100000 in
theorem mc_X1_347 {o : Nat} {a0 : Int32} {out : Int32} (S : CallFix p m c cc nL s args lw_all RX1) (hS : SK G E.1 hSites A s) (hB : BI G A s.heap h nx H locs) (ho : isO h o 1 = true) (hf : f_X2_isLocalTurn E h o a0 = some out) (hsz : ls.size = nL) (hR : (fE + 5) + 1 ≤ R.frames ∧ 8 + (2 + 11) + (lE + 108) ≤ R.locals) (hW : (rest.map fun v => v.category).sum ≤ 8) (hcs : cells ≤ R.cells ∧ slots ≤ R.slots) (hdg : decode cc pc = .ok (.invokevirtual 347, 3))  (kk : (narrow .boolean (.int out) = .int out) → W p l e R s m args below meth c H locs cells slots Q (F0 m (pc + 3) ls (.int out :: rest))) : W p l e R s m args below meth c H locs cells slots Q (F0 m pc ls (.int a0 :: .ref o :: rest)) := by
  have hN := hS.2.1
  obtain ⟨fs, he⟩ := isO_s ho
  exact br_r (va_runV (As := [.int a0]) S (mm_X2_isLocalTurn (l := l) (G := G) (nx := nx) (fE := fE) (lE := lE) hf) (cwV 1 S.2.2.2.2 (lw_V q1315 q387 q388 q178 q389) rfl rfl rfl hd_X2_isLocalTurn hR) (bPreV hS hB (ci := 1) rfl he) rfl rfl hsz rfl (lv_room hW) hdg hcs) kk
set_option maxRecDepth 100000 in
theorem mc_X2_254 {o : Nat} {a0 : Int32} {out : Int32} (S : CallFix p m c cc nL s args lw_all RX2) (hS : SK G E.1 hSites A s) (hB : BI G A s.heap h nx H locs) (ho : isO h o 1 = true) (hf : f_X2_isLocalTurn E h o a0 = some out) (hsz : ls.size = nL) (hR : (fE + 5) + 1 ≤ R.frames ∧ 8 + (2 + 11) + (lE + 108) ≤ R.locals) (hW : (rest.map fun v => v.category).sum ≤ 8) (hcs : cells ≤ R.cells ∧ slots ≤ R.slots) (hdg : decode cc pc = .ok (.invokevirtual 254, 3))  (kk : (narrow .boolean (.int out) = .int out) → W p l e R s m args below meth c H locs cells slots Q (F0 m (pc + 3) ls (.int out :: rest))) : W p l e R s m args below meth c H locs cells slots Q (F0 m pc ls (.int a0 :: .ref o :: rest)) := by
  have hN := hS.2.1
  obtain ⟨fs, he⟩ := isO_s ho
  exact br_r (va_runV (As := [.int a0]) S (mm_X2_isLocalTurn (l := l) (G := G) (nx := nx) (fE := fE) (lE := lE) hf) (cwV 1 S.2.2.2.2 (lw_V q386 q387 q388 q178 q389) rfl rfl rfl hd_X2_isLocalTurn hR) (bPreV hS hB (ci := 1) rfl he) rfl rfl hsz rfl (lv_room hW) hdg hcs) kk
theorem hd_X2_hasTie : yX2_hasTie.cls = RX2 ∧ yX2_hasTie.cls ≠ "java/lang/invoke/MethodHandle" ∧ yX2_hasTie.cls ≠ "java/lang/invoke/VarHandle" ∧ (parseMethodDescriptor yX2_hasTie.desc).map (fun d => d.parameters.length) = some 2 := by decide +kernel
set_option maxHeartbeats 4000000 in
set_option maxRecDepth 100000 in
theorem mm_X2_hasTie {o : Nat} {a0 : Int32} {a1 : Int32} {out : Int32} (hf : f_X2_hasTie E h o a0 a1 = some out) : Met l yX2_hasTie (ws_ yX2_hasTie cX2_hasTie 3 (some .boolean)) (rM (fE + 4) (lE + 85)) (bPc G E.1 hSites h nx [.ref o, .int a0, .int a1]) (gR (some (.int out)) (narrow .boolean (.int out) = .int out)) 0 0 (fun _ => False) := by
  refine bGo (by decide +kernel) (Nat.le_of_ble_eq_true rfl) (fun p e s m below meth c ls S hr hlocks hin hnm hS hB hl => ?_)
  have S : CallFix p m c cX2_hasTie 3 s _ lw_all RX2 := S
  obtain ⟨hx, hb, hml, hown, hts⟩ := id S
  have hl : lv_has ls 3 [(0, .ref o), (1, .int a0), (2, .int a1)] := hl
  rw [f_X2_hasTie] at hf
  refine lv_aload_n hx hb dX2_hasTie_0 rfl (lv_at hl 0 rfl) ?_
  obtain ⟨v1, hv1, hf⟩ := ob_s hf
  refine bg_X2_3 S hS hB (vR_s hv1) dX2_hasTie_1 ?_
  refine lv_iload_n hx hb dX2_hasTie_4 rfl (lv_at hl 1 rfl) ?_
  obtain ⟨g2, hf⟩ := gd_t hf
  obtain ⟨v3, hv3, hf⟩ := ob_s hf
  refine mc_X2_193 (fE := fE) (lE := lE) S hS hB g2 hv3 hl.1 ⟨(by show _ ≤ (fE + 4); omega), (by show _ ≤ (lE + 85); omega)⟩ (Nat.le_of_ble_eq_true rfl) ⟨Nat.zero_le _, Nat.zero_le _⟩ dX2_hasTie_5 (fun _ => ?_)
  obtain ⟨g4, hf⟩ := gd_t hf
  obtain ⟨v5, hv5, hf⟩ := ob_s hf
  refine mc_X2_248 (fE := fE) (lE := lE) S hS hB g4 hv5 hl.1 ⟨(by show _ ≤ (fE + 4); omega), (by show _ ≤ (lE + 85); omega)⟩ (Nat.le_of_ble_eq_true rfl) ⟨Nat.zero_le _, Nat.zero_le _⟩ dX2_hasTie_8 (fun _ => ?_)
  refine lv_aload_n hx hb dX2_hasTie_11 rfl (lv_at hl 0 rfl) ?_
  obtain ⟨v6, hv6, hf⟩ := ob_s hf
  refine bg_X2_3 S hS hB (vR_s hv6) dX2_hasTie_12 ?_
  refine lv_iload_n hx hb dX2_hasTie_15 rfl (lv_at hl 2 rfl) ?_
  obtain ⟨g7, hf⟩ := gd_t hf
  obtain ⟨v8, hv8, hf⟩ := ob_s hf
  refine mc_X2_157 (fE := fE) (lE := lE) S hS hB g7 hv8 hl.1 ⟨(by show _ ≤ (fE + 4); omega), (by show _ ≤ (lE + 85); omega)⟩ (Nat.le_of_ble_eq_true rfl) ⟨Nat.zero_le _, Nat.zero_le _⟩ dX2_hasTie_16 (fun _ => ?_)
  obtain ⟨v9, hv9, hf⟩ := ob_s hf
  refine bg_X2_231 S hS hB (vI_s hv9) dX2_hasTie_19 ?_
  refine lv_icmp_ne (tgt := 29) hx hb dX2_hasTie_22 (by decide) (fun c10 => ?_) (fun c10 => ?_)
  · replace hf := it_f c10 hf
    refine lv_iconst hx hb dX2_hasTie_29 kc_i0 ?_
    have hE9 := Option.some.inj hf
    subst hE9
    exact gt_rz S hr hlocks nb0 dX2_hasTie_30
  · replace hf := it_t c10 hf
    refine lv_iconst hx hb dX2_hasTie_25 kc_i1 ?_
    refine lv_goto (tgt := 30) hx hb dX2_hasTie_26 (by decide) ?_
    have hE9 := Option.some.inj hf
    subst hE9
    exact gt_rz S hr hlocks nb1 dX2_hasTie_30
set_option maxRecDepth 100000 in
theorem mc_X2_257 {o : Nat} {a0 : Int32} {a1 : Int32} {out : Int32} (S : CallFix p m c cc nL s args lw_all RX2) (hS : SK G E.1 hSites A s) (hB : BI G A s.heap h nx H locs) (ho : isO h o 1 = true) (hf : f_X2_hasTie E h o a0 a1 = some out) (hsz : ls.size = nL) (hR : (fE + 4) + 1 ≤ R.frames ∧ 16 + (3 + 11) + (lE + 85) ≤ R.locals) (hW : (rest.map fun v => v.category).sum ≤ 16) (hcs : cells ≤ R.cells ∧ slots ≤ R.slots) (hdg : decode cc pc = .ok (.invokevirtual 257, 3))  (kk : (narrow .boolean (.int out) = .int out) → W p l e R s m args below meth c H locs cells slots Q (F0 m (pc + 3) ls (.int out :: rest))) : W p l e R s m args below meth c H locs cells slots Q (F0 m pc ls (.int a1 :: .int a0 :: .ref o :: rest)) := by
  have hN := hS.2.1
  obtain ⟨fs, he⟩ := isO_s ho
  exact br_r (b_runV16 hR.2 (As := [.int a0, .int a1]) S (mm_X2_hasTie (l := l) (G := G) (nx := nx) (fE := fE) (lE := lE) hf) (cwV 2 S.2.2.2.2 (lw_V q399 q400 q401 q178 q402) rfl rfl rfl hd_X2_hasTie ⟨hR.1, Nat.le_trans (Nat.add_le_add_right (Nat.add_le_add_right (Nat.le_of_ble_eq_true rfl) _) _) hR.2⟩) (bPreV hS hB (ci := 1) rfl he) rfl rfl hsz rfl (b_room16 hW) hdg hcs) kk
theorem hd_X2_isTied : yX2_isTied.cls = RX2 ∧ yX2_isTied.cls ≠ "java/lang/invoke/MethodHandle" ∧ yX2_isTied.cls ≠ "java/lang/invoke/VarHandle" ∧ (parseMethodDescriptor yX2_isTied.desc).map (fun d => d.parameters.length) = some 1 := by decide +kernel
set_option maxHeartbeats 4000000 in
set_option maxRecDepth 100000 in
theorem mm_X2_isTied {o : Nat} {a0 : Int32} {out : Int32} (hf : f_X2_isTied E h o a0 = some out) : Met l yX2_isTied (ws_ yX2_isTied cX2_isTied 2 (some .boolean)) (rM (fE + 6) (lE + 129)) (bPc G E.1 hSites h nx [.ref o, .int a0]) (gR (some (.int out)) (narrow .boolean (.int out) = .int out)) 0 0 (fun _ => False) := by
  refine bGo (by decide +kernel) (Nat.le_of_ble_eq_true rfl) (fun p e s m below meth c ls S hr hlocks hin hnm hS hB hl => ?_)
  have S : CallFix p m c cX2_isTied 2 s _ lw_all RX2 := S
  obtain ⟨hx, hb, hml, hown, hts⟩ := id S
  have hl : lv_has ls 2 [(0, .ref o), (1, .int a0)] := hl
  rw [f_X2_isTied] at hf
  refine lv_aload_n hx hb dX2_isTied_0 rfl (lv_at hl 0 rfl) ?_
  refine lv_aload_n hx hb dX2_isTied_1 rfl (lv_at hl 0 rfl) ?_
  obtain ⟨v1, hv1, hf⟩ := ob_s hf
  refine bg_X2_251 S hS hB (vI_s hv1) dX2_isTied_2 ?_
  obtain ⟨g2, hf⟩ := gd_t hf
  obtain ⟨v3, hv3, hf⟩ := ob_s hf
  refine mc_X2_254 (fE := fE) (lE := lE) S hS hB g2 hv3 hl.1 ⟨(by show _ ≤ (fE + 6); omega), (by show _ ≤ (lE + 129); omega)⟩ (Nat.le_of_ble_eq_true rfl) ⟨Nat.zero_le _, Nat.zero_le _⟩ dX2_isTied_5 (fun hnv3 => ?_)
  refine lv_if_eq (tgt := 27) hx hb dX2_isTied_8 (by decide) (fun c4 => ?_) (fun c4 => ?_)
  · replace hf := it_t c4 hf
    refine lv_iconst hx hb dX2_isTied_27 kc_i0 ?_
    have hE9 := Option.some.inj hf
    subst hE9
    exact gt_rz S hr hlocks nb0 dX2_isTied_28
  · replace hf := it_f c4 hf
    refine lv_aload_n hx hb dX2_isTied_11 rfl (lv_at hl 0 rfl) ?_
    refine lv_iload_n hx hb dX2_isTied_12 rfl (lv_at hl 1 rfl) ?_
    refine lv_aload_n hx hb dX2_isTied_13 rfl (lv_at hl 0 rfl) ?_
    obtain ⟨v5, hv5, hf⟩ := ob_s hf
    refine bg_X2_251 S hS hB (vI_s hv5) dX2_isTied_14 ?_
    obtain ⟨g6, hf⟩ := gd_t hf
    obtain ⟨v7, hv7, hf⟩ := ob_s hf
    refine mc_X2_257 (fE := fE) (lE := lE) S hS hB g6 hv7 hl.1 ⟨(by show _ ≤ (fE + 6); omega), (by show _ ≤ (lE + 129); omega)⟩ (Nat.le_of_ble_eq_true rfl) ⟨Nat.zero_le _, Nat.zero_le _⟩ dX2_isTied_17 (fun hnv7 => ?_)
    refine lv_if_eq (tgt := 27) hx hb dX2_isTied_20 (by decide) (fun c8 => ?_) (fun c8 => ?_)
    · replace hf := it_t c8 hf
      refine lv_iconst hx hb dX2_isTied_27 kc_i0 ?_
      have hE9 := Option.some.inj hf
      subst hE9
      exact gt_rz S hr hlocks nb0 dX2_isTied_28
    · replace hf := it_f c8 hf
      refine lv_iconst hx hb dX2_isTied_23 kc_i1 ?_
      refine lv_goto (tgt := 28) hx hb dX2_isTied_24 (by decide) ?_
      have hE9 := Option.some.inj hf
      subst hE9
      exact gt_rz S hr hlocks nb1 dX2_isTied_28
theorem hd_X2_movedMany : yX2_movedMany.cls = RX2 ∧ yX2_movedMany.cls ≠ "java/lang/invoke/MethodHandle" ∧ yX2_movedMany.cls ≠ "java/lang/invoke/VarHandle" ∧ (parseMethodDescriptor yX2_movedMany.desc).map (fun d => d.parameters.length) = some 0 := by decide +kernel
set_option maxHeartbeats 4000000 in
set_option maxRecDepth 100000 in
theorem mm_X2_movedMany {o : Nat} {out : Int32} (hf : f_X2_movedMany E h o = some out) : Met l yX2_movedMany (ws_ yX2_movedMany cX2_movedMany 3 (some .int)) (rM (fE + 3) (lE + 64)) (bPc G E.1 hSites h nx [.ref o]) (gR (some (.int out)) True) 0 0 (fun _ => False) := by
  refine bGo (by decide +kernel) (Nat.le_of_ble_eq_true rfl) (fun p e s m below meth c ls S hr hlocks hin hnm hS hB hl => ?_)
  have S : CallFix p m c cX2_movedMany 3 s _ lw_all RX2 := S
  obtain ⟨hx, hb, hml, hown, hts⟩ := id S
  have hl : lv_has ls 3 [(0, .ref o)] := hl
  have w4 : ∀ (n : Nat) , ∀ (x0 : Nat) (x1 : Int32) (x2 : Int32) (ls : Array Slot), lv_has ls 3 [(0, .ref x0), (1, .int x1), (2, .int x2)] → f_X2_movedMany_4 n E h x0 x1 x2 = some out → W p l e (rM (fE + 3) (lE + 64)) s m ([.ref o] : List Value).toArray below meth c s.heap [] 0 0 (MQ below (gR (some (.int out)) True) ([.ref o] : List Value).toArray s 0 0 (fun _ => False)) (F0 m 4 ls []) := by
    intro n
    induction n with
    | zero =>
      intro x0 x1 x2 ls hl hf
      exact absurd hf (by rw [f_X2_movedMany_4]; exact nofun)
    | succ n ih =>
      intro x0 x1 x2 ls hl hf
      rw [f_X2_movedMany_4] at hf
      refine lv_iload_n hx hb dX2_movedMany_4 rfl (lv_at hl 2 rfl) ?_
      refine lv_aload_n hx hb dX2_movedMany_5 rfl (lv_at hl 0 rfl) ?_
      obtain ⟨v1, hv1, hf⟩ := ob_s hf
      refine bg_X2_67 S hS hB (vR_s hv1) dX2_movedMany_6 ?_
      obtain ⟨g2, hf⟩ := gd_t hf
      obtain ⟨v3, hv3, hf⟩ := ob_s hf
      refine mc_X2_149 (fE := fE) (lE := lE) S hS hB g2 hv3 hl.1 ⟨(by show _ ≤ (fE + 3); omega), (by show _ ≤ (lE + 64); omega)⟩ (Nat.le_of_ble_eq_true rfl) ⟨Nat.zero_le _, Nat.zero_le _⟩ dX2_movedMany_9 (fun _ => ?_)
      refine lv_icmp_ge (tgt := 41) hx hb dX2_movedMany_12 (by decide) (fun c4 => ?_) (fun c4 => ?_)
      · replace hf := it_t c4 hf
        refine lv_iload_n hx hb dX2_movedMany_41 rfl (lv_at hl 1 rfl) ?_
        have hE9 := Option.some.inj hf
        subst hE9
        exact gt_ri S hr hlocks trivial dX2_movedMany_42
      · replace hf := it_f c4 hf
        refine lv_iload_n hx hb dX2_movedMany_15 rfl (lv_at hl 1 rfl) ?_
        refine lv_aload_n hx hb dX2_movedMany_16 rfl (lv_at hl 0 rfl) ?_
        obtain ⟨v5, hv5, hf⟩ := ob_s hf
        refine bg_X2_67 S hS hB (vR_s hv5) dX2_movedMany_17 ?_
        refine lv_iload_n hx hb dX2_movedMany_20 rfl (lv_at hl 2 rfl) ?_
        obtain ⟨g6, hf⟩ := gd_t hf
        obtain ⟨v7, hv7, hf⟩ := ob_s hf
        refine mc_X2_222 (fE := fE) (lE := lE) S hS hB g6 hv7 hl.1 ⟨(by show _ ≤ (fE + 3); omega), (by show _ ≤ (lE + 64); omega)⟩ (Nat.le_of_ble_eq_true rfl) ⟨Nat.zero_le _, Nat.zero_le _⟩ dX2_movedMany_21 (fun _ => ?_)
        obtain ⟨g8, hf⟩ := gd_t hf
        refine b_castO S hS.1 hB (ci := 7) rfl (hts _ q395) g8 dX2_movedMany_24 ?_
        obtain ⟨v9, hv9, hf⟩ := ob_s hf
        refine bg_X2_241 S hS hB (vI_s hv9) dX2_movedMany_27 ?_
        obtain ⟨v10, hv10, hf⟩ := ob_s hf
        refine mc_X2_234 S hS.1 hS.2.1 hv10 hl.1 ⟨(by show _ ≤ (fE + 3); omega), (by show _ ≤ (lE + 64); omega)⟩ (Nat.le_of_ble_eq_true rfl) ⟨Nat.zero_le _, Nat.zero_le _⟩ dX2_movedMany_30 (fun _ => ?_)
        refine lv_iadd hx hb dX2_movedMany_33 ?_
        refine lv_istore_n (i := 1) (lv' := [(1, .int (x1 + v10)), (0, .ref x0), (2, .int x2)]) hx hb dX2_movedMany_34 rfl hl (by decide) rfl (fun ls hl => ?_)
        refine lv_iinc (v := (x2 + 1)) (lv' := [(2, .int (x2 + 1)), (1, .int (x1 + v10)), (0, .ref x0)]) hx hb dX2_movedMany_35 hl (k := 2) rfl rfl (by decide) rfl (fun ls hl => ?_)
        refine lv_goto (tgt := 4) hx hb dX2_movedMany_38 (by decide) ?_
        exact (ih) x0 (x1 + v10) (x2 + 1) ls (lv_sub (l' := [(0, .ref x0), (1, .int (x1 + v10)), (2, .int (x2 + 1))]) hl [2, 1, 0] rfl) hf
  rw [f_X2_movedMany] at hf
  refine lv_iconst hx hb dX2_movedMany_0 kc_i0 ?_
  refine lv_istore_n (i := 1) (lv' := [(1, .int 0), (0, .ref o)]) hx hb dX2_movedMany_1 rfl hl (by decide) rfl (fun ls hl => ?_)
  refine lv_iconst hx hb dX2_movedMany_2 kc_i0 ?_
  refine lv_istore_n (i := 2) (lv' := [(2, .int 0), (1, .int 0), (0, .ref o)]) hx hb dX2_movedMany_3 rfl hl (by decide) rfl (fun ls hl => ?_)
  exact (w4 FU) o 0 0 ls (lv_sub (l' := [(0, .ref o), (1, .int 0), (2, .int 0)]) hl [2, 1, 0] rfl) hf
set_option maxRecDepth 100000 in
theorem mc_X1_385 {o : Nat} {out : Int32} (S : CallFix p m c cc nL s args lw_all RX1) (hS : SK G E.1 hSites A s) (hB : BI G A s.heap h nx H locs) (ho : isO h o 1 = true) (hf : f_X2_movedMany E h o = some out) (hsz : ls.size = nL) (hR : (fE + 3) + 1 ≤ R.frames ∧ 8 + (3 + 11) + (lE + 64) ≤ R.locals) (hW : (rest.map fun v => v.category).sum ≤ 8) (hcs : cells ≤ R.cells ∧ slots ≤ R.slots) (hdg : decode cc pc = .ok (.invokevirtual 385, 3))  (kk : True → W p l e R s m args below meth c H locs cells slots Q (F0 m (pc + 3) ls (.int out :: rest))) : W p l e R s m args below meth c H locs cells slots Q (F0 m pc ls (.ref o :: rest)) := by
  have hN := hS.2.1
  obtain ⟨fs, he⟩ := isO_s ho
  exact br_r (va_runV (As := []) S (mm_X2_movedMany (l := l) (G := G) (nx := nx) (fE := fE) (lE := lE) hf) (cwV 0 S.2.2.2.2 (lw_V q1348 q425 q426 q178 q427) rfl rfl rfl hd_X2_movedMany hR) (bPreV hS hB (ci := 1) rfl he) rfl rfl hsz rfl (lv_room hW) hdg hcs) kk
set_option maxRecDepth 100000 in
theorem mc_X2_245 {o : Nat} {out : Int32} (S : CallFix p m c cc nL s args lw_all RX2) (hS : SK G E.1 hSites A s) (hB : BI G A s.heap h nx H locs) (ho : isO h o 1 = true) (hf : f_X2_movedMany E h o = some out) (hsz : ls.size = nL) (hR : (fE + 3) + 1 ≤ R.frames ∧ 8 + (3 + 11) + (lE + 64) ≤ R.locals) (hW : (rest.map fun v => v.category).sum ≤ 8) (hcs : cells ≤ R.cells ∧ slots ≤ R.slots) (hdg : decode cc pc = .ok (.invokevirtual 245, 3))  (kk : True → W p l e R s m args below meth c H locs cells slots Q (F0 m (pc + 3) ls (.int out :: rest))) : W p l e R s m args below meth c H locs cells slots Q (F0 m pc ls (.ref o :: rest)) := by
  have hN := hS.2.1
  obtain ⟨fs, he⟩ := isO_s ho
  exact br_r (va_runV (As := []) S (mm_X2_movedMany (l := l) (G := G) (nx := nx) (fE := fE) (lE := lE) hf) (cwV 0 S.2.2.2.2 (lw_V q424 q425 q426 q178 q427) rfl rfl rfl hd_X2_movedMany hR) (bPreV hS hB (ci := 1) rfl he) rfl rfl hsz rfl (lv_room hW) hdg hcs) kk
theorem hd_X2_isQuotaTurn : yX2_isQuotaTurn.cls = RX2 ∧ yX2_isQuotaTurn.cls ≠ "java/lang/invoke/MethodHandle" ∧ yX2_isQuotaTurn.cls ≠ "java/lang/invoke/VarHandle" ∧ (parseMethodDescriptor yX2_isQuotaTurn.desc).map (fun d => d.parameters.length) = some 0 := by decide +kernel
set_option maxHeartbeats 4000000 in
set_option maxRecDepth 100000 in
theorem mm_X2_isQuotaTurn {o : Nat} {out : Int32} (hf : f_X2_isQuotaTurn E h o = some out) : Met l yX2_isQuotaTurn (ws_ yX2_isQuotaTurn cX2_isQuotaTurn 1 (some .boolean)) (rM (fE + 4) (lE + 86)) (bPc G E.1 hSites h nx [.ref o]) (gR (some (.int out)) (narrow .boolean (.int out) = .int out)) 0 0 (fun _ => False) := by
  refine bGo (by decide +kernel) (Nat.le_of_ble_eq_true rfl) (fun p e s m below meth c ls S hr hlocks hin hnm hS hB hl => ?_)
  have S : CallFix p m c cX2_isQuotaTurn 1 s _ lw_all RX2 := S
  obtain ⟨hx, hb, hml, hown, hts⟩ := id S
  have hl : lv_has ls 1 [(0, .ref o)] := hl
  rw [f_X2_isQuotaTurn] at hf
  refine lv_bipush hx hb dX2_isQuotaTurn_0 kc_b100 ?_
  refine lv_aload_n hx hb dX2_isQuotaTurn_2 rfl (lv_at hl 0 rfl) ?_
  obtain ⟨g1, hf⟩ := gd_t hf
  obtain ⟨v2, hv2, hf⟩ := ob_s hf
  refine mc_X2_245 (fE := fE) (lE := lE) S hS hB g1 hv2 hl.1 ⟨(by show _ ≤ (fE + 4); omega), (by show _ ≤ (lE + 86); omega)⟩ (Nat.le_of_ble_eq_true rfl) ⟨Nat.zero_le _, Nat.zero_le _⟩ dX2_isQuotaTurn_3 (fun _ => ?_)
  refine lv_imul hx hb dX2_isQuotaTurn_6 ?_
  refine lv_aload_n hx hb dX2_isQuotaTurn_7 rfl (lv_at hl 0 rfl) ?_
  obtain ⟨v3, hv3, hf⟩ := ob_s hf
  refine bg_X2_15 S hS hB (vR_s hv3) dX2_isQuotaTurn_8 ?_
  refine lv_iconst hx hb dX2_isQuotaTurn_11 kc_i3 ?_
  obtain ⟨v4, hv4, hf⟩ := ob_s hf
  refine b_iald S hS.1 hB hv4 dX2_isQuotaTurn_12 ?_
  refine lv_aload_n hx hb dX2_isQuotaTurn_13 rfl (lv_at hl 0 rfl) ?_
  obtain ⟨v5, hv5, hf⟩ := ob_s hf
  refine bg_X2_67 S hS hB (vR_s hv5) dX2_isQuotaTurn_14 ?_
  obtain ⟨g6, hf⟩ := gd_t hf
  obtain ⟨v7, hv7, hf⟩ := ob_s hf
  refine mc_X2_149 (fE := fE) (lE := lE) S hS hB g6 hv7 hl.1 ⟨(by show _ ≤ (fE + 4); omega), (by show _ ≤ (lE + 86); omega)⟩ (Nat.le_of_ble_eq_true rfl) ⟨Nat.zero_le _, Nat.zero_le _⟩ dX2_isQuotaTurn_17 (fun _ => ?_)
  refine lv_imul hx hb dX2_isQuotaTurn_20 ?_
  refine lv_icmp_ge (tgt := 28) hx hb dX2_isQuotaTurn_21 (by decide) (fun c8 => ?_) (fun c8 => ?_)
  · replace hf := it_t c8 hf
    refine lv_iconst hx hb dX2_isQuotaTurn_28 kc_i0 ?_
    have hE9 := Option.some.inj hf
    subst hE9
    exact gt_rz S hr hlocks nb0 dX2_isQuotaTurn_29
  · replace hf := it_f c8 hf
    refine lv_iconst hx hb dX2_isQuotaTurn_24 kc_i1 ?_
    refine lv_goto (tgt := 29) hx hb dX2_isQuotaTurn_25 (by decide) ?_
    have hE9 := Option.some.inj hf
    subst hE9
    exact gt_rz S hr hlocks nb1 dX2_isQuotaTurn_29
set_option maxRecDepth 100000 in
theorem mc_X1_350 {o : Nat} {out : Int32} (S : CallFix p m c cc nL s args lw_all RX1) (hS : SK G E.1 hSites A s) (hB : BI G A s.heap h nx H locs) (ho : isO h o 1 = true) (hf : f_X2_isQuotaTurn E h o = some out) (hsz : ls.size = nL) (hR : (fE + 4) + 1 ≤ R.frames ∧ 8 + (1 + 11) + (lE + 86) ≤ R.locals) (hW : (rest.map fun v => v.category).sum ≤ 8) (hcs : cells ≤ R.cells ∧ slots ≤ R.slots) (hdg : decode cc pc = .ok (.invokevirtual 350, 3))  (kk : (narrow .boolean (.int out) = .int out) → W p l e R s m args below meth c H locs cells slots Q (F0 m (pc + 3) ls (.int out :: rest))) : W p l e R s m args below meth c H locs cells slots Q (F0 m pc ls (.ref o :: rest)) := by
  have hN := hS.2.1
  obtain ⟨fs, he⟩ := isO_s ho
  exact br_r (va_runV (As := []) S (mm_X2_isQuotaTurn (l := l) (G := G) (nx := nx) (fE := fE) (lE := lE) hf) (cwV 0 S.2.2.2.2 (lw_V q1316 q421 q422 q178 q423) rfl rfl rfl hd_X2_isQuotaTurn hR) (bPreV hS hB (ci := 1) rfl he) rfl rfl hsz rfl (lv_room hW) hdg hcs) kk
set_option maxRecDepth 100000 in
theorem mc_X2_260 {o : Nat} {out : Int32} (S : CallFix p m c cc nL s args lw_all RX2) (hS : SK G E.1 hSites A s) (hB : BI G A s.heap h nx H locs) (ho : isO h o 1 = true) (hf : f_X2_isQuotaTurn E h o = some out) (hsz : ls.size = nL) (hR : (fE + 4) + 1 ≤ R.frames ∧ 8 + (1 + 11) + (lE + 86) ≤ R.locals) (hW : (rest.map fun v => v.category).sum ≤ 8) (hcs : cells ≤ R.cells ∧ slots ≤ R.slots) (hdg : decode cc pc = .ok (.invokevirtual 260, 3))  (kk : (narrow .boolean (.int out) = .int out) → W p l e R s m args below meth c H locs cells slots Q (F0 m (pc + 3) ls (.int out :: rest))) : W p l e R s m args below meth c H locs cells slots Q (F0 m pc ls (.ref o :: rest)) := by
  have hN := hS.2.1
  obtain ⟨fs, he⟩ := isO_s ho
  exact br_r (va_runV (As := []) S (mm_X2_isQuotaTurn (l := l) (G := G) (nx := nx) (fE := fE) (lE := lE) hf) (cwV 0 S.2.2.2.2 (lw_V q420 q421 q422 q178 q423) rfl rfl rfl hd_X2_isQuotaTurn hR) (bPreV hS hB (ci := 1) rfl he) rfl rfl hsz rfl (lv_room hW) hdg hcs) kk
theorem hd_X2_isMoving : yX2_isMoving.cls = RX2 ∧ yX2_isMoving.cls ≠ "java/lang/invoke/MethodHandle" ∧ yX2_isMoving.cls ≠ "java/lang/invoke/VarHandle" ∧ (parseMethodDescriptor yX2_isMoving.desc).map (fun d => d.parameters.length) = some 1 := by decide +kernel
set_option maxHeartbeats 4000000 in
set_option maxRecDepth 100000 in
theorem mm_X2_isMoving {o : Nat} {a0 : Int32} {out : Int32} (hf : f_X2_isMoving E h o a0 = some out) : Met l yX2_isMoving (ws_ yX2_isMoving cX2_isMoving 2 (some .boolean)) (rM (fE + 5) (lE + 106)) (bPc G E.1 hSites h nx [.ref o, .int a0]) (gR (some (.int out)) (narrow .boolean (.int out) = .int out)) 0 0 (fun _ => False) := by
  refine bGo (by decide +kernel) (Nat.le_of_ble_eq_true rfl) (fun p e s m below meth c ls S hr hlocks hin hnm hS hB hl => ?_)
  have S : CallFix p m c cX2_isMoving 2 s _ lw_all RX2 := S
  obtain ⟨hx, hb, hml, hown, hts⟩ := id S
  have hl : lv_has ls 2 [(0, .ref o), (1, .int a0)] := hl
  rw [f_X2_isMoving] at hf
  refine lv_aload_n hx hb dX2_isMoving_0 rfl (lv_at hl 0 rfl) ?_
  obtain ⟨g1, hf⟩ := gd_t hf
  obtain ⟨v2, hv2, hf⟩ := ob_s hf
  refine mc_X2_260 (fE := fE) (lE := lE) S hS hB g1 hv2 hl.1 ⟨(by show _ ≤ (fE + 5); omega), (by show _ ≤ (lE + 106); omega)⟩ (Nat.le_of_ble_eq_true rfl) ⟨Nat.zero_le _, Nat.zero_le _⟩ dX2_isMoving_1 (fun hnv2 => ?_)
  refine lv_if_eq (tgt := 20) hx hb dX2_isMoving_4 (by decide) (fun c3 => ?_) (fun c3 => ?_)
  · replace hf := it_t c3 hf
    refine lv_iconst hx hb dX2_isMoving_20 kc_i0 ?_
    have hE9 := Option.some.inj hf
    subst hE9
    exact gt_rz S hr hlocks nb0 dX2_isMoving_21
  · replace hf := it_f c3 hf
    refine lv_aload_n hx hb dX2_isMoving_7 rfl (lv_at hl 0 rfl) ?_
    obtain ⟨v4, hv4, hf⟩ := ob_s hf
    refine bg_X2_19 S hS hB (vR_s hv4) dX2_isMoving_8 ?_
    refine lv_iload_n hx hb dX2_isMoving_11 rfl (lv_at hl 1 rfl) ?_
    obtain ⟨v5, hv5, hf⟩ := ob_s hf
    refine b_iald S hS.1 hB hv5 dX2_isMoving_12 ?_
    refine lv_if_lt (tgt := 20) hx hb dX2_isMoving_13 (by decide) (fun c6 => ?_) (fun c6 => ?_)
    · replace hf := it_t c6 hf
      refine lv_iconst hx hb dX2_isMoving_20 kc_i0 ?_
      have hE9 := Option.some.inj hf
      subst hE9
      exact gt_rz S hr hlocks nb0 dX2_isMoving_21
    · replace hf := it_f c6 hf
      refine lv_iconst hx hb dX2_isMoving_16 kc_i1 ?_
      refine lv_goto (tgt := 21) hx hb dX2_isMoving_17 (by decide) ?_
      have hE9 := Option.some.inj hf
      subst hE9
      exact gt_rz S hr hlocks nb1 dX2_isMoving_21
theorem hd_X2_wishAt : yX2_wishAt.cls = RX2 ∧ yX2_wishAt.cls ≠ "java/lang/invoke/MethodHandle" ∧ yX2_wishAt.cls ≠ "java/lang/invoke/VarHandle" ∧ (parseMethodDescriptor yX2_wishAt.desc).map (fun d => d.parameters.length) = some 2 := by decide +kernel
set_option maxHeartbeats 4000000 in
set_option maxRecDepth 100000 in
theorem mm_X2_wishAt {o : Nat} {a0 : Int32} {a1 : Int32} {out : Int32} (hf : f_X2_wishAt E h o a0 a1 = some out) : Met l yX2_wishAt (ws_ yX2_wishAt cX2_wishAt 3 (some .int)) (rM (fE + 0) (lE + 0)) (bPc G E.1 hSites h nx [.ref o, .int a0, .int a1]) (gR (some (.int out)) True) 0 0 (fun _ => False) := by
  refine bGo (by decide +kernel) (Nat.le_of_ble_eq_true rfl) (fun p e s m below meth c ls S hr hlocks hin hnm hS hB hl => ?_)
  have S : CallFix p m c cX2_wishAt 3 s _ lw_all RX2 := S
  obtain ⟨hx, hb, hml, hown, hts⟩ := id S
  have hl : lv_has ls 3 [(0, .ref o), (1, .int a0), (2, .int a1)] := hl
  rw [f_X2_wishAt] at hf
  refine lv_aload_n hx hb dX2_wishAt_0 rfl (lv_at hl 0 rfl) ?_
  obtain ⟨v1, hv1, hf⟩ := ob_s hf
  refine bg_X2_37 S hS hB (vR_s hv1) dX2_wishAt_1 ?_
  refine lv_bipush hx hb dX2_wishAt_4 kc_b6 ?_
  refine lv_iload_n hx hb dX2_wishAt_6 rfl (lv_at hl 1 rfl) ?_
  refine lv_imul hx hb dX2_wishAt_7 ?_
  refine lv_iload_n hx hb dX2_wishAt_8 rfl (lv_at hl 2 rfl) ?_
  refine lv_iadd hx hb dX2_wishAt_9 ?_
  obtain ⟨v2, hv2, hf⟩ := ob_s hf
  refine b_iald S hS.1 hB hv2 dX2_wishAt_10 ?_
  have hE9 := Option.some.inj hf
  subst hE9
  exact gt_ri S hr hlocks trivial dX2_wishAt_11
set_option maxRecDepth 100000 in
theorem mc_X1_274 {o : Nat} {a0 : Int32} {a1 : Int32} {out : Int32} (S : CallFix p m c cc nL s args lw_all RX1) (hS : SK G E.1 hSites A s) (hB : BI G A s.heap h nx H locs) (ho : isO h o 1 = true) (hf : f_X2_wishAt E h o a0 a1 = some out) (hsz : ls.size = nL) (hR : (fE + 0) + 1 ≤ R.frames ∧ 8 + (3 + 11) + (lE + 0) ≤ R.locals) (hW : (rest.map fun v => v.category).sum ≤ 8) (hcs : cells ≤ R.cells ∧ slots ≤ R.slots) (hdg : decode cc pc = .ok (.invokevirtual 274, 3))  (kk : True → W p l e R s m args below meth c H locs cells slots Q (F0 m (pc + 3) ls (.int out :: rest))) : W p l e R s m args below meth c H locs cells slots Q (F0 m pc ls (.int a1 :: .int a0 :: .ref o :: rest)) := by
  have hN := hS.2.1
  obtain ⟨fs, he⟩ := isO_s ho
  exact br_r (va_runV (As := [.int a0, .int a1]) S (mm_X2_wishAt (l := l) (G := G) (nx := nx) (fE := fE) (lE := lE) hf) (cwV 2 S.2.2.2.2 (lw_V q1242 q1141 q1142 q178 q1143) rfl rfl rfl hd_X2_wishAt hR) (bPreV hS hB (ci := 1) rfl he) rfl rfl hsz rfl (lv_room hW) hdg hcs) kk
set_option maxRecDepth 100000 in
theorem mc_X10_55 {o : Nat} {a0 : Int32} {a1 : Int32} {out : Int32} (S : CallFix p m c cc nL s args lw_all RX10) (hS : SK G E.1 hSites A s) (hB : BI G A s.heap h nx H locs) (ho : isO h o 1 = true) (hf : f_X2_wishAt E h o a0 a1 = some out) (hsz : ls.size = nL) (hR : (fE + 0) + 1 ≤ R.frames ∧ 8 + (3 + 11) + (lE + 0) ≤ R.locals) (hW : (rest.map fun v => v.category).sum ≤ 8) (hcs : cells ≤ R.cells ∧ slots ≤ R.slots) (hdg : decode cc pc = .ok (.invokevirtual 55, 3))  (kk : True → W p l e R s m args below meth c H locs cells slots Q (F0 m (pc + 3) ls (.int out :: rest))) : W p l e R s m args below meth c H locs cells slots Q (F0 m pc ls (.int a1 :: .int a0 :: .ref o :: rest)) := by
  have hN := hS.2.1
  obtain ⟨fs, he⟩ := isO_s ho
  exact br_r (va_runV (As := [.int a0, .int a1]) S (mm_X2_wishAt (l := l) (G := G) (nx := nx) (fE := fE) (lE := lE) hf) (cwV 2 S.2.2.2.2 (lw_V q1697 q1141 q1142 q178 q1143) rfl rfl rfl hd_X2_wishAt hR) (bPreV hS hB (ci := 1) rfl he) rfl rfl hsz rfl (lv_room hW) hdg hcs) kk
set_option maxRecDepth 100000 in
theorem mc_X2_175 {o : Nat} {a0 : Int32} {a1 : Int32} {out : Int32} (S : CallFix p m c cc nL s args lw_all RX2) (hS : SK G E.1 hSites A s) (hB : BI G A s.heap h nx H locs) (ho : isO h o 1 = true) (hf : f_X2_wishAt E h o a0 a1 = some out) (hsz : ls.size = nL) (hR : (fE + 0) + 1 ≤ R.frames ∧ 8 + (3 + 11) + (lE + 0) ≤ R.locals) (hW : (rest.map fun v => v.category).sum ≤ 8) (hcs : cells ≤ R.cells ∧ slots ≤ R.slots) (hdg : decode cc pc = .ok (.invokevirtual 175, 3))  (kk : True → W p l e R s m args below meth c H locs cells slots Q (F0 m (pc + 3) ls (.int out :: rest))) : W p l e R s m args below meth c H locs cells slots Q (F0 m pc ls (.int a1 :: .int a0 :: .ref o :: rest)) := by
  have hN := hS.2.1
  obtain ⟨fs, he⟩ := isO_s ho
  exact br_r (va_runV (As := [.int a0, .int a1]) S (mm_X2_wishAt (l := l) (G := G) (nx := nx) (fE := fE) (lE := lE) hf) (cwV 2 S.2.2.2.2 (lw_V q1140 q1141 q1142 q178 q1143) rfl rfl rfl hd_X2_wishAt hR) (bPreV hS hB (ci := 1) rfl he) rfl rfl hsz rfl (lv_room hW) hdg hcs) kk
theorem hd_X2_isWish : yX2_isWish.cls = RX2 ∧ yX2_isWish.cls ≠ "java/lang/invoke/MethodHandle" ∧ yX2_isWish.cls ≠ "java/lang/invoke/VarHandle" ∧ (parseMethodDescriptor yX2_isWish.desc).map (fun d => d.parameters.length) = some 2 := by decide +kernel
set_option maxHeartbeats 4000000 in
set_option maxRecDepth 100000 in
theorem mm_X2_isWish {o : Nat} {a0 : Int32} {a1 : Int32} {out : Int32} (hf : f_X2_isWish E h o a0 a1 = some out) : Met l yX2_isWish (ws_ yX2_isWish cX2_isWish 4 (some .boolean)) (rM (fE + 1) (lE + 22)) (bPc G E.1 hSites h nx [.ref o, .int a0, .int a1]) (gR (some (.int out)) (narrow .boolean (.int out) = .int out)) 0 0 (fun _ => False) := by
  refine bGo (by decide +kernel) (Nat.le_of_ble_eq_true rfl) (fun p e s m below meth c ls S hr hlocks hin hnm hS hB hl => ?_)
  have S : CallFix p m c cX2_isWish 4 s _ lw_all RX2 := S
  obtain ⟨hx, hb, hml, hown, hts⟩ := id S
  have hl : lv_has ls 4 [(0, .ref o), (1, .int a0), (2, .int a1)] := hl
  have w2 : ∀ (n : Nat) , ∀ (x0 : Nat) (x1 : Int32) (x2 : Int32) (x3 : Int32) (ls : Array Slot), lv_has ls 4 [(0, .ref x0), (1, .int x1), (2, .int x2), (3, .int x3)] → f_X2_isWish_2 n E h x0 x1 x2 x3 = some out → W p l e (rM (fE + 1) (lE + 22)) s m ([.ref o, .int a0, .int a1] : List Value).toArray below meth c s.heap [] 0 0 (MQ below (gR (some (.int out)) (narrow .boolean (.int out) = .int out)) ([.ref o, .int a0, .int a1] : List Value).toArray s 0 0 (fun _ => False)) (F0 m 2 ls []) := by
    intro n
    induction n with
    | zero =>
      intro x0 x1 x2 x3 ls hl hf
      exact absurd hf (by rw [f_X2_isWish_2]; exact nofun)
    | succ n ih =>
      intro x0 x1 x2 x3 ls hl hf
      rw [f_X2_isWish_2] at hf
      refine lv_iload_n hx hb dX2_isWish_2 rfl (lv_at hl 3 rfl) ?_
      refine lv_aload_n hx hb dX2_isWish_3 rfl (lv_at hl 0 rfl) ?_
      obtain ⟨v1, hv1, hf⟩ := ob_s hf
      refine bg_X2_34 S hS hB (vR_s hv1) dX2_isWish_4 ?_
      refine lv_iload_n hx hb dX2_isWish_7 rfl (lv_at hl 1 rfl) ?_
      obtain ⟨v2, hv2, hf⟩ := ob_s hf
      refine b_iald S hS.1 hB hv2 dX2_isWish_8 ?_
      refine lv_icmp_ge (tgt := 30) hx hb dX2_isWish_9 (by decide) (fun c3 => ?_) (fun c3 => ?_)
      · replace hf := it_t c3 hf
        refine lv_iconst hx hb dX2_isWish_30 kc_i0 ?_
        have hE9 := Option.some.inj hf
        subst hE9
        exact gt_rz S hr hlocks nb0 dX2_isWish_31
      · replace hf := it_f c3 hf
        refine lv_aload_n hx hb dX2_isWish_12 rfl (lv_at hl 0 rfl) ?_
        refine lv_iload_n hx hb dX2_isWish_13 rfl (lv_at hl 1 rfl) ?_
        refine lv_iload_n hx hb dX2_isWish_14 rfl (lv_at hl 3 rfl) ?_
        obtain ⟨g4, hf⟩ := gd_t hf
        obtain ⟨v5, hv5, hf⟩ := ob_s hf
        refine mc_X2_175 (fE := fE) (lE := lE) S hS hB g4 hv5 hl.1 ⟨(by show _ ≤ (fE + 1); omega), (by show _ ≤ (lE + 22); omega)⟩ (Nat.le_of_ble_eq_true rfl) ⟨Nat.zero_le _, Nat.zero_le _⟩ dX2_isWish_15 (fun _ => ?_)
        refine lv_iload_n hx hb dX2_isWish_18 rfl (lv_at hl 2 rfl) ?_
        refine lv_icmp_ne (tgt := 24) hx hb dX2_isWish_19 (by decide) (fun c6 => ?_) (fun c6 => ?_)
        · replace hf := it_f c6 hf
          refine lv_iinc (v := (x3 + 1)) (lv' := [(3, .int (x3 + 1)), (0, .ref x0), (1, .int x1), (2, .int x2)]) hx hb dX2_isWish_24 hl (k := 3) rfl rfl (by decide) rfl (fun ls hl => ?_)
          refine lv_goto (tgt := 2) hx hb dX2_isWish_27 (by decide) ?_
          exact (ih) x0 x1 x2 (x3 + 1) ls (lv_sub (l' := [(0, .ref x0), (1, .int x1), (2, .int x2), (3, .int (x3 + 1))]) hl [1, 2, 3, 0] rfl) hf
        · replace hf := it_t c6 hf
          refine lv_iconst hx hb dX2_isWish_22 kc_i1 ?_
          have hE9 := Option.some.inj hf
          subst hE9
          exact gt_rz S hr hlocks nb1 dX2_isWish_23
  rw [f_X2_isWish] at hf
  refine lv_iconst hx hb dX2_isWish_0 kc_i0 ?_
  refine lv_istore_n (i := 3) (lv' := [(3, .int 0), (0, .ref o), (1, .int a0), (2, .int a1)]) hx hb dX2_isWish_1 rfl hl (by decide) rfl (fun ls hl => ?_)
  exact (w2 FU) o a0 a1 0 ls (lv_sub (l' := [(0, .ref o), (1, .int a0), (2, .int a1), (3, .int 0)]) hl [1, 2, 3, 0] rfl) hf
set_option maxRecDepth 100000 in
theorem mc_X1_469 {o : Nat} {a0 : Int32} {a1 : Int32} {out : Int32} (S : CallFix p m c cc nL s args lw_all RX1) (hS : SK G E.1 hSites A s) (hB : BI G A s.heap h nx H locs) (ho : isO h o 1 = true) (hf : f_X2_isWish E h o a0 a1 = some out) (hsz : ls.size = nL) (hR : (fE + 1) + 1 ≤ R.frames ∧ 8 + (4 + 11) + (lE + 22) ≤ R.locals) (hW : (rest.map fun v => v.category).sum ≤ 8) (hcs : cells ≤ R.cells ∧ slots ≤ R.slots) (hdg : decode cc pc = .ok (.invokevirtual 469, 3))  (kk : (narrow .boolean (.int out) = .int out) → W p l e R s m args below meth c H locs cells slots Q (F0 m (pc + 3) ls (.int out :: rest))) : W p l e R s m args below meth c H locs cells slots Q (F0 m pc ls (.int a1 :: .int a0 :: .ref o :: rest)) := by
  have hN := hS.2.1
  obtain ⟨fs, he⟩ := isO_s ho
  exact br_r (va_runV (As := [.int a0, .int a1]) S (mm_X2_isWish (l := l) (G := G) (nx := nx) (fE := fE) (lE := lE) hf) (cwV 2 S.2.2.2.2 (lw_V q1610 q1137 q1138 q178 q1139) rfl rfl rfl hd_X2_isWish hR) (bPreV hS hB (ci := 1) rfl he) rfl rfl hsz rfl (lv_room hW) hdg hcs) kk
set_option maxRecDepth 100000 in
theorem mc_X2_179 {o : Nat} {a0 : Int32} {a1 : Int32} {out : Int32} (S : CallFix p m c cc nL s args lw_all RX2) (hS : SK G E.1 hSites A s) (hB : BI G A s.heap h nx H locs) (ho : isO h o 1 = true) (hf : f_X2_isWish E h o a0 a1 = some out) (hsz : ls.size = nL) (hR : (fE + 1) + 1 ≤ R.frames ∧ 8 + (4 + 11) + (lE + 22) ≤ R.locals) (hW : (rest.map fun v => v.category).sum ≤ 8) (hcs : cells ≤ R.cells ∧ slots ≤ R.slots) (hdg : decode cc pc = .ok (.invokevirtual 179, 3))  (kk : (narrow .boolean (.int out) = .int out) → W p l e R s m args below meth c H locs cells slots Q (F0 m (pc + 3) ls (.int out :: rest))) : W p l e R s m args below meth c H locs cells slots Q (F0 m pc ls (.int a1 :: .int a0 :: .ref o :: rest)) := by
  have hN := hS.2.1
  obtain ⟨fs, he⟩ := isO_s ho
  exact br_r (va_runV (As := [.int a0, .int a1]) S (mm_X2_isWish (l := l) (G := G) (nx := nx) (fE := fE) (lE := lE) hf) (cwV 2 S.2.2.2.2 (lw_V q1436 q1137 q1138 q178 q1139) rfl rfl rfl hd_X2_isWish hR) (bPreV hS hB (ci := 1) rfl he) rfl rfl hsz rfl (lv_room hW) hdg hcs) kk
set_option maxRecDepth 100000 in
theorem mc_X4_176 {o : Nat} {a0 : Int32} {a1 : Int32} {out : Int32} (S : CallFix p m c cc nL s args lw_all RX4) (hS : SK G E.1 hSites A s) (hB : BI G A s.heap h nx H locs) (ho : isO h o 1 = true) (hf : f_X2_isWish E h o a0 a1 = some out) (hsz : ls.size = nL) (hR : (fE + 1) + 1 ≤ R.frames ∧ 8 + (4 + 11) + (lE + 22) ≤ R.locals) (hW : (rest.map fun v => v.category).sum ≤ 8) (hcs : cells ≤ R.cells ∧ slots ≤ R.slots) (hdg : decode cc pc = .ok (.invokevirtual 176, 3))  (kk : (narrow .boolean (.int out) = .int out) → W p l e R s m args below meth c H locs cells slots Q (F0 m (pc + 3) ls (.int out :: rest))) : W p l e R s m args below meth c H locs cells slots Q (F0 m pc ls (.int a1 :: .int a0 :: .ref o :: rest)) := by
  have hN := hS.2.1
  obtain ⟨fs, he⟩ := isO_s ho
  exact br_r (va_runV (As := [.int a0, .int a1]) S (mm_X2_isWish (l := l) (G := G) (nx := nx) (fE := fE) (lE := lE) hf) (cwV 2 S.2.2.2.2 (lw_V q1136 q1137 q1138 q178 q1139) rfl rfl rfl hd_X2_isWish hR) (bPreV hS hB (ci := 1) rfl he) rfl rfl hsz rfl (lv_room hW) hdg hcs) kk
theorem hd_X2_whyNot : yX2_whyNot.cls = RX2 ∧ yX2_whyNot.cls ≠ "java/lang/invoke/MethodHandle" ∧ yX2_whyNot.cls ≠ "java/lang/invoke/VarHandle" ∧ (parseMethodDescriptor yX2_whyNot.desc).map (fun d => d.parameters.length) = some 2 := by decide +kernel
set_option maxHeartbeats 4000000 in
set_option maxRecDepth 100000 in
theorem mm_X2_whyNot {o : Nat} {a0 : Int32} {a1 : Int32} {out : Int32 × AH × Nat × Nat} (hE : IfOK l G E fE lE) (hf : f_X2_whyNot E h nx o a0 a1 = some out) : Met l yX2_whyNot (ws_ yX2_whyNot cX2_whyNot 4 (some .int)) (rC (fE + 1) (lE + 40) out.2.2.1 out.2.2.2) (bPc G E.1 hSites h nx [.ref o, .int a0, .int a1]) (bQ G (some (.int out.1)) True out.2.1 (nx + out.2.2.1) (AA h nx)) out.2.2.1 out.2.2.2 (AA h nx) := by
  refine bGo (by decide +kernel) (Nat.le_of_ble_eq_true rfl) (fun p e s m below meth c ls S hr hlocks hin hnm hS hB hl => ?_)
  have S : CallFix p m c cX2_whyNot 4 s _ lw_all RX2 := S
  obtain ⟨hx, hb, hml, hown, hts⟩ := id S
  have hl : lv_has ls 4 [(0, .ref o), (1, .int a0), (2, .int a1)] := hl
  have w7 : ∀ (n : Nat) , ∀ (x0 : Nat) (x2 : Int32) (x3 : Int32) (hc : AH) (nc : Nat) (ls : Array Slot) (H : Heap) (locs : List Loc) (ce sl : Nat) (o1 : Int32 × AH × Nat × Nat), BI G (AA h nx) s.heap hc nc H locs → nc = nx + ce → TL out o1 ce sl → lv_has ls 4 [(0, .ref x0), (2, .int x2), (3, .int x3)] → f_X2_whyNot_7 n E x0 x2 x3 hc nc = some o1 → W p l e (rC (fE + 1) (lE + 40) out.2.2.1 out.2.2.2) s m ([.ref o, .int a0, .int a1] : List Value).toArray below meth c H locs ce sl (MQ below (bQ G (some (.int out.1)) True out.2.1 (nx + out.2.2.1) (AA h nx)) ([.ref o, .int a0, .int a1] : List Value).toArray s out.2.2.1 out.2.2.2 (AA h nx)) (F0 m 7 ls []) := by
    intro n
    induction n with
    | zero =>
      intro x0 x2 x3 hc nc ls H locs ce sl o1 hB hn hT hl hf
      exact absurd hf (by rw [f_X2_whyNot_7]; exact nofun)
    | succ n ih =>
      intro x0 x2 x3 hc nc ls H locs ce sl o1 hB hn hT hl hf
      rw [f_X2_whyNot_7] at hf
      refine lv_iload_n hx hb dX2_whyNot_7 rfl (lv_at hl 2 rfl) ?_
      refine lv_aload_n hx hb dX2_whyNot_8 rfl (lv_at hl 0 rfl) ?_
      obtain ⟨v1, hv1, hf⟩ := ob_s hf
      refine bg_X2_94 S hS hB (vR_s hv1) dX2_whyNot_9 ?_
      obtain ⟨v2, hv2, hf⟩ := ob_s hf
      refine b_alen S hS.1 hB hv2 dX2_whyNot_12 ?_
      refine lv_icmp_ge (tgt := 41) hx hb dX2_whyNot_13 (by decide) (fun c3 => ?_) (fun c3 => ?_)
      · replace hf := it_t c3 hf
        refine lv_iconst hx hb dX2_whyNot_41 kc_i0 ?_
        have hE9 := TL_e hT hf
        subst hE9
        exact bt_i S hr hlocks hB (by omega) trivial dX2_whyNot_42
      · replace hf := it_f c3 hf
        refine lv_aload_n hx hb dX2_whyNot_16 rfl (lv_at hl 0 rfl) ?_
        obtain ⟨v4, hv4, hf⟩ := ob_s hf
        refine bg_X2_94 S hS hB (vR_s hv4) dX2_whyNot_17 ?_
        refine lv_iload_n hx hb dX2_whyNot_20 rfl (lv_at hl 2 rfl) ?_
        obtain ⟨v5, hv5, hf⟩ := ob_s hf
        refine b_aald S hS.1 hB 5 rfl rfl hv5 dX2_whyNot_21 ?_
        refine lv_iload_n hx hb dX2_whyNot_22 rfl (lv_at hl 1 rfl) ?_
        obtain ⟨v6, hv6, hf⟩ := ob_s hf
        obtain ⟨o7, hf, hT⟩ := TL_c hT hf
        refine hE.1 _ _ _ _ _ _ _ _ _ _ _ _ _ _ _ _ _ _ _ _ _ _ _ _ _ _ _ _ S hS hB (hts _ q1266) hv6 hl.1 ⟨(by show _ ≤ (fE + 1); omega), (by show _ ≤ (lE + 40); omega)⟩ (Nat.le_of_ble_eq_true rfl) ⟨(TL_m hT).1, (TL_m hT).2⟩ dX2_whyNot_23 (fun H locs hnv6 hB => ?_)
        refine lv_if_eq (tgt := 35) hx hb dX2_whyNot_28 (by decide) (fun c8 => ?_) (fun c8 => ?_)
        · replace hf := it_t c8 hf
          refine lv_iinc (v := (x3 + 1)) (lv' := [(3, .int (x3 + 1)), (0, .ref x0), (2, .int x2)]) hx hb dX2_whyNot_35 hl (k := 2) rfl rfl (by decide) rfl (fun ls hl => ?_)
          refine lv_goto (tgt := 7) hx hb dX2_whyNot_38 (by decide) ?_
          exact (ih) x0 x2 (x3 + 1) v6.2.1 (nc + v6.2.2.1) ls H locs (ce + v6.2.2.1) (sl + v6.2.2.2) o7 hB (by omega) hT (lv_sub (l' := [(0, .ref x0), (2, .int x2), (3, .int (x3 + 1))]) hl [1, 2, 0] rfl) hf
        · replace hf := it_f c8 hf
          refine lv_iload_n hx hb dX2_whyNot_31 rfl (lv_at hl 2 rfl) ?_
          refine lv_iconst hx hb dX2_whyNot_32 kc_i1 ?_
          refine lv_iadd hx hb dX2_whyNot_33 ?_
          have hE9 := TL_e hT hf
          subst hE9
          exact bt_i S hr hlocks hB (by omega) trivial dX2_whyNot_34
  have hT : TL out out 0 0 := TL_0
  rw [f_X2_whyNot] at hf
  refine lv_aload_n hx hb dX2_whyNot_0 rfl (lv_at hl 0 rfl) ?_
  refine lv_iload_n hx hb dX2_whyNot_1 rfl (lv_at hl 1 rfl) ?_
  obtain ⟨h1, hh1, hf⟩ := ob_s hf
  refine bp_X2_281 S hS hB hh1 dX2_whyNot_2 (fun H locs hB => ?_)
  refine lv_iconst hx hb dX2_whyNot_5 kc_i0 ?_
  refine lv_istore_n (i := 3) (lv' := [(3, .int 0), (0, .ref o), (1, .int a0), (2, .int a1)]) hx hb dX2_whyNot_6 rfl hl (by decide) rfl (fun ls hl => ?_)
  exact (w7 FU) o a1 0 h1 nx ls H locs 0 0 out hB (by omega) hT (lv_sub (l' := [(0, .ref o), (2, .int a1), (3, .int 0)]) hl [1, 3, 0] rfl) hf
set_option maxRecDepth 100000 in
theorem mc_X1_322 {o : Nat} {a0 : Int32} {a1 : Int32} {out : Int32 × AH × Nat × Nat} (S : CallFix p m c cc nL s args lw_all RX1) (hE : IfOK l G E fE lE) (hS : SK G E.1 hSites A s) (hB : BI G A s.heap h nx H locs) (ho : isO h o 1 = true) (hf : f_X2_whyNot E h nx o a0 a1 = some out) (hsz : ls.size = nL) (hR : (fE + 1) + 1 ≤ R.frames ∧ 8 + (4 + 11) + (lE + 40) ≤ R.locals) (hW : (rest.map fun v => v.category).sum ≤ 8) (hcs : cells + out.2.2.1 ≤ R.cells ∧ slots + out.2.2.2 ≤ R.slots) (hdg : decode cc pc = .ok (.invokevirtual 322, 3))  (kk : ∀ (H1 : Heap) (locs1 : List Loc), True → BI G A s.heap out.2.1 (nx + out.2.2.1) H1 locs1 → W p l e R s m args below meth c H1 locs1 (cells + out.2.2.1) (slots + out.2.2.2) Q (F0 m (pc + 3) ls (.int out.1 :: rest))) : W p l e R s m args below meth c H locs cells slots Q (F0 m pc ls (.int a1 :: .int a0 :: .ref o :: rest)) := by
  have hN := hS.2.1
  obtain ⟨fs, he⟩ := isO_s ho
  exact br_w (va_runV (As := [.int a0, .int a1]) S (mm_X2_whyNot hE hf) (cwV 2 S.2.2.2.2 (lw_V q1261 q1262 q1263 q178 q1264) rfl rfl rfl hd_X2_whyNot hR) (bPreV hS hB (ci := 1) rfl he) rfl rfl hsz rfl (lv_room hW) hdg hcs) hB kk
set_option maxRecDepth 100000 in
theorem mc_X2_292 {o : Nat} {a0 : Int32} {a1 : Int32} {out : Int32 × AH × Nat × Nat} (S : CallFix p m c cc nL s args lw_all RX2) (hE : IfOK l G E fE lE) (hS : SK G E.1 hSites A s) (hB : BI G A s.heap h nx H locs) (ho : isO h o 1 = true) (hf : f_X2_whyNot E h nx o a0 a1 = some out) (hsz : ls.size = nL) (hR : (fE + 1) + 1 ≤ R.frames ∧ 8 + (4 + 11) + (lE + 40) ≤ R.locals) (hW : (rest.map fun v => v.category).sum ≤ 8) (hcs : cells + out.2.2.1 ≤ R.cells ∧ slots + out.2.2.2 ≤ R.slots) (hdg : decode cc pc = .ok (.invokevirtual 292, 3))  (kk : ∀ (H1 : Heap) (locs1 : List Loc), True → BI G A s.heap out.2.1 (nx + out.2.2.1) H1 locs1 → W p l e R s m args below meth c H1 locs1 (cells + out.2.2.1) (slots + out.2.2.2) Q (F0 m (pc + 3) ls (.int out.1 :: rest))) : W p l e R s m args below meth c H locs cells slots Q (F0 m pc ls (.int a1 :: .int a0 :: .ref o :: rest)) := by
  have hN := hS.2.1
  obtain ⟨fs, he⟩ := isO_s ho
  exact br_w (va_runV (As := [.int a0, .int a1]) S (mm_X2_whyNot hE hf) (cwV 2 S.2.2.2.2 (lw_V q1410 q1262 q1263 q178 q1264) rfl rfl rfl hd_X2_whyNot hR) (bPreV hS hB (ci := 1) rfl he) rfl rfl hsz rfl (lv_room hW) hdg hcs) hB kk
theorem hd_X1_first : yX1_first.cls ≠ "java/lang/invoke/MethodHandle" ∧ yX1_first.cls ≠ "java/lang/invoke/VarHandle" ∧ (parseMethodDescriptor yX1_first.desc).map (fun d => d.parameters.length) = some 3 := by decide +kernel
set_option maxHeartbeats 4000000 in
set_option maxRecDepth 100000 in
theorem mm_X1_first {a0 : Int32} {a1 : Nat} {a2 : Nat} {out : Int32 × AH × Nat × Nat} (hE : IfOK l G E fE lE) (hf : f_X1_first E h nx a0 a1 a2 = some out) : Met l yX1_first (ws_ yX1_first cX1_first 5 (some .int)) (rC (fE + 1) (lE + 40) out.2.2.1 out.2.2.2) (bPc G E.1 hSites h nx [.int a0, .ref a1, .ref a2]) (bQ G (some (.int out.1)) True out.2.1 (nx + out.2.2.1) (AA h nx)) out.2.2.1 out.2.2.2 (AA h nx) := by
  refine bGo (by decide +kernel) (Nat.le_of_ble_eq_true rfl) (fun p e s m below meth c ls S hr hlocks hin hnm hS hB hl => ?_)
  have S : CallFix p m c cX1_first 5 s _ lw_all RX1 := S
  obtain ⟨hx, hb, hml, hown, hts⟩ := id S
  have hl : lv_has ls 5 [(0, .int a0), (1, .ref a1), (2, .ref a2)] := hl
  have w5 : ∀ (n : Nat) , ∀ (x0 : Int32) (x1 : Nat) (x2 : Nat) (x3 : Int32) (x4 : Int32) (hc : AH) (nc : Nat) (ls : Array Slot) (H : Heap) (locs : List Loc) (ce sl : Nat) (o1 : Int32 × AH × Nat × Nat), BI G (AA h nx) s.heap hc nc H locs → nc = nx + ce → TL out o1 ce sl → lv_has ls 5 [(0, .int x0), (1, .ref x1), (2, .ref x2), (3, .int x3), (4, .int x4)] → f_X1_first_5 n E x0 x1 x2 x3 x4 hc nc = some o1 → W p l e (rC (fE + 1) (lE + 40) out.2.2.1 out.2.2.2) s m ([.int a0, .ref a1, .ref a2] : List Value).toArray below meth c H locs ce sl (MQ below (bQ G (some (.int out.1)) True out.2.1 (nx + out.2.2.1) (AA h nx)) ([.int a0, .ref a1, .ref a2] : List Value).toArray s out.2.2.1 out.2.2.2 (AA h nx)) (F0 m 5 ls []) := by
    intro n
    induction n with
    | zero =>
      intro x0 x1 x2 x3 x4 hc nc ls H locs ce sl o1 hB hn hT hl hf
      exact absurd hf (by rw [f_X1_first_5]; exact nofun)
    | succ n ih =>
      intro x0 x1 x2 x3 x4 hc nc ls H locs ce sl o1 hB hn hT hl hf
      rw [f_X1_first_5] at hf
      refine lv_iload hx hb dX1_first_5 (lv_at hl 4 rfl) ?_
      refine lv_iload_n hx hb dX1_first_7 rfl (lv_at hl 0 rfl) ?_
      refine lv_icmp_ge (tgt := 47) hx hb dX1_first_8 (by decide) (fun c1 => ?_) (fun c1 => ?_)
      · replace hf := it_t c1 hf
        refine lv_iload_n hx hb dX1_first_47 rfl (lv_at hl 3 rfl) ?_
        have hE9 := TL_e hT hf
        subst hE9
        exact bt_i S hr hlocks hB (by omega) trivial dX1_first_48
      · replace hf := it_f c1 hf
        refine lv_aload_n hx hb dX1_first_11 rfl (lv_at hl 1 rfl) ?_
        refine lv_iload hx hb dX1_first_12 (lv_at hl 4 rfl) ?_
        obtain ⟨v2, hv2, hf⟩ := ob_s hf
        obtain ⟨o3, hf, hT⟩ := TL_c hT hf
        refine hE.1 _ _ _ _ _ _ _ _ _ _ _ _ _ _ _ _ _ _ _ _ _ _ _ _ _ _ _ _ S hS hB (hts _ q413) hv2 hl.1 ⟨(by show _ ≤ (fE + 1); omega), (by show _ ≤ (lE + 40); omega)⟩ (Nat.le_of_ble_eq_true rfl) ⟨(TL_m hT).1, (TL_m hT).2⟩ dX1_first_14 (fun H locs hnv2 hB => ?_)
        refine lv_if_eq (tgt := 41) hx hb dX1_first_19 (by decide) (fun c4 => ?_) (fun c4 => ?_)
        · replace hf := it_t c4 hf
          refine lv_iinc (v := (x4 + 1)) (lv' := [(4, .int (x4 + 1)), (0, .int x0), (1, .ref x1), (2, .ref x2), (3, .int x3)]) hx hb dX1_first_41 hl (k := 4) rfl rfl (by decide) rfl (fun ls hl => ?_)
          refine lv_goto (tgt := 5) hx hb dX1_first_44 (by decide) ?_
          exact (ih) x0 x1 x2 x3 (x4 + 1) v2.2.1 (nc + v2.2.2.1) ls H locs (ce + v2.2.2.1) (sl + v2.2.2.2) o3 hB (by omega) hT (lv_sub (l' := [(0, .int x0), (1, .ref x1), (2, .ref x2), (3, .int x3), (4, .int (x4 + 1))]) hl [1, 2, 3, 4, 0] rfl) hf
        · replace hf := it_f c4 hf
          refine lv_iload_n hx hb dX1_first_22 rfl (lv_at hl 3 rfl) ?_
          refine lv_if_lt (tgt := 38) hx hb dX1_first_23 (by decide) (fun c5 => ?_) (fun c5 => ?_)
          · replace hf := it_t c5 hf
            refine lv_iload hx hb dX1_first_38 (lv_at hl 4 rfl) ?_
            refine lv_istore_n (i := 3) (lv' := [(3, .int x4), (0, .int x0), (1, .ref x1), (2, .ref x2), (4, .int x4)]) hx hb dX1_first_40 rfl hl (by decide) rfl (fun ls hl => ?_)
            refine lv_iinc (v := (x4 + 1)) (lv' := [(4, .int (x4 + 1)), (3, .int x4), (0, .int x0), (1, .ref x1), (2, .ref x2)]) hx hb dX1_first_41 hl (k := 4) rfl rfl (by decide) rfl (fun ls hl => ?_)
            refine lv_goto (tgt := 5) hx hb dX1_first_44 (by decide) ?_
            exact (ih) x0 x1 x2 x4 (x4 + 1) v2.2.1 (nc + v2.2.2.1) ls H locs (ce + v2.2.2.1) (sl + v2.2.2.2) o3 hB (by omega) hT (lv_sub (l' := [(0, .int x0), (1, .ref x1), (2, .ref x2), (3, .int x4), (4, .int (x4 + 1))]) hl [2, 3, 4, 1, 0] rfl) hf
          · replace hf := it_f c5 hf
            refine lv_aload_n hx hb dX1_first_26 rfl (lv_at hl 2 rfl) ?_
            refine lv_iload hx hb dX1_first_27 (lv_at hl 4 rfl) ?_
            refine lv_iload_n hx hb dX1_first_29 rfl (lv_at hl 3 rfl) ?_
            obtain ⟨v6, hv6, hf⟩ := ob_s hf
            obtain ⟨o7, hf, hT⟩ := TL_c hT hf
            refine hE.2.1 _ _ _ _ _ _ _ _ _ _ _ _ _ _ _ _ _ _ _ _ _ _ _ _ _ _ _ _ _ S hS hB (hts _ q380) hv6 hl.1 ⟨(by show _ ≤ (fE + 1); omega), (by show _ ≤ (lE + 40); omega)⟩ (Nat.le_of_ble_eq_true rfl) ⟨(TL_m hT).1, (TL_m hT).2⟩ dX1_first_30 (fun H locs _ hB => ?_)
            refine lv_if_ge (tgt := 41) hx hb dX1_first_35 (by decide) (fun c8 => ?_) (fun c8 => ?_)
            · replace hf := it_t c8 hf
              refine lv_iinc (v := (x4 + 1)) (lv' := [(4, .int (x4 + 1)), (0, .int x0), (1, .ref x1), (2, .ref x2), (3, .int x3)]) hx hb dX1_first_41 hl (k := 4) rfl rfl (by decide) rfl (fun ls hl => ?_)
              refine lv_goto (tgt := 5) hx hb dX1_first_44 (by decide) ?_
              exact (ih) x0 x1 x2 x3 (x4 + 1) v6.2.1 ((nc + v2.2.2.1) + v6.2.2.1) ls H locs ((ce + v2.2.2.1) + v6.2.2.1) ((sl + v2.2.2.2) + v6.2.2.2) o7 hB (by omega) hT (lv_sub (l' := [(0, .int x0), (1, .ref x1), (2, .ref x2), (3, .int x3), (4, .int (x4 + 1))]) hl [1, 2, 3, 4, 0] rfl) hf
            · replace hf := it_f c8 hf
              refine lv_iload hx hb dX1_first_38 (lv_at hl 4 rfl) ?_
              refine lv_istore_n (i := 3) (lv' := [(3, .int x4), (0, .int x0), (1, .ref x1), (2, .ref x2), (4, .int x4)]) hx hb dX1_first_40 rfl hl (by decide) rfl (fun ls hl => ?_)
              refine lv_iinc (v := (x4 + 1)) (lv' := [(4, .int (x4 + 1)), (3, .int x4), (0, .int x0), (1, .ref x1), (2, .ref x2)]) hx hb dX1_first_41 hl (k := 4) rfl rfl (by decide) rfl (fun ls hl => ?_)
              refine lv_goto (tgt := 5) hx hb dX1_first_44 (by decide) ?_
              exact (ih) x0 x1 x2 x4 (x4 + 1) v6.2.1 ((nc + v2.2.2.1) + v6.2.2.1) ls H locs ((ce + v2.2.2.1) + v6.2.2.1) ((sl + v2.2.2.2) + v6.2.2.2) o7 hB (by omega) hT (lv_sub (l' := [(0, .int x0), (1, .ref x1), (2, .ref x2), (3, .int x4), (4, .int (x4 + 1))]) hl [2, 3, 4, 1, 0] rfl) hf
  have hT : TL out out 0 0 := TL_0
  rw [f_X1_first] at hf
  refine lv_iconst hx hb dX1_first_0 kc_im1 ?_
  refine lv_istore_n (i := 3) (lv' := [(3, .int (-1)), (0, .int a0), (1, .ref a1), (2, .ref a2)]) hx hb dX1_first_1 rfl hl (by decide) rfl (fun ls hl => ?_)
  refine lv_iconst hx hb dX1_first_2 kc_i0 ?_
  refine lv_istore (lv' := [(4, .int 0), (3, .int (-1)), (0, .int a0), (1, .ref a1), (2, .ref a2)]) hx hb dX1_first_3 hl (by decide) rfl (fun ls hl => ?_)
  exact (w5 FU) a0 a1 a2 (-1) 0 h nx ls s.heap [] 0 0 out hB (by omega) hT (lv_sub (l' := [(0, .int a0), (1, .ref a1), (2, .ref a2), (3, .int (-1)), (4, .int 0)]) hl [2, 3, 4, 1, 0] rfl) hf
set_option maxRecDepth 100000 in
theorem mc_X1_428 {a0 : Int32} {a1 : Nat} {a2 : Nat} {out : Int32 × AH × Nat × Nat} (S : CallFix p m c cc nL s args lw_all RX1) (hE : IfOK l G E fE lE) (hS : SK G E.1 hSites A s) (hB : BI G A s.heap h nx H locs) (hf : f_X1_first E h nx a0 a1 a2 = some out) (hsz : ls.size = nL) (hR : (fE + 1) + 1 ≤ R.frames ∧ 8 + (5 + 11) + (lE + 40) ≤ R.locals) (hW : (rest.map fun v => v.category).sum ≤ 8) (hcs : cells + out.2.2.1 ≤ R.cells ∧ slots + out.2.2.2 ≤ R.slots) (hdg : decode cc pc = .ok (.invokestatic 428, 3))  (kk : ∀ (H1 : Heap) (locs1 : List Loc), True → BI G A s.heap out.2.1 (nx + out.2.2.1) H1 locs1 → W p l e R s m args below meth c H1 locs1 (cells + out.2.2.1) (slots + out.2.2.2) Q (F0 m (pc + 3) ls (.int out.1 :: rest))) : W p l e R s m args below meth c H locs cells slots Q (F0 m pc ls (.ref a2 :: .ref a1 :: .int a0 :: rest)) := by
  have hN := hS.2.1
  exact br_w (va_runS (As := [.int a0, .ref a1, .ref a2]) S (mm_X1_first hE hf) (va_cwS 3 S.2.2.2.2 (lw_S q1538 q1292 q174 q1293) rfl rfl rfl hd_X1_first hR) (bPreS hS hB) rfl rfl hsz rfl (lv_room hW) hdg hcs) hB kk
set_option maxRecDepth 100000 in
theorem mc_X2_277 {a0 : Int32} {a1 : Nat} {a2 : Nat} {out : Int32 × AH × Nat × Nat} (S : CallFix p m c cc nL s args lw_all RX2) (hE : IfOK l G E fE lE) (hS : SK G E.1 hSites A s) (hB : BI G A s.heap h nx H locs) (hf : f_X1_first E h nx a0 a1 a2 = some out) (hsz : ls.size = nL) (hR : (fE + 1) + 1 ≤ R.frames ∧ 8 + (5 + 11) + (lE + 40) ≤ R.locals) (hW : (rest.map fun v => v.category).sum ≤ 8) (hcs : cells + out.2.2.1 ≤ R.cells ∧ slots + out.2.2.2 ≤ R.slots) (hdg : decode cc pc = .ok (.invokestatic 277, 3))  (kk : ∀ (H1 : Heap) (locs1 : List Loc), True → BI G A s.heap out.2.1 (nx + out.2.2.1) H1 locs1 → W p l e R s m args below meth c H1 locs1 (cells + out.2.2.1) (slots + out.2.2.2) Q (F0 m (pc + 3) ls (.int out.1 :: rest))) : W p l e R s m args below meth c H locs cells slots Q (F0 m pc ls (.ref a2 :: .ref a1 :: .int a0 :: rest)) := by
  have hN := hS.2.1
  exact br_w (va_runSN (As := [.int a0, .ref a1, .ref a2]) S (mm_X1_first hE hf) (⟨va_cnB 3 S.2.2.2.2 (lw_meth q1293) rfl rfl rfl (hN _ q1291 rfl) (S.2.2.2.2 _ q174) hd_X1_first hR, S.2.2.2.2 _ q1292, trivial⟩) (bPreS hS hB) rfl rfl hsz rfl (lv_room hW) hdg hcs) hB kk
theorem hd_X2_firstFor : yX2_firstFor.cls = RX2 ∧ yX2_firstFor.cls ≠ "java/lang/invoke/MethodHandle" ∧ yX2_firstFor.cls ≠ "java/lang/invoke/VarHandle" ∧ (parseMethodDescriptor yX2_firstFor.desc).map (fun d => d.parameters.length) = some 2 := by decide +kernel
set_option maxHeartbeats 4000000 in
set_option maxRecDepth 100000 in
theorem mm_X2_firstFor {o : Nat} {a0 : Int32} {a1 : Nat} {out : Int32 × AH × Nat × Nat} (hE : IfOK l G E fE lE) (hf : f_X2_firstFor E h nx o a0 a1 = some out) : Met l yX2_firstFor (ws_ yX2_firstFor cX2_firstFor 3 (some .int)) (rC (fE + 2) (lE + 3100) out.2.2.1 out.2.2.2) (bPc G E.1 hSites h nx [.ref o, .int a0, .ref a1]) (bQ G (some (.int out.1)) True out.2.1 (nx + out.2.2.1) (AA h nx)) out.2.2.1 out.2.2.2 (AA h nx) := by
  refine bGo (by decide +kernel) (Nat.le_of_ble_eq_true rfl) (fun p e s m below meth c ls S hr hlocks hin hnm hS hB hl => ?_)
  have S : CallFix p m c cX2_firstFor 3 s _ lw_all RX2 := S
  obtain ⟨hx, hb, hml, hown, hts⟩ := id S
  have hl : lv_has ls 3 [(0, .ref o), (1, .int a0), (2, .ref a1)] := hl
  have hT : TL out out 0 0 := TL_0
  rw [f_X2_firstFor] at hf
  refine lv_aload_n hx hb dX2_firstFor_0 rfl (lv_at hl 0 rfl) ?_
  obtain ⟨v1, hv1, hf⟩ := ob_s hf
  refine bg_X2_3 S hS hB (vR_s hv1) dX2_firstFor_1 ?_
  obtain ⟨v2, hv2, hf⟩ := ob_s hf
  refine bg_X2_146 S hS hB (vR_s hv2) dX2_firstFor_4 ?_
  obtain ⟨g3, hf⟩ := gd_t hf
  obtain ⟨v4, hv4, hf⟩ := ob_s hf
  refine mc_X2_149 (fE := fE) (lE := lE) S hS hB g3 hv4 hl.1 ⟨(by show _ ≤ (fE + 2); omega), (by show _ ≤ (lE + 3100); omega)⟩ (Nat.le_of_ble_eq_true rfl) ⟨(TL_m hT).1, (TL_m hT).2⟩ dX2_firstFor_7 (fun _ => ?_)
  refine lv_aload_n hx hb dX2_firstFor_10 rfl (lv_at hl 2 rfl) ?_
  refine lv_aload_n hx hb dX2_firstFor_11 rfl (lv_at hl 0 rfl) ?_
  refine lv_iload_n hx hb dX2_firstFor_12 rfl (lv_at hl 1 rfl) ?_
  obtain ⟨o5, hf, hT⟩ := TL_c hT hf
  refine b_lam S hS hB (k := 20) (vs := [.ref o, .int a0]) hnm rfl lamL_20 (lamV_c rfl rfl (lamV_c rfl rfl lamV_n)) rfl hl.1 (by show _ ≤ (lE + 3100); simp only [List.map, List.sum_cons, List.sum_nil, Value.category]; omega) (TL_m hT).1 (TL_m hT).2 dX2_firstFor_13 (fun H hB => ?_)
  obtain ⟨v6, hv6, hf⟩ := ob_s hf
  obtain ⟨o7, hf, hT⟩ := TL_c hT hf
  refine mc_X2_277 (fE := fE) (lE := lE) S hE hS hB hv6 hl.1 ⟨(by show _ ≤ (fE + 2); omega), (by show _ ≤ (lE + 3100); omega)⟩ (Nat.le_of_ble_eq_true rfl) ⟨(TL_m hT).1, (TL_m hT).2⟩ dX2_firstFor_18 (fun H locs _ hB => ?_)
  have hE9 := TL_e hT hf
  subst hE9
  exact bt_i S hr hlocks hB (by omega) trivial dX2_firstFor_21
set_option maxRecDepth 100000 in
theorem mc_X1_332 {o : Nat} {a0 : Int32} {a1 : Nat} {out : Int32 × AH × Nat × Nat} (S : CallFix p m c cc nL s args lw_all RX1) (hE : IfOK l G E fE lE) (hS : SK G E.1 hSites A s) (hB : BI G A s.heap h nx H locs) (ho : isO h o 1 = true) (hf : f_X2_firstFor E h nx o a0 a1 = some out) (hsz : ls.size = nL) (hR : (fE + 2) + 1 ≤ R.frames ∧ 8 + (3 + 11) + (lE + 3100) ≤ R.locals) (hW : (rest.map fun v => v.category).sum ≤ 8) (hcs : cells + out.2.2.1 ≤ R.cells ∧ slots + out.2.2.2 ≤ R.slots) (hdg : decode cc pc = .ok (.invokevirtual 332, 3))  (kk : ∀ (H1 : Heap) (locs1 : List Loc), True → BI G A s.heap out.2.1 (nx + out.2.2.1) H1 locs1 → W p l e R s m args below meth c H1 locs1 (cells + out.2.2.1) (slots + out.2.2.2) Q (F0 m (pc + 3) ls (.int out.1 :: rest))) : W p l e R s m args below meth c H locs cells slots Q (F0 m pc ls (.ref a1 :: .int a0 :: .ref o :: rest)) := by
  have hN := hS.2.1
  obtain ⟨fs, he⟩ := isO_s ho
  exact br_w (va_runV (As := [.int a0, .ref a1]) S (mm_X2_firstFor hE hf) (cwV 2 S.2.2.2.2 (lw_V q1278 q1279 q1280 q178 q1281) rfl rfl rfl hd_X2_firstFor hR) (bPreV hS hB (ci := 1) rfl he) rfl rfl hsz rfl (lv_room hW) hdg hcs) hB kk
theorem hd_X2_compare : yX2_compare.cls = RX2 ∧ yX2_compare.cls ≠ "java/lang/invoke/MethodHandle" ∧ yX2_compare.cls ≠ "java/lang/invoke/VarHandle" ∧ (parseMethodDescriptor yX2_compare.desc).map (fun d => d.parameters.length) = some 3 := by decide +kernel
set_option maxHeartbeats 4000000 in
set_option maxRecDepth 100000 in
theorem mm_X2_compare {o : Nat} {a0 : Int32} {a1 : Int32} {a2 : Int32} {out : Int32 × AH × Nat × Nat} (hE : IfOK l G E fE lE) (hf : f_X2_compare E h nx o a0 a1 a2 = some out) : Met l yX2_compare (ws_ yX2_compare cX2_compare 4 (some .int)) (rC (fE + 1) (lE + 40) out.2.2.1 out.2.2.2) (bPc G E.1 hSites h nx [.ref o, .int a0, .int a1, .int a2]) (bQ G (some (.int out.1)) True out.2.1 (nx + out.2.2.1) (AA h nx)) out.2.2.1 out.2.2.2 (AA h nx) := by
  refine bGo (by decide +kernel) (Nat.le_of_ble_eq_true rfl) (fun p e s m below meth c ls S hr hlocks hin hnm hS hB hl => ?_)
  have S : CallFix p m c cX2_compare 4 s _ lw_all RX2 := S
  obtain ⟨hx, hb, hml, hown, hts⟩ := id S
  have hl : lv_has ls 4 [(0, .ref o), (1, .int a0), (2, .int a1), (3, .int a2)] := hl
  have hT : TL out out 0 0 := TL_0
  rw [f_X2_compare] at hf
  refine lv_aload_n hx hb dX2_compare_0 rfl (lv_at hl 0 rfl) ?_
  refine lv_iload_n hx hb dX2_compare_1 rfl (lv_at hl 1 rfl) ?_
  obtain ⟨h1, hh1, hf⟩ := ob_s hf
  refine bp_X2_251 S hS hB hh1 dX2_compare_2 (fun H locs hB => ?_)
  refine lv_aload_n hx hb dX2_compare_5 rfl (lv_at hl 0 rfl) ?_
  obtain ⟨v2, hv2, hf⟩ := ob_s hf
  refine bg_X2_124 S hS hB (vR_s hv2) dX2_compare_6 ?_
  refine lv_iload_n hx hb dX2_compare_9 rfl (lv_at hl 2 rfl) ?_
  refine lv_iload_n hx hb dX2_compare_10 rfl (lv_at hl 3 rfl) ?_
  obtain ⟨v3, hv3, hf⟩ := ob_s hf
  obtain ⟨o4, hf, hT⟩ := TL_c hT hf
  refine hE.2.1 _ _ _ _ _ _ _ _ _ _ _ _ _ _ _ _ _ _ _ _ _ _ _ _ _ _ _ _ _ S hS hB (hts _ q1290) hv3 hl.1 ⟨(by show _ ≤ (fE + 1); omega), (by show _ ≤ (lE + 40); omega)⟩ (Nat.le_of_ble_eq_true rfl) ⟨(TL_m hT).1, (TL_m hT).2⟩ dX2_compare_11 (fun H locs _ hB => ?_)
  have hE9 := TL_e hT hf
  subst hE9
  exact bt_i S hr hlocks hB (by omega) trivial dX2_compare_16
set_option maxRecDepth 100000 in
theorem mc_X1_628 {o : Nat} {a0 : Int32} {a1 : Int32} {a2 : Int32} {out : Int32 × AH × Nat × Nat} (S : CallFix p m c cc nL s args lw_all RX1) (hE : IfOK l G E fE lE) (hS : SK G E.1 hSites A s) (hB : BI G A s.heap h nx H locs) (ho : isO h o 1 = true) (hf : f_X2_compare E h nx o a0 a1 a2 = some out) (hsz : ls.size = nL) (hR : (fE + 1) + 1 ≤ R.frames ∧ 8 + (4 + 11) + (lE + 40) ≤ R.locals) (hW : (rest.map fun v => v.category).sum ≤ 8) (hcs : cells + out.2.2.1 ≤ R.cells ∧ slots + out.2.2.2 ≤ R.slots) (hdg : decode cc pc = .ok (.invokevirtual 628, 3))  (kk : ∀ (H1 : Heap) (locs1 : List Loc), True → BI G A s.heap out.2.1 (nx + out.2.2.1) H1 locs1 → W p l e R s m args below meth c H1 locs1 (cells + out.2.2.1) (slots + out.2.2.2) Q (F0 m (pc + 3) ls (.int out.1 :: rest))) : W p l e R s m args below meth c H locs cells slots Q (F0 m pc ls (.int a2 :: .int a1 :: .int a0 :: .ref o :: rest)) := by
  have hN := hS.2.1
  obtain ⟨fs, he⟩ := isO_s ho
  exact br_w (va_runV (As := [.int a0, .int a1, .int a2]) S (mm_X2_compare hE hf) (cwV 3 S.2.2.2.2 (lw_V q1310 q1286 q1287 q178 q1288) rfl rfl rfl hd_X2_compare hR) (bPreV hS hB (ci := 1) rfl he) rfl rfl hsz rfl (lv_room hW) hdg hcs) hB kk
set_option maxRecDepth 100000 in
theorem mc_X2_267 {o : Nat} {a0 : Int32} {a1 : Int32} {a2 : Int32} {out : Int32 × AH × Nat × Nat} (S : CallFix p m c cc nL s args lw_all RX2) (hE : IfOK l G E fE lE) (hS : SK G E.1 hSites A s) (hB : BI G A s.heap h nx H locs) (ho : isO h o 1 = true) (hf : f_X2_compare E h nx o a0 a1 a2 = some out) (hsz : ls.size = nL) (hR : (fE + 1) + 1 ≤ R.frames ∧ 8 + (4 + 11) + (lE + 40) ≤ R.locals) (hW : (rest.map fun v => v.category).sum ≤ 8) (hcs : cells + out.2.2.1 ≤ R.cells ∧ slots + out.2.2.2 ≤ R.slots) (hdg : decode cc pc = .ok (.invokevirtual 267, 3))  (kk : ∀ (H1 : Heap) (locs1 : List Loc), True → BI G A s.heap out.2.1 (nx + out.2.2.1) H1 locs1 → W p l e R s m args below meth c H1 locs1 (cells + out.2.2.1) (slots + out.2.2.2) Q (F0 m (pc + 3) ls (.int out.1 :: rest))) : W p l e R s m args below meth c H locs cells slots Q (F0 m pc ls (.int a2 :: .int a1 :: .int a0 :: .ref o :: rest)) := by
  have hN := hS.2.1
  obtain ⟨fs, he⟩ := isO_s ho
  exact br_w (va_runV (As := [.int a0, .int a1, .int a2]) S (mm_X2_compare hE hf) (cwV 3 S.2.2.2.2 (lw_V q1285 q1286 q1287 q178 q1288) rfl rfl rfl hd_X2_compare hR) (bPreV hS hB (ci := 1) rfl he) rfl rfl hsz rfl (lv_room hW) hdg hcs) hB kk
theorem hd_X2_lambda_firstFor_6 : yX2_lambda_firstFor_6.cls = RX2 ∧ yX2_lambda_firstFor_6.cls ≠ "java/lang/invoke/MethodHandle" ∧ yX2_lambda_firstFor_6.cls ≠ "java/lang/invoke/VarHandle" ∧ (parseMethodDescriptor yX2_lambda_firstFor_6.desc).map (fun d => d.parameters.length) = some 3 := by decide +kernel
set_option maxHeartbeats 4000000 in
set_option maxRecDepth 100000 in
theorem mm_X2_lambda_firstFor_6 {o : Nat} {a0 : Int32} {a1 : Int32} {a2 : Int32} {out : Int32 × AH × Nat × Nat} (hE : IfOK l G E fE lE) (hf : f_X2_lambda_firstFor_6 E h nx o a0 a1 a2 = some out) : Met l yX2_lambda_firstFor_6 (ws_ yX2_lambda_firstFor_6 cX2_lambda_firstFor_6 4 (some .int)) (rC (fE + 2) (lE + 63) out.2.2.1 out.2.2.2) (bPc G E.1 hSites h nx [.ref o, .int a0, .int a1, .int a2]) (bQ G (some (.int out.1)) True out.2.1 (nx + out.2.2.1) (AA h nx)) out.2.2.1 out.2.2.2 (AA h nx) := by
  refine bGo (by decide +kernel) (Nat.le_of_ble_eq_true rfl) (fun p e s m below meth c ls S hr hlocks hin hnm hS hB hl => ?_)
  have S : CallFix p m c cX2_lambda_firstFor_6 4 s _ lw_all RX2 := S
  obtain ⟨hx, hb, hml, hown, hts⟩ := id S
  have hl : lv_has ls 4 [(0, .ref o), (1, .int a0), (2, .int a1), (3, .int a2)] := hl
  have hT : TL out out 0 0 := TL_0
  rw [f_X2_lambda_firstFor_6] at hf
  refine lv_aload_n hx hb dX2_lambda_firstFor_6_0 rfl (lv_at hl 0 rfl) ?_
  refine lv_iload_n hx hb dX2_lambda_firstFor_6_1 rfl (lv_at hl 1 rfl) ?_
  refine lv_iload_n hx hb dX2_lambda_firstFor_6_2 rfl (lv_at hl 2 rfl) ?_
  refine lv_iload_n hx hb dX2_lambda_firstFor_6_3 rfl (lv_at hl 3 rfl) ?_
  obtain ⟨g1, hf⟩ := gd_t hf
  obtain ⟨v2, hv2, hf⟩ := ob_s hf
  obtain ⟨o3, hf, hT⟩ := TL_c hT hf
  refine mc_X2_267 (fE := fE) (lE := lE) S hE hS hB g1 hv2 hl.1 ⟨(by show _ ≤ (fE + 2); omega), (by show _ ≤ (lE + 63); omega)⟩ (Nat.le_of_ble_eq_true rfl) ⟨(TL_m hT).1, (TL_m hT).2⟩ dX2_lambda_firstFor_6_4 (fun H locs _ hB => ?_)
  have hE9 := TL_e hT hf
  subst hE9
  exact bt_i S hr hlocks hB (by omega) trivial dX2_lambda_firstFor_6_7
theorem hd_X2_isWaiting : yX2_isWaiting.cls = RX2 ∧ yX2_isWaiting.cls ≠ "java/lang/invoke/MethodHandle" ∧ yX2_isWaiting.cls ≠ "java/lang/invoke/VarHandle" ∧ (parseMethodDescriptor yX2_isWaiting.desc).map (fun d => d.parameters.length) = some 1 := by decide +kernel
set_option maxHeartbeats 4000000 in
set_option maxRecDepth 100000 in
theorem mm_X2_isWaiting {o : Nat} {a0 : Int32} {out : Int32} (hf : f_X2_isWaiting E h o a0 = some out) : Met l yX2_isWaiting (ws_ yX2_isWaiting cX2_isWaiting 2 (some .boolean)) (rM (fE + 0) (lE + 0)) (bPc G E.1 hSites h nx [.ref o, .int a0]) (gR (some (.int out)) (narrow .boolean (.int out) = .int out)) 0 0 (fun _ => False) := by
  refine bGo (by decide +kernel) (Nat.le_of_ble_eq_true rfl) (fun p e s m below meth c ls S hr hlocks hin hnm hS hB hl => ?_)
  have S : CallFix p m c cX2_isWaiting 2 s _ lw_all RX2 := S
  obtain ⟨hx, hb, hml, hown, hts⟩ := id S
  have hl : lv_has ls 2 [(0, .ref o), (1, .int a0)] := hl
  rw [f_X2_isWaiting] at hf
  refine lv_aload_n hx hb dX2_isWaiting_0 rfl (lv_at hl 0 rfl) ?_
  obtain ⟨v1, hv1, hf⟩ := ob_s hf
  refine bg_X2_56 S hS hB (vR_s hv1) dX2_isWaiting_1 ?_
  refine lv_iload_n hx hb dX2_isWaiting_4 rfl (lv_at hl 1 rfl) ?_
  obtain ⟨v2, hv2, hf⟩ := ob_s hf
  refine b_zald S hS.1 hB hv2 dX2_isWaiting_5 ?_
  refine lv_if_ne (tgt := 22) hx hb dX2_isWaiting_6 (by decide) (fun c3 => ?_) (fun c3 => ?_)
  · replace hf := it_f c3 hf
    refine lv_iconst hx hb dX2_isWaiting_22 kc_i0 ?_
    have hE9 := Option.some.inj hf
    subst hE9
    exact gt_rz S hr hlocks nb0 dX2_isWaiting_23
  · replace hf := it_t c3 hf
    refine lv_aload_n hx hb dX2_isWaiting_9 rfl (lv_at hl 0 rfl) ?_
    obtain ⟨v4, hv4, hf⟩ := ob_s hf
    refine bg_X2_25 S hS hB (vR_s hv4) dX2_isWaiting_10 ?_
    refine lv_iload_n hx hb dX2_isWaiting_13 rfl (lv_at hl 1 rfl) ?_
    obtain ⟨v5, hv5, hf⟩ := ob_s hf
    refine b_iald S hS.1 hB hv5 dX2_isWaiting_14 ?_
    refine lv_if_ne (tgt := 22) hx hb dX2_isWaiting_15 (by decide) (fun c6 => ?_) (fun c6 => ?_)
    · replace hf := it_f c6 hf
      refine lv_iconst hx hb dX2_isWaiting_22 kc_i0 ?_
      have hE9 := Option.some.inj hf
      subst hE9
      exact gt_rz S hr hlocks nb0 dX2_isWaiting_23
    · replace hf := it_t c6 hf
      refine lv_iconst hx hb dX2_isWaiting_18 kc_i1 ?_
      refine lv_goto (tgt := 23) hx hb dX2_isWaiting_19 (by decide) ?_
      have hE9 := Option.some.inj hf
      subst hE9
      exact gt_rz S hr hlocks nb1 dX2_isWaiting_23
set_option maxRecDepth 100000 in
theorem mc_X1_335 {o : Nat} {a0 : Int32} {out : Int32} (S : CallFix p m c cc nL s args lw_all RX1) (hS : SK G E.1 hSites A s) (hB : BI G A s.heap h nx H locs) (ho : isO h o 1 = true) (hf : f_X2_isWaiting E h o a0 = some out) (hsz : ls.size = nL) (hR : (fE + 0) + 1 ≤ R.frames ∧ 8 + (2 + 11) + (lE + 0) ≤ R.locals) (hW : (rest.map fun v => v.category).sum ≤ 8) (hcs : cells ≤ R.cells ∧ slots ≤ R.slots) (hdg : decode cc pc = .ok (.invokevirtual 335, 3))  (kk : (narrow .boolean (.int out) = .int out) → W p l e R s m args below meth c H locs cells slots Q (F0 m (pc + 3) ls (.int out :: rest))) : W p l e R s m args below meth c H locs cells slots Q (F0 m pc ls (.int a0 :: .ref o :: rest)) := by
  have hN := hS.2.1
  obtain ⟨fs, he⟩ := isO_s ho
  exact br_r (va_runV (As := [.int a0]) S (mm_X2_isWaiting (l := l) (G := G) (nx := nx) (fE := fE) (lE := lE) hf) (cwV 1 S.2.2.2.2 (lw_V q1302 q1303 q1304 q178 q1305) rfl rfl rfl hd_X2_isWaiting hR) (bPreV hS hB (ci := 1) rfl he) rfl rfl hsz rfl (lv_room hW) hdg hcs) kk
set_option maxRecDepth 100000 in
theorem mc_X2_183 {o : Nat} {a0 : Int32} {out : Int32} (S : CallFix p m c cc nL s args lw_all RX2) (hS : SK G E.1 hSites A s) (hB : BI G A s.heap h nx H locs) (ho : isO h o 1 = true) (hf : f_X2_isWaiting E h o a0 = some out) (hsz : ls.size = nL) (hR : (fE + 0) + 1 ≤ R.frames ∧ 8 + (2 + 11) + (lE + 0) ≤ R.locals) (hW : (rest.map fun v => v.category).sum ≤ 8) (hcs : cells ≤ R.cells ∧ slots ≤ R.slots) (hdg : decode cc pc = .ok (.invokevirtual 183, 3))  (kk : (narrow .boolean (.int out) = .int out) → W p l e R s m args below meth c H locs cells slots Q (F0 m (pc + 3) ls (.int out :: rest))) : W p l e R s m args below meth c H locs cells slots Q (F0 m pc ls (.int a0 :: .ref o :: rest)) := by
  have hN := hS.2.1
  obtain ⟨fs, he⟩ := isO_s ho
  exact br_r (va_runV (As := [.int a0]) S (mm_X2_isWaiting (l := l) (G := G) (nx := nx) (fE := fE) (lE := lE) hf) (cwV 1 S.2.2.2.2 (lw_V q1427 q1303 q1304 q178 q1305) rfl rfl rfl hd_X2_isWaiting hR) (bPreV hS hB (ci := 1) rfl he) rfl rfl hsz rfl (lv_room hW) hdg hcs) kk
theorem hd_X2_chainOf : yX2_chainOf.cls = RX2 ∧ yX2_chainOf.cls ≠ "java/lang/invoke/MethodHandle" ∧ yX2_chainOf.cls ≠ "java/lang/invoke/VarHandle" ∧ (parseMethodDescriptor yX2_chainOf.desc).map (fun d => d.parameters.length) = some 1 := by decide +kernel
set_option maxHeartbeats 4000000 in
set_option maxRecDepth 100000 in
theorem mm_X2_chainOf {o : Nat} {a0 : Int32} {out : Int32} (hf : f_X2_chainOf E h o a0 = some out) : Met l yX2_chainOf (ws_ yX2_chainOf cX2_chainOf 2 (some .int)) (rM (fE + 3) (lE + 64)) (bPc G E.1 hSites h nx [.ref o, .int a0]) (gR (some (.int out)) True) 0 0 (fun _ => False) := by
  refine bGo (by decide +kernel) (Nat.le_of_ble_eq_true rfl) (fun p e s m below meth c ls S hr hlocks hin hnm hS hB hl => ?_)
  have S : CallFix p m c cX2_chainOf 2 s _ lw_all RX2 := S
  obtain ⟨hx, hb, hml, hown, hts⟩ := id S
  have hl : lv_has ls 2 [(0, .ref o), (1, .int a0)] := hl
  rw [f_X2_chainOf] at hf
  refine lv_aload_n hx hb dX2_chainOf_0 rfl (lv_at hl 0 rfl) ?_
  obtain ⟨v1, hv1, hf⟩ := ob_s hf
  refine bg_X2_67 S hS hB (vR_s hv1) dX2_chainOf_1 ?_
  refine lv_iload_n hx hb dX2_chainOf_4 rfl (lv_at hl 1 rfl) ?_
  obtain ⟨g2, hf⟩ := gd_t hf
  obtain ⟨v3, hv3, hf⟩ := ob_s hf
  refine mc_X2_222 (fE := fE) (lE := lE) S hS hB g2 hv3 hl.1 ⟨(by show _ ≤ (fE + 3); omega), (by show _ ≤ (lE + 64); omega)⟩ (Nat.le_of_ble_eq_true rfl) ⟨Nat.zero_le _, Nat.zero_le _⟩ dX2_chainOf_5 (fun _ => ?_)
  obtain ⟨g4, hf⟩ := gd_t hf
  refine b_castO S hS.1 hB (ci := 7) rfl (hts _ q395) g4 dX2_chainOf_8 ?_
  obtain ⟨v5, hv5, hf⟩ := ob_s hf
  refine bg_X2_312 S hS hB (vI_s hv5) dX2_chainOf_11 ?_
  have hE9 := Option.some.inj hf
  subst hE9
  exact gt_ri S hr hlocks trivial dX2_chainOf_14
set_option maxRecDepth 100000 in
theorem mc_X1_634 {o : Nat} {a0 : Int32} {out : Int32} (S : CallFix p m c cc nL s args lw_all RX1) (hS : SK G E.1 hSites A s) (hB : BI G A s.heap h nx H locs) (ho : isO h o 1 = true) (hf : f_X2_chainOf E h o a0 = some out) (hsz : ls.size = nL) (hR : (fE + 3) + 1 ≤ R.frames ∧ 8 + (2 + 11) + (lE + 64) ≤ R.locals) (hW : (rest.map fun v => v.category).sum ≤ 8) (hcs : cells ≤ R.cells ∧ slots ≤ R.slots) (hdg : decode cc pc = .ok (.invokevirtual 634, 3))  (kk : True → W p l e R s m args below meth c H locs cells slots Q (F0 m (pc + 3) ls (.int out :: rest))) : W p l e R s m args below meth c H locs cells slots Q (F0 m pc ls (.int a0 :: .ref o :: rest)) := by
  have hN := hS.2.1
  obtain ⟨fs, he⟩ := isO_s ho
  exact br_r (va_runV (As := [.int a0]) S (mm_X2_chainOf (l := l) (G := G) (nx := nx) (fE := fE) (lE := lE) hf) (cwV 1 S.2.2.2.2 (lw_V q1338 q1339 q1340 q178 q1341) rfl rfl rfl hd_X2_chainOf hR) (bPreV hS hB (ci := 1) rfl he) rfl rfl hsz rfl (lv_room hW) hdg hcs) kk
theorem hd_X2_rows : yX2_rows.cls = RX2 ∧ yX2_rows.cls ≠ "java/lang/invoke/MethodHandle" ∧ yX2_rows.cls ≠ "java/lang/invoke/VarHandle" ∧ (parseMethodDescriptor yX2_rows.desc).map (fun d => d.parameters.length) = some 0 := by decide +kernel
set_option maxHeartbeats 4000000 in
set_option maxRecDepth 100000 in
theorem mm_X2_rows {o : Nat} {out : Nat × AH × Nat × Nat} (hf : f_X2_rows E h nx o = some out) : Met l yX2_rows (ws_ yX2_rows cX2_rows 1 (some (.array (.array .int)))) (rC (fE + 0) (lE + 0) out.2.2.1 out.2.2.2) (bPc G E.1 hSites h nx [.ref o]) (bQ G (some (.ref out.1)) True out.2.1 (nx + out.2.2.1) (AA h nx)) out.2.2.1 out.2.2.2 (AA h nx) := by
  refine bGo (by decide +kernel) (Nat.le_of_ble_eq_true rfl) (fun p e s m below meth c ls S hr hlocks hin hnm hS hB hl => ?_)
  have S : CallFix p m c cX2_rows 1 s _ lw_all RX2 := S
  obtain ⟨hx, hb, hml, hown, hts⟩ := id S
  have hl : lv_has ls 1 [(0, .ref o)] := hl
  have hT : TL out out 0 0 := TL_0
  rw [f_X2_rows] at hf
  refine lv_bipush hx hb dX2_rows_0 kc_b12 ?_
  obtain ⟨o1, hf, hT⟩ := TL_c hT hf
  refine b_anewM S hS hB (hts _ q1380) kn_12 kna_12 (TL_m hT).1 (TL_m hT).2 dX2_rows_2 (fun H hB => ?_)
  refine lv_dup hx hb dX2_rows_5 rfl ?_
  refine lv_iconst hx hb dX2_rows_6 kc_i0 ?_
  refine lv_aload_n hx hb dX2_rows_7 rfl (lv_at hl 0 rfl) ?_
  obtain ⟨v2, hv2, hf⟩ := ob_s hf
  refine bg_X2_15 S hS hB (vR_s hv2) dX2_rows_8 ?_
  obtain ⟨g3, hf⟩ := gd_t hf
  obtain ⟨h4, hh4, hf⟩ := ob_s hf
  refine b_aast S hS hB 7 rfl g3 hh4 dX2_rows_11 (fun H locs hB => ?_)
  refine lv_dup hx hb dX2_rows_12 rfl ?_
  refine lv_iconst hx hb dX2_rows_13 kc_i1 ?_
  refine lv_aload_n hx hb dX2_rows_14 rfl (lv_at hl 0 rfl) ?_
  obtain ⟨v5, hv5, hf⟩ := ob_s hf
  refine bg_X2_19 S hS hB (vR_s hv5) dX2_rows_15 ?_
  obtain ⟨g6, hf⟩ := gd_t hf
  obtain ⟨h7, hh7, hf⟩ := ob_s hf
  refine b_aast S hS hB 7 rfl g6 hh7 dX2_rows_18 (fun H locs hB => ?_)
  refine lv_dup hx hb dX2_rows_19 rfl ?_
  refine lv_iconst hx hb dX2_rows_20 kc_i2 ?_
  refine lv_aload_n hx hb dX2_rows_21 rfl (lv_at hl 0 rfl) ?_
  obtain ⟨v8, hv8, hf⟩ := ob_s hf
  refine bg_X2_22 S hS hB (vR_s hv8) dX2_rows_22 ?_
  obtain ⟨g9, hf⟩ := gd_t hf
  obtain ⟨h10, hh10, hf⟩ := ob_s hf
  refine b_aast S hS hB 7 rfl g9 hh10 dX2_rows_25 (fun H locs hB => ?_)
  refine lv_dup hx hb dX2_rows_26 rfl ?_
  refine lv_iconst hx hb dX2_rows_27 kc_i3 ?_
  refine lv_aload_n hx hb dX2_rows_28 rfl (lv_at hl 0 rfl) ?_
  obtain ⟨v11, hv11, hf⟩ := ob_s hf
  refine bg_X2_25 S hS hB (vR_s hv11) dX2_rows_29 ?_
  obtain ⟨g12, hf⟩ := gd_t hf
  obtain ⟨h13, hh13, hf⟩ := ob_s hf
  refine b_aast S hS hB 7 rfl g12 hh13 dX2_rows_32 (fun H locs hB => ?_)
  refine lv_dup hx hb dX2_rows_33 rfl ?_
  refine lv_iconst hx hb dX2_rows_34 kc_i4 ?_
  refine lv_aload_n hx hb dX2_rows_35 rfl (lv_at hl 0 rfl) ?_
  obtain ⟨v14, hv14, hf⟩ := ob_s hf
  refine bg_X2_28 S hS hB (vR_s hv14) dX2_rows_36 ?_
  obtain ⟨g15, hf⟩ := gd_t hf
  obtain ⟨h16, hh16, hf⟩ := ob_s hf
  refine b_aast S hS hB 7 rfl g15 hh16 dX2_rows_39 (fun H locs hB => ?_)
  refine lv_dup hx hb dX2_rows_40 rfl ?_
  refine lv_iconst hx hb dX2_rows_41 kc_i5 ?_
  refine lv_aload_n hx hb dX2_rows_42 rfl (lv_at hl 0 rfl) ?_
  obtain ⟨v17, hv17, hf⟩ := ob_s hf
  refine bg_X2_31 S hS hB (vR_s hv17) dX2_rows_43 ?_
  obtain ⟨g18, hf⟩ := gd_t hf
  obtain ⟨h19, hh19, hf⟩ := ob_s hf
  refine b_aast S hS hB 7 rfl g18 hh19 dX2_rows_46 (fun H locs hB => ?_)
  refine lv_dup hx hb dX2_rows_47 rfl ?_
  refine lv_bipush hx hb dX2_rows_48 kc_b6 ?_
  refine lv_aload_n hx hb dX2_rows_50 rfl (lv_at hl 0 rfl) ?_
  obtain ⟨v20, hv20, hf⟩ := ob_s hf
  refine bg_X2_34 S hS hB (vR_s hv20) dX2_rows_51 ?_
  obtain ⟨g21, hf⟩ := gd_t hf
  obtain ⟨h22, hh22, hf⟩ := ob_s hf
  refine b_aast S hS hB 7 rfl g21 hh22 dX2_rows_54 (fun H locs hB => ?_)
  refine lv_dup hx hb dX2_rows_55 rfl ?_
  refine lv_bipush hx hb dX2_rows_56 kc_b7 ?_
  refine lv_aload_n hx hb dX2_rows_58 rfl (lv_at hl 0 rfl) ?_
  obtain ⟨v23, hv23, hf⟩ := ob_s hf
  refine bg_X2_37 S hS hB (vR_s hv23) dX2_rows_59 ?_
  obtain ⟨g24, hf⟩ := gd_t hf
  obtain ⟨h25, hh25, hf⟩ := ob_s hf
  refine b_aast S hS hB 7 rfl g24 hh25 dX2_rows_62 (fun H locs hB => ?_)
  refine lv_dup hx hb dX2_rows_63 rfl ?_
  refine lv_bipush hx hb dX2_rows_64 kc_b8 ?_
  refine lv_aload_n hx hb dX2_rows_66 rfl (lv_at hl 0 rfl) ?_
  obtain ⟨v26, hv26, hf⟩ := ob_s hf
  refine bg_X2_40 S hS hB (vR_s hv26) dX2_rows_67 ?_
  obtain ⟨g27, hf⟩ := gd_t hf
  obtain ⟨h28, hh28, hf⟩ := ob_s hf
  refine b_aast S hS hB 7 rfl g27 hh28 dX2_rows_70 (fun H locs hB => ?_)
  refine lv_dup hx hb dX2_rows_71 rfl ?_
  refine lv_bipush hx hb dX2_rows_72 kc_b9 ?_
  refine lv_aload_n hx hb dX2_rows_74 rfl (lv_at hl 0 rfl) ?_
  obtain ⟨v29, hv29, hf⟩ := ob_s hf
  refine bg_X2_43 S hS hB (vR_s hv29) dX2_rows_75 ?_
  obtain ⟨g30, hf⟩ := gd_t hf
  obtain ⟨h31, hh31, hf⟩ := ob_s hf
  refine b_aast S hS hB 7 rfl g30 hh31 dX2_rows_78 (fun H locs hB => ?_)
  refine lv_dup hx hb dX2_rows_79 rfl ?_
  refine lv_bipush hx hb dX2_rows_80 kc_b10 ?_
  refine lv_aload_n hx hb dX2_rows_82 rfl (lv_at hl 0 rfl) ?_
  obtain ⟨v32, hv32, hf⟩ := ob_s hf
  refine bg_X2_46 S hS hB (vR_s hv32) dX2_rows_83 ?_
  obtain ⟨g33, hf⟩ := gd_t hf
  obtain ⟨h34, hh34, hf⟩ := ob_s hf
  refine b_aast S hS hB 7 rfl g33 hh34 dX2_rows_86 (fun H locs hB => ?_)
  refine lv_dup hx hb dX2_rows_87 rfl ?_
  refine lv_bipush hx hb dX2_rows_88 kc_b11 ?_
  refine lv_aload_n hx hb dX2_rows_90 rfl (lv_at hl 0 rfl) ?_
  obtain ⟨v35, hv35, hf⟩ := ob_s hf
  refine bg_X2_49 S hS hB (vR_s hv35) dX2_rows_91 ?_
  obtain ⟨g36, hf⟩ := gd_t hf
  obtain ⟨h37, hh37, hf⟩ := ob_s hf
  refine b_aast S hS hB 7 rfl g36 hh37 dX2_rows_94 (fun H locs hB => ?_)
  have hE9 := TL_e hT hf
  subst hE9
  exact bt_a S hr (Or.inr ⟨_, rfl⟩) hlocks hB (by omega) trivial dX2_rows_95
set_option maxRecDepth 100000 in
theorem mc_X2_127 {o : Nat} {out : Nat × AH × Nat × Nat} (S : CallFix p m c cc nL s args lw_all RX2) (hS : SK G E.1 hSites A s) (hB : BI G A s.heap h nx H locs) (ho : isO h o 1 = true) (hf : f_X2_rows E h nx o = some out) (hsz : ls.size = nL) (hR : (fE + 0) + 1 ≤ R.frames ∧ 8 + (1 + 11) + (lE + 0) ≤ R.locals) (hW : (rest.map fun v => v.category).sum ≤ 8) (hcs : cells + out.2.2.1 ≤ R.cells ∧ slots + out.2.2.2 ≤ R.slots) (hdg : decode cc pc = .ok (.invokevirtual 127, 3))  (kk : ∀ (H1 : Heap) (locs1 : List Loc), True → BI G A s.heap out.2.1 (nx + out.2.2.1) H1 locs1 → W p l e R s m args below meth c H1 locs1 (cells + out.2.2.1) (slots + out.2.2.2) Q (F0 m (pc + 3) ls (.ref out.1 :: rest))) : W p l e R s m args below meth c H locs cells slots Q (F0 m pc ls (.ref o :: rest)) := by
  have hN := hS.2.1
  obtain ⟨fs, he⟩ := isO_s ho
  exact br_w (va_runV (As := []) S (mm_X2_rows (l := l) (G := G) (fE := fE) (lE := lE) hf) (cwV 0 S.2.2.2.2 (lw_V q1376 q1378 qs51 q178 q1379) rfl rfl rfl hd_X2_rows hR) (bPreV hS hB (ci := 1) rfl he) rfl rfl hsz rfl (lv_room hW) hdg hcs) hB kk
theorem hd_X2_become : yX2_become.cls = RX2 ∧ yX2_become.cls ≠ "java/lang/invoke/MethodHandle" ∧ yX2_become.cls ≠ "java/lang/invoke/VarHandle" ∧ (parseMethodDescriptor yX2_become.desc).map (fun d => d.parameters.length) = some 1 := by decide +kernel
set_option maxHeartbeats 4000000 in
set_option maxRecDepth 100000 in
theorem mm_X2_become {o : Nat} {a0 : Nat} {out : Unit × AH × Nat × Nat} (hf : f_X2_become E h nx o a0 = some out) : Met l yX2_become (ws_ yX2_become cX2_become 5 none) (rC (fE + 5) (lE + 212) out.2.2.1 out.2.2.2) (bPc G E.1 hSites h nx [.ref o, .ref a0]) (bQ G none True out.2.1 (nx + out.2.2.1) (AA h nx)) out.2.2.1 out.2.2.2 (AA h nx) := by
  refine bGo (by decide +kernel) (Nat.le_of_ble_eq_true rfl) (fun p e s m below meth c ls S hr hlocks hin hnm hS hB hl => ?_)
  have S : CallFix p m c cX2_become 5 s _ lw_all RX2 := S
  obtain ⟨hx, hb, hml, hown, hts⟩ := id S
  have hl : lv_has ls 5 [(0, .ref o), (1, .ref a0)] := hl
  have w13 : ∀ (n : Nat) , ∀ (x0 : Nat) (x1 : Nat) (x2 : Nat) (x3 : Nat) (x4 : Int32) (hc : AH) (nc : Nat) (ls : Array Slot) (H : Heap) (locs : List Loc) (ce sl : Nat) (o1 : Unit × AH × Nat × Nat), BI G (AA h nx) s.heap hc nc H locs → nc = nx + ce → TL out o1 ce sl → lv_has ls 5 [(0, .ref x0), (1, .ref x1), (2, .ref x2), (3, .ref x3), (4, .int x4)] → f_X2_become_13 n E x0 x1 x2 x3 x4 hc nc = some o1 → W p l e (rC (fE + 5) (lE + 212) out.2.2.1 out.2.2.2) s m ([.ref o, .ref a0] : List Value).toArray below meth c H locs ce sl (MQ below (bQ G none True out.2.1 (nx + out.2.2.1) (AA h nx)) ([.ref o, .ref a0] : List Value).toArray s out.2.2.1 out.2.2.2 (AA h nx)) (F0 m 13 ls []) := by
    intro n
    induction n with
    | zero =>
      intro x0 x1 x2 x3 x4 hc nc ls H locs ce sl o1 hB hn hT hl hf
      exact absurd hf (by rw [f_X2_become_13]; exact nofun)
    | succ n ih =>
      intro x0 x1 x2 x3 x4 hc nc ls H locs ce sl o1 hB hn hT hl hf
      rw [f_X2_become_13] at hf
      refine lv_iload hx hb dX2_become_13 (lv_at hl 4 rfl) ?_
      refine lv_aload_n hx hb dX2_become_15 rfl (lv_at hl 2 rfl) ?_
      obtain ⟨v1, hv1, hf⟩ := ob_s hf
      refine b_alen S hS.1 hB hv1 dX2_become_16 ?_
      refine lv_icmp_ge (tgt := 44) hx hb dX2_become_17 (by decide) (fun c2 => ?_) (fun c2 => ?_)
      · replace hf := it_t c2 hf
        refine lv_aload_n hx hb dX2_become_44 rfl (lv_at hl 1 rfl) ?_
        obtain ⟨v3, hv3, hf⟩ := ob_s hf
        refine bg_X2_56 S hS hB (vR_s hv3) dX2_become_45 ?_
        refine lv_iconst hx hb dX2_become_48 kc_i0 ?_
        refine lv_aload_n hx hb dX2_become_49 rfl (lv_at hl 0 rfl) ?_
        obtain ⟨v4, hv4, hf⟩ := ob_s hf
        refine bg_X2_56 S hS hB (vR_s hv4) dX2_become_50 ?_
        refine lv_iconst hx hb dX2_become_53 kc_i0 ?_
        refine lv_bipush hx hb dX2_become_54 kc_b8 ?_
        obtain ⟨h5, hh5, hf⟩ := ob_s hf
        refine b_copyI S hS.1 hB (by rw [hml]; exact hl.1.symm) (hts _ q255) (hts _ q257) (hts _ q256) (hts _ q179) 3 rfl rfl hh5 (by show _ ≤ (fE + 5); omega) (by show _ ≤ (lE + 212); simp only [List.map, List.sum_cons, List.sum_nil, Value.category]; exact Nat.le_trans (Nat.le_of_ble_eq_true rfl : _ ≤ 120) (by omega)) dX2_become_56 (fun H locs hB => ?_)
        refine lv_aload_n hx hb dX2_become_59 rfl (lv_at hl 1 rfl) ?_
        obtain ⟨v6, hv6, hf⟩ := ob_s hf
        refine bg_X2_59 S hS hB (vR_s hv6) dX2_become_60 ?_
        refine lv_iconst hx hb dX2_become_63 kc_i0 ?_
        refine lv_aload_n hx hb dX2_become_64 rfl (lv_at hl 0 rfl) ?_
        obtain ⟨v7, hv7, hf⟩ := ob_s hf
        refine bg_X2_59 S hS hB (vR_s hv7) dX2_become_65 ?_
        refine lv_iconst hx hb dX2_become_68 kc_i0 ?_
        refine lv_bipush hx hb dX2_become_69 kc_b8 ?_
        obtain ⟨h8, hh8, hf⟩ := ob_s hf
        refine b_copyI S hS.1 hB (by rw [hml]; exact hl.1.symm) (hts _ q255) (hts _ q257) (hts _ q256) (hts _ q179) 3 rfl rfl hh8 (by show _ ≤ (fE + 5); omega) (by show _ ≤ (lE + 212); simp only [List.map, List.sum_cons, List.sum_nil, Value.category]; exact Nat.le_trans (Nat.le_of_ble_eq_true rfl : _ ≤ 120) (by omega)) dX2_become_71 (fun H locs hB => ?_)
        refine lv_aload_n hx hb dX2_become_74 rfl (lv_at hl 1 rfl) ?_
        obtain ⟨v9, hv9, hf⟩ := ob_s hf
        refine bg_X2_52 S hS hB (vR_s hv9) dX2_become_75 ?_
        refine lv_iconst hx hb dX2_become_78 kc_i0 ?_
        refine lv_aload_n hx hb dX2_become_79 rfl (lv_at hl 0 rfl) ?_
        obtain ⟨v10, hv10, hf⟩ := ob_s hf
        refine bg_X2_52 S hS hB (vR_s hv10) dX2_become_80 ?_
        refine lv_iconst hx hb dX2_become_83 kc_i0 ?_
        refine lv_bipush hx hb dX2_become_84 kc_b10 ?_
        obtain ⟨h11, hh11, hf⟩ := ob_s hf
        refine b_copyI S hS.1 hB (by rw [hml]; exact hl.1.symm) (hts _ q255) (hts _ q257) (hts _ q256) (hts _ q179) 3 rfl rfl hh11 (by show _ ≤ (fE + 5); omega) (by show _ ≤ (lE + 212); simp only [List.map, List.sum_cons, List.sum_nil, Value.category]; exact Nat.le_trans (Nat.le_of_ble_eq_true rfl : _ ≤ 120) (by omega)) dX2_become_86 (fun H locs hB => ?_)
        refine lv_aload_n hx hb dX2_become_89 rfl (lv_at hl 0 rfl) ?_
        obtain ⟨v12, hv12, hf⟩ := ob_s hf
        refine bg_X2_67 S hS hB (vR_s hv12) dX2_become_90 ?_
        obtain ⟨g13, hf⟩ := gd_t hf
        obtain ⟨v14, hv14, hf⟩ := ob_s hf
        obtain ⟨o15, hf, hT⟩ := TL_c hT hf
        refine mc_X2_131 (fE := fE) (lE := lE) S hS hB g13 hv14 hl.1 ⟨(by show _ ≤ (fE + 5); omega), (by show _ ≤ (lE + 212); omega)⟩ (Nat.le_of_ble_eq_true rfl) ⟨(TL_m hT).1, (TL_m hT).2⟩ dX2_become_93 (fun H locs _ hB => ?_)
        refine lv_aload_n hx hb dX2_become_96 rfl (lv_at hl 0 rfl) ?_
        obtain ⟨v16, hv16, hf⟩ := ob_s hf
        refine bg_X2_67 S hS hB (vR_s hv16) dX2_become_97 ?_
        refine lv_aload_n hx hb dX2_become_100 rfl (lv_at hl 1 rfl) ?_
        obtain ⟨v17, hv17, hf⟩ := ob_s hf
        refine bg_X2_67 S hS hB (vR_s hv17) dX2_become_101 ?_
        obtain ⟨g18, hf⟩ := gd_t hf
        obtain ⟨v19, hv19, hf⟩ := ob_s hf
        obtain ⟨o20, hf, hT⟩ := TL_c hT hf
        refine mc_X2_134 (fE := fE) (lE := lE) S hS hB g18 hv19 hl.1 ⟨(by show _ ≤ (fE + 5); omega), (by show _ ≤ (lE + 212); omega)⟩ (Nat.le_of_ble_eq_true rfl) ⟨(TL_m hT).1, (TL_m hT).2⟩ dX2_become_104 (fun H locs hnv19 hB => ?_)
        refine lv_pop hx hb dX2_become_107 rfl ?_
        refine lv_aload_n hx hb dX2_become_108 rfl (lv_at hl 0 rfl) ?_
        obtain ⟨v21, hv21, hf⟩ := ob_s hf
        refine bg_X2_71 S hS hB (vR_s hv21) dX2_become_109 ?_
        obtain ⟨g22, hf⟩ := gd_t hf
        obtain ⟨v23, hv23, hf⟩ := ob_s hf
        obtain ⟨o24, hf, hT⟩ := TL_c hT hf
        refine mc_X2_131 (fE := fE) (lE := lE) S hS hB g22 hv23 hl.1 ⟨(by show _ ≤ (fE + 5); omega), (by show _ ≤ (lE + 212); omega)⟩ (Nat.le_of_ble_eq_true rfl) ⟨(TL_m hT).1, (TL_m hT).2⟩ dX2_become_112 (fun H locs _ hB => ?_)
        refine lv_aload_n hx hb dX2_become_115 rfl (lv_at hl 0 rfl) ?_
        obtain ⟨v25, hv25, hf⟩ := ob_s hf
        refine bg_X2_71 S hS hB (vR_s hv25) dX2_become_116 ?_
        refine lv_aload_n hx hb dX2_become_119 rfl (lv_at hl 1 rfl) ?_
        obtain ⟨v26, hv26, hf⟩ := ob_s hf
        refine bg_X2_71 S hS hB (vR_s hv26) dX2_become_120 ?_
        obtain ⟨g27, hf⟩ := gd_t hf
        obtain ⟨v28, hv28, hf⟩ := ob_s hf
        obtain ⟨o29, hf, hT⟩ := TL_c hT hf
        refine mc_X2_134 (fE := fE) (lE := lE) S hS hB g27 hv28 hl.1 ⟨(by show _ ≤ (fE + 5); omega), (by show _ ≤ (lE + 212); omega)⟩ (Nat.le_of_ble_eq_true rfl) ⟨(TL_m hT).1, (TL_m hT).2⟩ dX2_become_123 (fun H locs hnv28 hB => ?_)
        refine lv_pop hx hb dX2_become_126 rfl ?_
        refine lv_aload_n hx hb dX2_become_127 rfl (lv_at hl 0 rfl) ?_
        refine lv_aload_n hx hb dX2_become_128 rfl (lv_at hl 1 rfl) ?_
        obtain ⟨v30, hv30, hf⟩ := ob_s hf
        refine bg_X2_138 S hS hB (vI_s hv30) dX2_become_129 ?_
        obtain ⟨h31, hh31, hf⟩ := ob_s hf
        refine bp_X2_138 S hS hB hh31 dX2_become_132 (fun H locs hB => ?_)
        refine lv_aload_n hx hb dX2_become_135 rfl (lv_at hl 0 rfl) ?_
        refine lv_aload_n hx hb dX2_become_136 rfl (lv_at hl 1 rfl) ?_
        obtain ⟨v32, hv32, hf⟩ := ob_s hf
        refine bg_X2_142 S hS hB (vI_s hv32) dX2_become_137 ?_
        obtain ⟨h33, hh33, hf⟩ := ob_s hf
        refine bp_X2_142 S hS hB hh33 dX2_become_140 (fun H locs hB => ?_)
        have hE9 := TL_e hT hf
        subst hE9
        exact bt_v S hr hlocks hB (by omega) trivial dX2_become_143
      · replace hf := it_f c2 hf
        refine lv_aload_n hx hb dX2_become_20 rfl (lv_at hl 3 rfl) ?_
        refine lv_iload hx hb dX2_become_21 (lv_at hl 4 rfl) ?_
        obtain ⟨v34, hv34, hf⟩ := ob_s hf
        refine b_aald S hS.1 hB 7 rfl rfl hv34 dX2_become_23 ?_
        refine lv_iconst hx hb dX2_become_24 kc_i0 ?_
        refine lv_aload_n hx hb dX2_become_25 rfl (lv_at hl 2 rfl) ?_
        refine lv_iload hx hb dX2_become_26 (lv_at hl 4 rfl) ?_
        obtain ⟨v35, hv35, hf⟩ := ob_s hf
        refine b_aald S hS.1 hB 7 rfl rfl hv35 dX2_become_28 ?_
        refine lv_iconst hx hb dX2_become_29 kc_i0 ?_
        refine lv_aload_n hx hb dX2_become_30 rfl (lv_at hl 2 rfl) ?_
        refine lv_iload hx hb dX2_become_31 (lv_at hl 4 rfl) ?_
        obtain ⟨v36, hv36, hf⟩ := ob_s hf
        refine b_aald S hS.1 hB 7 rfl rfl hv36 dX2_become_33 ?_
        obtain ⟨v37, hv37, hf⟩ := ob_s hf
        refine b_alen S hS.1 hB hv37 dX2_become_34 ?_
        obtain ⟨h38, hh38, hf⟩ := ob_s hf
        refine b_copyI S hS.1 hB (by rw [hml]; exact hl.1.symm) (hts _ q255) (hts _ q257) (hts _ q256) (hts _ q179) 0 rfl rfl hh38 (by show _ ≤ (fE + 5); omega) (by show _ ≤ (lE + 212); simp only [List.map, List.sum_cons, List.sum_nil, Value.category]; exact Nat.le_trans (Nat.le_of_ble_eq_true rfl : _ ≤ 120) (by omega)) dX2_become_35 (fun H locs hB => ?_)
        refine lv_iinc (v := (x4 + 1)) (lv' := [(4, .int (x4 + 1)), (0, .ref x0), (1, .ref x1), (2, .ref x2), (3, .ref x3)]) hx hb dX2_become_38 hl (k := 4) rfl rfl (by decide) rfl (fun ls hl => ?_)
        refine lv_goto (tgt := 13) hx hb dX2_become_41 (by decide) ?_
        exact (ih) x0 x1 x2 x3 (x4 + 1) h38 nc ls H locs ce sl o1 hB (by omega) hT (lv_sub (l' := [(0, .ref x0), (1, .ref x1), (2, .ref x2), (3, .ref x3), (4, .int (x4 + 1))]) hl [1, 2, 3, 4, 0] rfl) hf
  have hT : TL out out 0 0 := TL_0
  rw [f_X2_become] at hf
  refine lv_aload_n hx hb dX2_become_0 rfl (lv_at hl 0 rfl) ?_
  obtain ⟨g1, hf⟩ := gd_t hf
  obtain ⟨v2, hv2, hf⟩ := ob_s hf
  obtain ⟨o3, hf, hT⟩ := TL_c hT hf
  refine mc_X2_127 (fE := fE) (lE := lE) S hS hB g1 hv2 hl.1 ⟨(by show _ ≤ (fE + 5); omega), (by show _ ≤ (lE + 212); omega)⟩ (Nat.le_of_ble_eq_true rfl) ⟨(TL_m hT).1, (TL_m hT).2⟩ dX2_become_1 (fun H locs _ hB => ?_)
  refine lv_astore_n (i := 2) (lv' := [(2, .ref v2.1), (0, .ref o), (1, .ref a0)]) hx hb dX2_become_4 rfl hl (by decide) rfl (fun ls hl => ?_)
  refine lv_aload_n hx hb dX2_become_5 rfl (lv_at hl 2 rfl) ?_
  obtain ⟨g4, hf⟩ := gd_t hf
  obtain ⟨v5, hv5, hf⟩ := ob_s hf
  obtain ⟨o6, hf, hT⟩ := TL_c hT hf
  refine mc_X2_127 (fE := fE) (lE := lE) S hS hB g4 hv5 hl.1 ⟨(by show _ ≤ (fE + 5); omega), (by show _ ≤ (lE + 212); omega)⟩ (Nat.le_of_ble_eq_true rfl) ⟨(TL_m hT).1, (TL_m hT).2⟩ dX2_become_6 (fun H locs _ hB => ?_)
  refine lv_astore_n (i := 3) (lv' := [(3, .ref v5.1), (2, .ref v2.1), (0, .ref o), (1, .ref a0)]) hx hb dX2_become_9 rfl hl (by decide) rfl (fun ls hl => ?_)
  refine lv_iconst hx hb dX2_become_10 kc_i0 ?_
  refine lv_istore (lv' := [(4, .int 0), (3, .ref v5.1), (2, .ref v2.1), (0, .ref o), (1, .ref a0)]) hx hb dX2_become_11 hl (by decide) rfl (fun ls hl => ?_)
  exact (w13 FU) o a0 v2.1 v5.1 0 v5.2.1 ((nx + v2.2.2.1) + v5.2.2.1) ls H locs ((0 + v2.2.2.1) + v5.2.2.1) ((0 + v2.2.2.2) + v5.2.2.2) o6 hB (by omega) hT (lv_sub (l' := [(0, .ref o), (1, .ref a0), (2, .ref v2.1), (3, .ref v5.1), (4, .int 0)]) hl [3, 4, 2, 1, 0] rfl) hf
set_option maxRecDepth 100000 in
theorem mc_X1_396 {o : Nat} {a0 : Nat} {out : Unit × AH × Nat × Nat} (S : CallFix p m c cc nL s args lw_all RX1) (hS : SK G E.1 hSites A s) (hB : BI G A s.heap h nx H locs) (ho : isO h o 1 = true) (hf : f_X2_become E h nx o a0 = some out) (hsz : ls.size = nL) (hR : (fE + 5) + 1 ≤ R.frames ∧ 8 + (5 + 11) + (lE + 212) ≤ R.locals) (hW : (rest.map fun v => v.category).sum ≤ 8) (hcs : cells + out.2.2.1 ≤ R.cells ∧ slots + out.2.2.2 ≤ R.slots) (hdg : decode cc pc = .ok (.invokevirtual 396, 3))  (kk : ∀ (H1 : Heap) (locs1 : List Loc), True → BI G A s.heap out.2.1 (nx + out.2.2.1) H1 locs1 → W p l e R s m args below meth c H1 locs1 (cells + out.2.2.1) (slots + out.2.2.2) Q (F0 m (pc + 3) ls (rest))) : W p l e R s m args below meth c H locs cells slots Q (F0 m pc ls (.ref a0 :: .ref o :: rest)) := by
  have hN := hS.2.1
  obtain ⟨fs, he⟩ := isO_s ho
  exact br_v (va_runV (As := [.ref a0]) S (mm_X2_become (l := l) (G := G) (fE := fE) (lE := lE) hf) (cwV 1 S.2.2.2.2 (lw_V q1372 q1373 q1374 q178 q1375) rfl rfl rfl hd_X2_become hR) (bPreV hS hB (ci := 1) rfl he) rfl rfl hsz rfl (lv_room hW) hdg hcs) hB kk
theorem hd_X2_bidsTogether : yX2_bidsTogether.cls = RX2 ∧ yX2_bidsTogether.cls ≠ "java/lang/invoke/MethodHandle" ∧ yX2_bidsTogether.cls ≠ "java/lang/invoke/VarHandle" ∧ (parseMethodDescriptor yX2_bidsTogether.desc).map (fun d => d.parameters.length) = some 0 := by decide +kernel
set_option maxHeartbeats 4000000 in
set_option maxRecDepth 100000 in
theorem mm_X2_bidsTogether {o : Nat} {out : Int32} (hf : f_X2_bidsTogether E h o = some out) : Met l yX2_bidsTogether (ws_ yX2_bidsTogether cX2_bidsTogether 3 (some .int)) (rM (fE + 2) (lE + 41)) (bPc G E.1 hSites h nx [.ref o]) (gR (some (.int out)) True) 0 0 (fun _ => False) := by
  refine bGo (by decide +kernel) (Nat.le_of_ble_eq_true rfl) (fun p e s m below meth c ls S hr hlocks hin hnm hS hB hl => ?_)
  have S : CallFix p m c cX2_bidsTogether 3 s _ lw_all RX2 := S
  obtain ⟨hx, hb, hml, hown, hts⟩ := id S
  have hl : lv_has ls 3 [(0, .ref o)] := hl
  have w4 : ∀ (n : Nat) , ∀ (x0 : Nat) (x1 : Int32) (x2 : Int32) (ls : Array Slot), lv_has ls 3 [(0, .ref x0), (1, .int x1), (2, .int x2)] → f_X2_bidsTogether_4 n E h x0 x1 x2 = some out → W p l e (rM (fE + 2) (lE + 41)) s m ([.ref o] : List Value).toArray below meth c s.heap [] 0 0 (MQ below (gR (some (.int out)) True) ([.ref o] : List Value).toArray s 0 0 (fun _ => False)) (F0 m 4 ls []) := by
    intro n
    induction n with
    | zero =>
      intro x0 x1 x2 ls hl hf
      exact absurd hf (by rw [f_X2_bidsTogether_4]; exact nofun)
    | succ n ih =>
      intro x0 x1 x2 ls hl hf
      rw [f_X2_bidsTogether_4] at hf
      refine lv_iload_n hx hb dX2_bidsTogether_4 rfl (lv_at hl 2 rfl) ?_
      refine lv_aload_n hx hb dX2_bidsTogether_5 rfl (lv_at hl 0 rfl) ?_
      obtain ⟨v1, hv1, hf⟩ := ob_s hf
      refine bg_X2_3 S hS hB (vR_s hv1) dX2_bidsTogether_6 ?_
      obtain ⟨v2, hv2, hf⟩ := ob_s hf
      refine bg_X2_146 S hS hB (vR_s hv2) dX2_bidsTogether_9 ?_
      obtain ⟨g3, hf⟩ := gd_t hf
      obtain ⟨v4, hv4, hf⟩ := ob_s hf
      refine mc_X2_149 (fE := fE) (lE := lE) S hS hB g3 hv4 hl.1 ⟨(by show _ ≤ (fE + 2); omega), (by show _ ≤ (lE + 41); omega)⟩ (Nat.le_of_ble_eq_true rfl) ⟨Nat.zero_le _, Nat.zero_le _⟩ dX2_bidsTogether_12 (fun _ => ?_)
      refine lv_icmp_ge (tgt := 32) hx hb dX2_bidsTogether_15 (by decide) (fun c5 => ?_) (fun c5 => ?_)
      · replace hf := it_t c5 hf
        refine lv_iload_n hx hb dX2_bidsTogether_32 rfl (lv_at hl 1 rfl) ?_
        have hE9 := Option.some.inj hf
        subst hE9
        exact gt_ri S hr hlocks trivial dX2_bidsTogether_33
      · replace hf := it_f c5 hf
        refine lv_iload_n hx hb dX2_bidsTogether_18 rfl (lv_at hl 1 rfl) ?_
        refine lv_aload_n hx hb dX2_bidsTogether_19 rfl (lv_at hl 0 rfl) ?_
        refine lv_iload_n hx hb dX2_bidsTogether_20 rfl (lv_at hl 2 rfl) ?_
        obtain ⟨g6, hf⟩ := gd_t hf
        obtain ⟨v7, hv7, hf⟩ := ob_s hf
        refine mc_X2_299 (fE := fE) (lE := lE) S hS hB g6 hv7 hl.1 ⟨(by show _ ≤ (fE + 2); omega), (by show _ ≤ (lE + 41); omega)⟩ (Nat.le_of_ble_eq_true rfl) ⟨Nat.zero_le _, Nat.zero_le _⟩ dX2_bidsTogether_21 (fun _ => ?_)
        refine lv_iadd hx hb dX2_bidsTogether_24 ?_
        refine lv_istore_n (i := 1) (lv' := [(1, .int (x1 + v7)), (0, .ref x0), (2, .int x2)]) hx hb dX2_bidsTogether_25 rfl hl (by decide) rfl (fun ls hl => ?_)
        refine lv_iinc (v := (x2 + 1)) (lv' := [(2, .int (x2 + 1)), (1, .int (x1 + v7)), (0, .ref x0)]) hx hb dX2_bidsTogether_26 hl (k := 2) rfl rfl (by decide) rfl (fun ls hl => ?_)
        refine lv_goto (tgt := 4) hx hb dX2_bidsTogether_29 (by decide) ?_
        exact (ih) x0 (x1 + v7) (x2 + 1) ls (lv_sub (l' := [(0, .ref x0), (1, .int (x1 + v7)), (2, .int (x2 + 1))]) hl [2, 1, 0] rfl) hf
  rw [f_X2_bidsTogether] at hf
  refine lv_iconst hx hb dX2_bidsTogether_0 kc_i0 ?_
  refine lv_istore_n (i := 1) (lv' := [(1, .int 0), (0, .ref o)]) hx hb dX2_bidsTogether_1 rfl hl (by decide) rfl (fun ls hl => ?_)
  refine lv_iconst hx hb dX2_bidsTogether_2 kc_i0 ?_
  refine lv_istore_n (i := 2) (lv' := [(2, .int 0), (1, .int 0), (0, .ref o)]) hx hb dX2_bidsTogether_3 rfl hl (by decide) rfl (fun ls hl => ?_)
  exact (w4 FU) o 0 0 ls (lv_sub (l' := [(0, .ref o), (1, .int 0), (2, .int 0)]) hl [2, 1, 0] rfl) hf
set_option maxRecDepth 100000 in
theorem mc_X2_286 {o : Nat} {out : Int32} (S : CallFix p m c cc nL s args lw_all RX2) (hS : SK G E.1 hSites A s) (hB : BI G A s.heap h nx H locs) (ho : isO h o 1 = true) (hf : f_X2_bidsTogether E h o = some out) (hsz : ls.size = nL) (hR : (fE + 2) + 1 ≤ R.frames ∧ 8 + (3 + 11) + (lE + 41) ≤ R.locals) (hW : (rest.map fun v => v.category).sum ≤ 8) (hcs : cells ≤ R.cells ∧ slots ≤ R.slots) (hdg : decode cc pc = .ok (.invokevirtual 286, 3))  (kk : True → W p l e R s m args below meth c H locs cells slots Q (F0 m (pc + 3) ls (.int out :: rest))) : W p l e R s m args below meth c H locs cells slots Q (F0 m pc ls (.ref o :: rest)) := by
  have hN := hS.2.1
  obtain ⟨fs, he⟩ := isO_s ho
  exact br_r (va_runV (As := []) S (mm_X2_bidsTogether (l := l) (G := G) (nx := nx) (fE := fE) (lE := lE) hf) (cwV 0 S.2.2.2.2 (lw_V q1406 q1408 qs52 q178 q1409) rfl rfl rfl hd_X2_bidsTogether hR) (bPreV hS hB (ci := 1) rfl he) rfl rfl hsz rfl (lv_room hW) hdg hcs) kk
end
