section
variable {l : Launch} {D : va_G} {cl : List vw_C} {tys : List (ClassId × FieldType)} {G : hG} {E : bE} {fE lE : Nat} {h : AH} {nx : Nat} {A : Nat → Prop}
variable {p : Program} {e : Env} {R : Room} {s : State} {m : MethodId} {args : Array Value} {below : List Frame} {meth : Method} {c : Code} {H H0 : Heap} {locs : List Loc} {cells slots : Nat} {Q : State → Prop} {cc : ByteArray} {nL pc : Nat} {ls : Array Slot} {rest : List Value}
theorem hd_J0_init : yJ0_init.cls ≠ "java/lang/invoke/MethodHandle" ∧ yJ0_init.cls ≠ "java/lang/invoke/VarHandle" ∧ (parseMethodDescriptor yJ0_init.desc).map (fun d => d.parameters.length) = some 0 := by decide +kernel
set_option maxHeartbeats 4000000 in
set_option maxRecDepth 100000 in
theorem mm_J0_init {o : Nat} {out : Unit} (hf : f_J0_init E h o = some out) : Met l yJ0_init (ws_ yJ0_init cJ0_init 1 none) (rM (fE + 1) (lE + 40)) (bPc G E.1 hSites h nx [.ref o]) (gR none True) 0 0 (fun _ => False) := by
  refine bGo (by decide +kernel) (Nat.le_of_ble_eq_true rfl) (fun p e s m below meth c ls S hr hlocks hin hnm hS hB hl => ?_)
  have S : CallFix p m c cJ0_init 1 s _ lw_all RJ0 := S
  obtain ⟨hx, hb, hml, hown, hts⟩ := id S
  have hl : lv_has ls 1 [(0, .ref o)] := hl
  rw [f_J0_init] at hf
  refine lv_aload_n hx hb dJ0_init_0 rfl (lv_at hl 0 rfl) ?_
  refine W.objInit hx hb hown (hts _ q225) (hts _ q212) (hts _ q213) rfl (by rw [hml]; exact hl.1) rfl dJ0_init_1 (by show _ ≤ (fE + 1); omega) (by show _ ≤ (lE + 40); simp only [F0, JFrame.monitorRoom, List.map, List.sum_cons, List.sum_nil, Value.category]; omega) ?_
  refine W.eq (g2 := F0 m 4 ls []) rfl ?_
  have hE9 := Option.some.inj hf
  subst hE9
  exact gt_rv S hr hlocks trivial dJ0_init_4
set_option maxRecDepth 100000 in
theorem mc_J1_1 {o : Nat} {out : Unit} (S : CallFix p m c cc nL s args lw_all RJ1) (hS : SK G E.1 hSites A s) (hB : BI G A s.heap h nx H locs) (hf : f_J0_init E h o = some out) (hsz : ls.size = nL) (hR : (fE + 1) + 1 ≤ R.frames ∧ 8 + (1 + 11) + (lE + 40) ≤ R.locals) (hW : (rest.map fun v => v.category).sum ≤ 8) (hcs : cells ≤ R.cells ∧ slots ≤ R.slots) (hdg : decode cc pc = .ok (.invokespecial 1, 3))  (kk : True → W p l e R s m args below meth c H locs cells slots Q (F0 m (pc + 3) ls (rest))) : W p l e R s m args below meth c H locs cells slots Q (F0 m pc ls (.ref o :: rest)) := by
  have hN := hS.2.1
  exact br_rv (va_runI (As := []) S (mm_J0_init (l := l) (G := G) (nx := nx) (fE := fE) (lE := lE) hf) (⟨callB_of 0 S.2.2.2.2 (lw_meth q224) rfl rfl rfl (S.2.2.2.2 _ q175) (S.2.2.2.2 _ q222) hd_J0_init hR, rfl, S.2.2.2.2 _ q223⟩) (bPreS hS hB) rfl rfl hsz rfl (lv_room hW) hdg hcs) kk
theorem hd_J1_init : yJ1_init.cls ≠ "java/lang/invoke/MethodHandle" ∧ yJ1_init.cls ≠ "java/lang/invoke/VarHandle" ∧ (parseMethodDescriptor yJ1_init.desc).map (fun d => d.parameters.length) = some 0 := by decide +kernel
set_option maxHeartbeats 4000000 in
set_option maxRecDepth 100000 in
theorem mm_J1_init {o : Nat} {out : Unit × AH × Nat × Nat} (hf : f_J1_init E h nx o = some out) : Met l yJ1_init (ws_ yJ1_init cJ1_init 1 none) (rC (fE + 2) (lE + 60) out.2.2.1 out.2.2.2) (bPc G E.1 hSites h nx [.ref o]) (bQ G none True out.2.1 (nx + out.2.2.1) (AA h nx)) out.2.2.1 out.2.2.2 (AA h nx) := by
  refine bGo (by decide +kernel) (Nat.le_of_ble_eq_true rfl) (fun p e s m below meth c ls S hr hlocks hin hnm hS hB hl => ?_)
  have S : CallFix p m c cJ1_init 1 s _ lw_all RJ1 := S
  obtain ⟨hx, hb, hml, hown, hts⟩ := id S
  have hl : lv_has ls 1 [(0, .ref o)] := hl
  have hT : TL out out 0 0 := TL_0
  rw [f_J1_init] at hf
  refine lv_aload_n hx hb dJ1_init_0 rfl (lv_at hl 0 rfl) ?_
  obtain ⟨v1, hv1, hf⟩ := ob_s hf
  refine mc_J1_1 (fE := fE) (lE := lE) S hS hB hv1 hl.1 ⟨(by show _ ≤ (fE + 2); omega), (by show _ ≤ (lE + 60); omega)⟩ (Nat.le_of_ble_eq_true rfl) ⟨(TL_m hT).1, (TL_m hT).2⟩ dJ1_init_1 (fun _ => ?_)
  refine lv_aload_n hx hb dJ1_init_4 rfl (lv_at hl 0 rfl) ?_
  refine lv_iconst hx hb dJ1_init_5 kc_i0 ?_
  obtain ⟨h2, hh2, hf⟩ := ob_s hf
  refine bp_J1_7 S hS hB hh2 dJ1_init_6 (fun H locs hB => ?_)
  have hE9 := TL_e hT hf
  subst hE9
  exact bt_v S hr hlocks hB (by omega) trivial dJ1_init_9
set_option maxRecDepth 100000 in
theorem mc_J2_1 {o : Nat} {out : Unit × AH × Nat × Nat} (S : CallFix p m c cc nL s args lw_all RJ2) (hS : SK G E.1 hSites A s) (hB : BI G A s.heap h nx H locs) (hf : f_J1_init E h nx o = some out) (hsz : ls.size = nL) (hR : (fE + 2) + 1 ≤ R.frames ∧ 8 + (1 + 11) + (lE + 60) ≤ R.locals) (hW : (rest.map fun v => v.category).sum ≤ 8) (hcs : cells + out.2.2.1 ≤ R.cells ∧ slots + out.2.2.2 ≤ R.slots) (hdg : decode cc pc = .ok (.invokespecial 1, 3))  (kk : ∀ (H1 : Heap) (locs1 : List Loc), True → BI G A s.heap out.2.1 (nx + out.2.2.1) H1 locs1 → W p l e R s m args below meth c H1 locs1 (cells + out.2.2.1) (slots + out.2.2.2) Q (F0 m (pc + 3) ls (rest))) : W p l e R s m args below meth c H locs cells slots Q (F0 m pc ls (.ref o :: rest)) := by
  have hN := hS.2.1
  exact br_v (va_runI (As := []) S (mm_J1_init (l := l) (G := G) (fE := fE) (lE := lE) hf) (⟨callB_of 0 S.2.2.2.2 (lw_meth q221) rfl rfl rfl (S.2.2.2.2 _ q176) (S.2.2.2.2 _ q219) hd_J1_init hR, rfl, S.2.2.2.2 _ q220⟩) (bPreS hS hB) rfl rfl hsz rfl (lv_room hW) hdg hcs) hB kk
theorem hd_J2_init : yJ2_init.cls ≠ "java/lang/invoke/MethodHandle" ∧ yJ2_init.cls ≠ "java/lang/invoke/VarHandle" ∧ (parseMethodDescriptor yJ2_init.desc).map (fun d => d.parameters.length) = some 1 := by decide +kernel
set_option maxHeartbeats 4000000 in
set_option maxRecDepth 100000 in
theorem mm_J2_init {o : Nat} {a0 : Int32} {out : Unit × AH × Nat × Nat} (hf : f_J2_init E h nx o a0 = some out) : Met l yJ2_init (ws_ yJ2_init cJ2_init 2 none) (rC (fE + 3) (lE + 80) out.2.2.1 out.2.2.2) (bPc G E.1 hSites h nx [.ref o, .int a0]) (bQ G none True out.2.1 (nx + out.2.2.1) (AA h nx)) out.2.2.1 out.2.2.2 (AA h nx) := by
  refine bGo (by decide +kernel) (Nat.le_of_ble_eq_true rfl) (fun p e s m below meth c ls S hr hlocks hin hnm hS hB hl => ?_)
  have S : CallFix p m c cJ2_init 2 s _ lw_all RJ2 := S
  obtain ⟨hx, hb, hml, hown, hts⟩ := id S
  have hl : lv_has ls 2 [(0, .ref o), (1, .int a0)] := hl
  have hT : TL out out 0 0 := TL_0
  rw [f_J2_init] at hf
  refine lv_aload_n hx hb dJ2_init_0 rfl (lv_at hl 0 rfl) ?_
  obtain ⟨v1, hv1, hf⟩ := ob_s hf
  obtain ⟨o2, hf, hT⟩ := TL_c hT hf
  refine mc_J2_1 (fE := fE) (lE := lE) S hS hB hv1 hl.1 ⟨(by show _ ≤ (fE + 3); omega), (by show _ ≤ (lE + 80); omega)⟩ (Nat.le_of_ble_eq_true rfl) ⟨(TL_m hT).1, (TL_m hT).2⟩ dJ2_init_1 (fun H locs _ hB => ?_)
  refine lv_iload_n hx hb dJ2_init_4 rfl (lv_at hl 1 rfl) ?_
  refine lv_if_le (tgt := 19) hx hb dJ2_init_5 (by decide) (fun c3 => ?_) (fun c3 => ?_)
  · replace hf := it_t c3 hf
    refine lv_iload_n hx hb dJ2_init_19 rfl (lv_at hl 1 rfl) ?_
    refine lv_if_ne (tgt := 33) hx hb dJ2_init_20 (by decide) (fun c4 => ?_) (fun c4 => ?_)
    · replace hf := it_f c4 hf
      exact absurd hf (by nofun)
    · replace hf := it_t c4 hf
      refine lv_aload_n hx hb dJ2_init_23 rfl (lv_at hl 0 rfl) ?_
      refine b_gets S hS hB 3 rfl (hts _ q228) dJ2_init_24 ?_
      obtain ⟨h5, hh5, hf⟩ := ob_s hf
      refine bp_J2_9 S hS hB hh5 dJ2_init_27 (fun H locs hB => ?_)
      refine lv_goto (tgt := 60) hx hb dJ2_init_30 (by decide) ?_
      have hE9 := TL_e hT hf
      subst hE9
      exact bt_v S hr hlocks hB (by omega) trivial dJ2_init_60
  · replace hf := it_f c3 hf
    refine lv_aload_n hx hb dJ2_init_8 rfl (lv_at hl 0 rfl) ?_
    refine lv_iload_n hx hb dJ2_init_9 rfl (lv_at hl 1 rfl) ?_
    obtain ⟨g6, hf⟩ := gd_t hf
    obtain ⟨o7, hf, hT⟩ := TL_c hT hf
    refine b_anewN S hS hB 4 rfl (hts _ q226) q227 rfl g6 (TL_m hT).1 (TL_m hT).2 dJ2_init_10 (fun H hB => ?_)
    obtain ⟨h8, eh8⟩ : ∃ z, z = (hu v1.2.1 (nx + v1.2.2.1) (.inl (4, a0.toNatClampNeg, .inr (.inr (.inr (.inr (fun _ => none))))))) := ⟨_, rfl⟩
    replace hf := bd_e eh8 hf
    rw [← eh8] at hB
    obtain ⟨h9, hh9, hf⟩ := ob_s hf
    refine bp_J2_9 S hS hB hh9 dJ2_init_13 (fun H locs hB => ?_)
    refine lv_goto (tgt := 60) hx hb dJ2_init_16 (by decide) ?_
    have hE9 := TL_e hT hf
    subst hE9
    exact bt_v S hr hlocks hB (by omega) trivial dJ2_init_60
set_option maxRecDepth 100000 in
theorem mc_X1_62 {o : Nat} {a0 : Int32} {out : Unit × AH × Nat × Nat} (S : CallFix p m c cc nL s args lw_all RX1) (hS : SK G E.1 hSites A s) (hB : BI G A s.heap h nx H locs) (hf : f_J2_init E h nx o a0 = some out) (hsz : ls.size = nL) (hR : (fE + 3) + 1 ≤ R.frames ∧ 8 + (2 + 11) + (lE + 80) ≤ R.locals) (hW : (rest.map fun v => v.category).sum ≤ 8) (hcs : cells + out.2.2.1 ≤ R.cells ∧ slots + out.2.2.2 ≤ R.slots) (hdg : decode cc pc = .ok (.invokespecial 62, 3))  (kk : ∀ (H1 : Heap) (locs1 : List Loc), True → BI G A s.heap out.2.1 (nx + out.2.2.1) H1 locs1 → W p l e R s m args below meth c H1 locs1 (cells + out.2.2.1) (slots + out.2.2.2) Q (F0 m (pc + 3) ls (rest))) : W p l e R s m args below meth c H locs cells slots Q (F0 m pc ls (.int a0 :: .ref o :: rest)) := by
  have hN := hS.2.1
  exact br_v (va_runI (As := [.int a0]) S (mm_J2_init (l := l) (G := G) (fE := fE) (lE := lE) hf) (⟨callB_of 1 S.2.2.2.2 (lw_meth q218) rfl rfl rfl (S.2.2.2.2 _ q177) (S.2.2.2.2 _ q216) hd_J2_init hR, rfl, S.2.2.2.2 _ q217⟩) (bPreS hS hB) rfl rfl hsz rfl (lv_room hW) hdg hcs) hB kk
set_option maxRecDepth 100000 in
theorem mc_X2_64 {o : Nat} {a0 : Int32} {out : Unit × AH × Nat × Nat} (S : CallFix p m c cc nL s args lw_all RX2) (hS : SK G E.1 hSites A s) (hB : BI G A s.heap h nx H locs) (hf : f_J2_init E h nx o a0 = some out) (hsz : ls.size = nL) (hR : (fE + 3) + 1 ≤ R.frames ∧ 8 + (2 + 11) + (lE + 80) ≤ R.locals) (hW : (rest.map fun v => v.category).sum ≤ 8) (hcs : cells + out.2.2.1 ≤ R.cells ∧ slots + out.2.2.2 ≤ R.slots) (hdg : decode cc pc = .ok (.invokespecial 64, 3))  (kk : ∀ (H1 : Heap) (locs1 : List Loc), True → BI G A s.heap out.2.1 (nx + out.2.2.1) H1 locs1 → W p l e R s m args below meth c H1 locs1 (cells + out.2.2.1) (slots + out.2.2.2) Q (F0 m (pc + 3) ls (rest))) : W p l e R s m args below meth c H locs cells slots Q (F0 m pc ls (.int a0 :: .ref o :: rest)) := by
  have hN := hS.2.1
  exact br_v (va_runI (As := [.int a0]) S (mm_J2_init (l := l) (G := G) (fE := fE) (lE := lE) hf) (⟨callB_of 1 S.2.2.2.2 (lw_meth q218) rfl rfl rfl (S.2.2.2.2 _ q177) (S.2.2.2.2 _ q252) hd_J2_init hR, rfl, S.2.2.2.2 _ q217⟩) (bPreS hS hB) rfl rfl hsz rfl (lv_room hW) hdg hcs) hB kk
set_option maxRecDepth 100000 in
theorem mc_X4_23 {o : Nat} {a0 : Int32} {out : Unit × AH × Nat × Nat} (S : CallFix p m c cc nL s args lw_all RX4) (hS : SK G E.1 hSites A s) (hB : BI G A s.heap h nx H locs) (hf : f_J2_init E h nx o a0 = some out) (hsz : ls.size = nL) (hR : (fE + 3) + 1 ≤ R.frames ∧ 8 + (2 + 11) + (lE + 80) ≤ R.locals) (hW : (rest.map fun v => v.category).sum ≤ 8) (hcs : cells + out.2.2.1 ≤ R.cells ∧ slots + out.2.2.2 ≤ R.slots) (hdg : decode cc pc = .ok (.invokespecial 23, 3))  (kk : ∀ (H1 : Heap) (locs1 : List Loc), True → BI G A s.heap out.2.1 (nx + out.2.2.1) H1 locs1 → W p l e R s m args below meth c H1 locs1 (cells + out.2.2.1) (slots + out.2.2.2) Q (F0 m (pc + 3) ls (rest))) : W p l e R s m args below meth c H locs cells slots Q (F0 m pc ls (.int a0 :: .ref o :: rest)) := by
  have hN := hS.2.1
  exact br_v (va_runI (As := [.int a0]) S (mm_J2_init (l := l) (G := G) (fE := fE) (lE := lE) hf) (⟨callB_of 1 S.2.2.2.2 (lw_meth q218) rfl rfl rfl (S.2.2.2.2 _ q177) (S.2.2.2.2 _ q665) hd_J2_init hR, rfl, S.2.2.2.2 _ q217⟩) (bPreS hS hB) rfl rfl hsz rfl (lv_room hW) hdg hcs) hB kk
theorem hd_J2_size : yJ2_size.cls = RJ2 ∧ yJ2_size.cls ≠ "java/lang/invoke/MethodHandle" ∧ yJ2_size.cls ≠ "java/lang/invoke/VarHandle" ∧ (parseMethodDescriptor yJ2_size.desc).map (fun d => d.parameters.length) = some 0 := by decide +kernel
set_option maxHeartbeats 4000000 in
set_option maxRecDepth 100000 in
theorem mm_J2_size {o : Nat} {out : Int32} (hf : f_J2_size E h o = some out) : Met l yJ2_size (ws_ yJ2_size cJ2_size 1 (some .int)) (rM (fE + 0) (lE + 0)) (bPc G E.1 hSites h nx [.ref o]) (gR (some (.int out)) True) 0 0 (fun _ => False) := by
  refine bGo (by decide +kernel) (Nat.le_of_ble_eq_true rfl) (fun p e s m below meth c ls S hr hlocks hin hnm hS hB hl => ?_)
  have S : CallFix p m c cJ2_size 1 s _ lw_all RJ2 := S
  obtain ⟨hx, hb, hml, hown, hts⟩ := id S
  have hl : lv_has ls 1 [(0, .ref o)] := hl
  rw [f_J2_size] at hf
  refine lv_aload_n hx hb dJ2_size_0 rfl (lv_at hl 0 rfl) ?_
  obtain ⟨v1, hv1, hf⟩ := ob_s hf
  refine bg_J2_48 S hS hB (vI_s hv1) dJ2_size_1 ?_
  have hE9 := Option.some.inj hf
  subst hE9
  exact gt_ri S hr hlocks trivial dJ2_size_4
set_option maxRecDepth 100000 in
theorem mc_X1_130 {o : Nat} {out : Int32} (S : CallFix p m c cc nL s args lw_all RX1) (hS : SK G E.1 hSites A s) (hB : BI G A s.heap h nx H locs) (ho : isO h o 11 = true) (hf : f_J2_size E h o = some out) (hsz : ls.size = nL) (hR : (fE + 0) + 1 ≤ R.frames ∧ 8 + (1 + 11) + (lE + 0) ≤ R.locals) (hW : (rest.map fun v => v.category).sum ≤ 8) (hcs : cells ≤ R.cells ∧ slots ≤ R.slots) (hdg : decode cc pc = .ok (.invokevirtual 130, 3))  (kk : True → W p l e R s m args below meth c H locs cells slots Q (F0 m (pc + 3) ls (.int out :: rest))) : W p l e R s m args below meth c H locs cells slots Q (F0 m pc ls (.ref o :: rest)) := by
  have hN := hS.2.1
  obtain ⟨fs, he⟩ := isO_s ho
  exact br_r (va_runV (As := []) S (mm_J2_size (l := l) (G := G) (nx := nx) (fE := fE) (lE := lE) hf) (cwV 0 S.2.2.2.2 (lw_V q1175 q278 q279 q177 q280) rfl rfl rfl hd_J2_size hR) (bPreV hS hB (ci := 11) rfl he) rfl rfl hsz rfl (lv_room hW) hdg hcs) kk
set_option maxRecDepth 100000 in
theorem mc_X10_23 {o : Nat} {out : Int32} (S : CallFix p m c cc nL s args lw_all RX10) (hS : SK G E.1 hSites A s) (hB : BI G A s.heap h nx H locs) (ho : isO h o 11 = true) (hf : f_J2_size E h o = some out) (hsz : ls.size = nL) (hR : (fE + 0) + 1 ≤ R.frames ∧ 8 + (1 + 11) + (lE + 0) ≤ R.locals) (hW : (rest.map fun v => v.category).sum ≤ 8) (hcs : cells ≤ R.cells ∧ slots ≤ R.slots) (hdg : decode cc pc = .ok (.invokevirtual 23, 3))  (kk : True → W p l e R s m args below meth c H locs cells slots Q (F0 m (pc + 3) ls (.int out :: rest))) : W p l e R s m args below meth c H locs cells slots Q (F0 m pc ls (.ref o :: rest)) := by
  have hN := hS.2.1
  obtain ⟨fs, he⟩ := isO_s ho
  exact br_r (va_runV (As := []) S (mm_J2_size (l := l) (G := G) (nx := nx) (fE := fE) (lE := lE) hf) (cwV 0 S.2.2.2.2 (lw_V q1683 q278 q279 q177 q280) rfl rfl rfl hd_J2_size hR) (bPreV hS hB (ci := 11) rfl he) rfl rfl hsz rfl (lv_room hW) hdg hcs) kk
set_option maxRecDepth 100000 in
theorem mc_X11_33 {o : Nat} {out : Int32} (S : CallFix p m c cc nL s args lw_all RX11) (hS : SK G E.1 hSites A s) (hB : BI G A s.heap h nx H locs) (ho : isO h o 11 = true) (hf : f_J2_size E h o = some out) (hsz : ls.size = nL) (hR : (fE + 0) + 1 ≤ R.frames ∧ 8 + (1 + 11) + (lE + 0) ≤ R.locals) (hW : (rest.map fun v => v.category).sum ≤ 8) (hcs : cells ≤ R.cells ∧ slots ≤ R.slots) (hdg : decode cc pc = .ok (.invokevirtual 33, 3))  (kk : True → W p l e R s m args below meth c H locs cells slots Q (F0 m (pc + 3) ls (.int out :: rest))) : W p l e R s m args below meth c H locs cells slots Q (F0 m pc ls (.ref o :: rest)) := by
  have hN := hS.2.1
  obtain ⟨fs, he⟩ := isO_s ho
  exact br_r (va_runV (As := []) S (mm_J2_size (l := l) (G := G) (nx := nx) (fE := fE) (lE := lE) hf) (cwV 0 S.2.2.2.2 (lw_V q1735 q278 q279 q177 q280) rfl rfl rfl hd_J2_size hR) (bPreV hS hB (ci := 11) rfl he) rfl rfl hsz rfl (lv_room hW) hdg hcs) kk
set_option maxRecDepth 100000 in
theorem mc_X2_149 {o : Nat} {out : Int32} (S : CallFix p m c cc nL s args lw_all RX2) (hS : SK G E.1 hSites A s) (hB : BI G A s.heap h nx H locs) (ho : isO h o 11 = true) (hf : f_J2_size E h o = some out) (hsz : ls.size = nL) (hR : (fE + 0) + 1 ≤ R.frames ∧ 8 + (1 + 11) + (lE + 0) ≤ R.locals) (hW : (rest.map fun v => v.category).sum ≤ 8) (hcs : cells ≤ R.cells ∧ slots ≤ R.slots) (hdg : decode cc pc = .ok (.invokevirtual 149, 3))  (kk : True → W p l e R s m args below meth c H locs cells slots Q (F0 m (pc + 3) ls (.int out :: rest))) : W p l e R s m args below meth c H locs cells slots Q (F0 m pc ls (.ref o :: rest)) := by
  have hN := hS.2.1
  obtain ⟨fs, he⟩ := isO_s ho
  exact br_r (va_runV (As := []) S (mm_J2_size (l := l) (G := G) (nx := nx) (fE := fE) (lE := lE) hf) (cwV 0 S.2.2.2.2 (lw_V q277 q278 q279 q177 q280) rfl rfl rfl hd_J2_size hR) (bPreV hS hB (ci := 11) rfl he) rfl rfl hsz rfl (lv_room hW) hdg hcs) kk
set_option maxRecDepth 100000 in
theorem mc_X4_111 {o : Nat} {out : Int32} (S : CallFix p m c cc nL s args lw_all RX4) (hS : SK G E.1 hSites A s) (hB : BI G A s.heap h nx H locs) (ho : isO h o 11 = true) (hf : f_J2_size E h o = some out) (hsz : ls.size = nL) (hR : (fE + 0) + 1 ≤ R.frames ∧ 8 + (1 + 11) + (lE + 0) ≤ R.locals) (hW : (rest.map fun v => v.category).sum ≤ 8) (hcs : cells ≤ R.cells ∧ slots ≤ R.slots) (hdg : decode cc pc = .ok (.invokevirtual 111, 3))  (kk : True → W p l e R s m args below meth c H locs cells slots Q (F0 m (pc + 3) ls (.int out :: rest))) : W p l e R s m args below meth c H locs cells slots Q (F0 m pc ls (.ref o :: rest)) := by
  have hN := hS.2.1
  obtain ⟨fs, he⟩ := isO_s ho
  exact br_r (va_runV (As := []) S (mm_J2_size (l := l) (G := G) (nx := nx) (fE := fE) (lE := lE) hf) (cwV 0 S.2.2.2.2 (lw_V q884 q278 q279 q177 q280) rfl rfl rfl hd_J2_size hR) (bPreV hS hB (ci := 11) rfl he) rfl rfl hsz rfl (lv_room hW) hdg hcs) kk
set_option maxRecDepth 100000 in
theorem mc_X9_34 {o : Nat} {out : Int32} (S : CallFix p m c cc nL s args lw_all RX9) (hS : SK G E.1 hSites A s) (hB : BI G A s.heap h nx H locs) (ho : isO h o 11 = true) (hf : f_J2_size E h o = some out) (hsz : ls.size = nL) (hR : (fE + 0) + 1 ≤ R.frames ∧ 8 + (1 + 11) + (lE + 0) ≤ R.locals) (hW : (rest.map fun v => v.category).sum ≤ 8) (hcs : cells ≤ R.cells ∧ slots ≤ R.slots) (hdg : decode cc pc = .ok (.invokevirtual 34, 3))  (kk : True → W p l e R s m args below meth c H locs cells slots Q (F0 m (pc + 3) ls (.int out :: rest))) : W p l e R s m args below meth c H locs cells slots Q (F0 m pc ls (.ref o :: rest)) := by
  have hN := hS.2.1
  obtain ⟨fs, he⟩ := isO_s ho
  exact br_r (va_runV (As := []) S (mm_J2_size (l := l) (G := G) (nx := nx) (fE := fE) (lE := lE) hf) (cwV 0 S.2.2.2.2 (lw_V q1642 q278 q279 q177 q280) rfl rfl rfl hd_J2_size hR) (bPreV hS hB (ci := 11) rfl he) rfl rfl hsz rfl (lv_room hW) hdg hcs) kk
theorem hd_J4_checkIndex : yJ4_checkIndex.cls ≠ "java/lang/invoke/MethodHandle" ∧ yJ4_checkIndex.cls ≠ "java/lang/invoke/VarHandle" ∧ (parseMethodDescriptor yJ4_checkIndex.desc).map (fun d => d.parameters.length) = some 3 := by decide +kernel
set_option maxHeartbeats 4000000 in
set_option maxRecDepth 100000 in
theorem mm_J4_checkIndex {a0 : Int32} {a1 : Int32} {a2 : Option Nat} {out : Int32} (hf : f_J4_checkIndex a0 a1 a2 = some out) : Met l yJ4_checkIndex (ws_ yJ4_checkIndex cJ4_checkIndex 3 (some .int)) (rM 0 0) (gPc D cl tys [.int a0, .int a1, va_rf a2] []) (gR (some (.int out)) True) 0 0 (fun _ => False) := by
  refine gGo (by decide +kernel) (by cases a2 <;> exact Nat.le_of_ble_eq_true rfl) (fun p e s m below meth c ls S hr hlocks hK hP hl => ?_)
  have S : CallFix p m c cJ4_checkIndex 3 s _ lw_all RJ4 := S
  obtain ⟨hx, hb, hml, hown, hts⟩ := id S
  have hl : lv_has ls 3 [(0, .int a0), (1, .int a1), (2, va_rf a2)] := hl
  have hl : lv_has ls 3 [(0, .int a0), (1, .int a1)] := lv_sub (l' := [(0, .int a0), (1, .int a1)]) hl [0, 1] rfl
  rw [f_J4_checkIndex] at hf
  refine lv_iload_n hx hb dJ4_checkIndex_0 rfl (lv_at hl 0 rfl) ?_
  refine lv_if_lt (tgt := 9) hx hb dJ4_checkIndex_1 (by decide) (fun c1 => ?_) (fun c1 => ?_)
  · replace hf := it_t c1 hf
    exact absurd hf (by nofun)
  · replace hf := it_f c1 hf
    refine lv_iload_n hx hb dJ4_checkIndex_4 rfl (lv_at hl 0 rfl) ?_
    refine lv_iload_n hx hb dJ4_checkIndex_5 rfl (lv_at hl 1 rfl) ?_
    refine lv_icmp_lt (tgt := 16) hx hb dJ4_checkIndex_6 (by decide) (fun c2 => ?_) (fun c2 => ?_)
    · replace hf := it_t c2 hf
      refine lv_iload_n hx hb dJ4_checkIndex_16 rfl (lv_at hl 0 rfl) ?_
      have hE9 := Option.some.inj hf
      subst hE9
      exact gt_ri S hr hlocks trivial dJ4_checkIndex_17
    · replace hf := it_f c2 hf
      exact absurd hf (by nofun)
set_option maxRecDepth 100000 in
theorem mc_J3_105 {a0 : Int32} {a1 : Int32} {a2 : Option Nat} {out : Int32} (S : CallFix p m c cc nL s args lw_all RJ3) (hK : va_K D cl tys s) (hf : f_J4_checkIndex a0 a1 a2 = some out) (hsz : ls.size = nL) (hR : 0 + 1 ≤ R.frames ∧ 8 + (3 + 11) + 0 ≤ R.locals) (hW : (rest.map fun v => v.category).sum ≤ 8) (hcs : cells ≤ R.cells ∧ slots ≤ R.slots) (hdg : decode cc pc = .ok (.invokestatic 105, 3))  (kk : True → W p l e R s m args below meth c H locs cells slots Q (F0 m (pc + 3) ls (.int out :: rest))) : W p l e R s m args below meth c H locs cells slots Q (F0 m pc ls (va_rf a2 :: .int a1 :: .int a0 :: rest)) := by
  cases a2 with
  | none => exact br_r (va_runS (As := [.int a0, .int a1, va_rf none]) S (mm_J4_checkIndex hf) (va_cwS 3 S.2.2.2.2 (lw_S q299 q300 q181 q301) rfl rfl rfl hd_J4_checkIndex hR) (gPreS hK gP0) rfl rfl hsz rfl (lv_room hW) hdg hcs) kk
  | some a2 => exact br_r (va_runS (As := [.int a0, .int a1, va_rf (some a2)]) S (mm_J4_checkIndex hf) (va_cwS 3 S.2.2.2.2 (lw_S q299 q300 q181 q301) rfl rfl rfl hd_J4_checkIndex hR) (gPreS hK gP0) rfl rfl hsz rfl (lv_room hW) hdg hcs) kk
set_option maxRecDepth 100000 in
theorem mc_J9_1059 {a0 : Int32} {a1 : Int32} {a2 : Option Nat} {out : Int32} (S : CallFix p m c cc nL s args lw_all RJ9) (hK : va_K D cl tys s) (hf : f_J4_checkIndex a0 a1 a2 = some out) (hsz : ls.size = nL) (hR : 0 + 1 ≤ R.frames ∧ 8 + (3 + 11) + 0 ≤ R.locals) (hW : (rest.map fun v => v.category).sum ≤ 8) (hcs : cells ≤ R.cells ∧ slots ≤ R.slots) (hdg : decode cc pc = .ok (.invokestatic 1059, 3))  (kk : True → W p l e R s m args below meth c H locs cells slots Q (F0 m (pc + 3) ls (.int out :: rest))) : W p l e R s m args below meth c H locs cells slots Q (F0 m pc ls (va_rf a2 :: .int a1 :: .int a0 :: rest)) := by
  cases a2 with
  | none => exact br_r (va_runS (As := [.int a0, .int a1, va_rf none]) S (mm_J4_checkIndex hf) (va_cwS 3 S.2.2.2.2 (lw_S q767 q300 q181 q301) rfl rfl rfl hd_J4_checkIndex hR) (gPreS hK gP0) rfl rfl hsz rfl (lv_room hW) hdg hcs) kk
  | some a2 => exact br_r (va_runS (As := [.int a0, .int a1, va_rf (some a2)]) S (mm_J4_checkIndex hf) (va_cwS 3 S.2.2.2.2 (lw_S q767 q300 q181 q301) rfl rfl rfl hd_J4_checkIndex hR) (gPreS hK gP0) rfl rfl hsz rfl (lv_room hW) hdg hcs) kk
theorem hd_J3_checkIndex : yJ3_checkIndex.cls ≠ "java/lang/invoke/MethodHandle" ∧ yJ3_checkIndex.cls ≠ "java/lang/invoke/VarHandle" ∧ (parseMethodDescriptor yJ3_checkIndex.desc).map (fun d => d.parameters.length) = some 2 := by decide +kernel
set_option maxHeartbeats 4000000 in
set_option maxRecDepth 100000 in
theorem mm_J3_checkIndex {a0 : Int32} {a1 : Int32} {out : Int32} (hf : f_J3_checkIndex a0 a1 = some out) : Met l yJ3_checkIndex (ws_ yJ3_checkIndex cJ3_checkIndex 2 (some .int)) (rM 1 22) (gPc D cl tys [.int a0, .int a1] []) (gR (some (.int out)) True) 0 0 (fun _ => False) := by
  refine gGo (by decide +kernel) (Nat.le_of_ble_eq_true rfl) (fun p e s m below meth c ls S hr hlocks hK hP hl => ?_)
  have S : CallFix p m c cJ3_checkIndex 2 s _ lw_all RJ3 := S
  obtain ⟨hx, hb, hml, hown, hts⟩ := id S
  have hl : lv_has ls 2 [(0, .int a0), (1, .int a1)] := hl
  rw [f_J3_checkIndex] at hf
  refine lv_iload_n hx hb dJ3_checkIndex_0 rfl (lv_at hl 0 rfl) ?_
  refine lv_iload_n hx hb dJ3_checkIndex_1 rfl (lv_at hl 1 rfl) ?_
  refine lv_null hx hb dJ3_checkIndex_2 ?_
  obtain ⟨v1, hv1, hf⟩ := ob_s hf
  refine mc_J3_105 S hK hv1 hl.1 ⟨(by show _ ≤ 1; omega), (by show _ ≤ 22; omega)⟩ (Nat.le_of_ble_eq_true rfl) ⟨Nat.zero_le _, Nat.zero_le _⟩ dJ3_checkIndex_3 (fun _ => ?_)
  have hE9 := Option.some.inj hf
  subst hE9
  exact gt_ri S hr hlocks trivial dJ3_checkIndex_6
set_option maxRecDepth 100000 in
theorem mc_J2_118 {a0 : Int32} {a1 : Int32} {out : Int32} (S : CallFix p m c cc nL s args lw_all RJ2) (hK : va_K D cl tys s) (hf : f_J3_checkIndex a0 a1 = some out) (hsz : ls.size = nL) (hR : 1 + 1 ≤ R.frames ∧ 8 + (2 + 11) + 22 ≤ R.locals) (hW : (rest.map fun v => v.category).sum ≤ 8) (hcs : cells ≤ R.cells ∧ slots ≤ R.slots) (hdg : decode cc pc = .ok (.invokestatic 118, 3))  (kk : True → W p l e R s m args below meth c H locs cells slots Q (F0 m (pc + 3) ls (.int out :: rest))) : W p l e R s m args below meth c H locs cells slots Q (F0 m pc ls (.int a1 :: .int a0 :: rest)) := by
  exact br_r (va_runS (As := [.int a0, .int a1]) S (mm_J3_checkIndex hf) (va_cwS 2 S.2.2.2.2 (lw_S q296 q297 q180 q298) rfl rfl rfl hd_J3_checkIndex hR) (gPreS hK gP0) rfl rfl hsz rfl (lv_room hW) hdg hcs) kk
theorem hd_J2_elementData : yJ2_elementData.cls = RJ2 ∧ yJ2_elementData.cls ≠ "java/lang/invoke/MethodHandle" ∧ yJ2_elementData.cls ≠ "java/lang/invoke/VarHandle" ∧ (parseMethodDescriptor yJ2_elementData.desc).map (fun d => d.parameters.length) = some 1 := by decide +kernel
set_option maxHeartbeats 4000000 in
set_option maxRecDepth 100000 in
theorem mm_J2_elementData {o : Nat} {a0 : Int32} {out : Nat} (hf : f_J2_elementData E h o a0 = some out) : Met l yJ2_elementData (ws_ yJ2_elementData cJ2_elementData 2 (some (.object "java/lang/Object"))) (rM (fE + 0) (lE + 0)) (bPc G E.1 hSites h nx [.ref o, .int a0]) (gR (some (.ref out)) True) 0 0 (fun _ => False) := by
  refine bGo (by decide +kernel) (Nat.le_of_ble_eq_true rfl) (fun p e s m below meth c ls S hr hlocks hin hnm hS hB hl => ?_)
  have S : CallFix p m c cJ2_elementData 2 s _ lw_all RJ2 := S
  obtain ⟨hx, hb, hml, hown, hts⟩ := id S
  have hl : lv_has ls 2 [(0, .ref o), (1, .int a0)] := hl
  rw [f_J2_elementData] at hf
  refine lv_aload_n hx hb dJ2_elementData_0 rfl (lv_at hl 0 rfl) ?_
  obtain ⟨v1, hv1, hf⟩ := ob_s hf
  refine bg_J2_9 S hS hB (vR_s hv1) dJ2_elementData_1 ?_
  refine lv_iload_n hx hb dJ2_elementData_4 rfl (lv_at hl 1 rfl) ?_
  obtain ⟨v2, hv2, hf⟩ := ob_s hf
  refine b_aald S hS.1 hB 4 rfl rfl hv2 dJ2_elementData_5 ?_
  have hE9 := Option.some.inj hf
  subst hE9
  exact gt_ra S hr (Or.inl ⟨_, rfl⟩) hlocks trivial dJ2_elementData_6
set_option maxRecDepth 100000 in
theorem mc_J2_123 {o : Nat} {a0 : Int32} {out : Nat} (S : CallFix p m c cc nL s args lw_all RJ2) (hS : SK G E.1 hSites A s) (hB : BI G A s.heap h nx H locs) (ho : isO h o 11 = true) (hf : f_J2_elementData E h o a0 = some out) (hsz : ls.size = nL) (hR : (fE + 0) + 1 ≤ R.frames ∧ 8 + (2 + 11) + (lE + 0) ≤ R.locals) (hW : (rest.map fun v => v.category).sum ≤ 8) (hcs : cells ≤ R.cells ∧ slots ≤ R.slots) (hdg : decode cc pc = .ok (.invokevirtual 123, 3))  (kk : True → W p l e R s m args below meth c H locs cells slots Q (F0 m (pc + 3) ls (.ref out :: rest))) : W p l e R s m args below meth c H locs cells slots Q (F0 m pc ls (.int a0 :: .ref o :: rest)) := by
  have hN := hS.2.1
  obtain ⟨fs, he⟩ := isO_s ho
  exact br_r (va_runV (As := [.int a0]) S (mm_J2_elementData (l := l) (G := G) (nx := nx) (fE := fE) (lE := lE) hf) (cwV 1 S.2.2.2.2 (lw_V q302 q303 q304 q177 q305) rfl rfl rfl hd_J2_elementData hR) (bPreV hS hB (ci := 11) rfl he) rfl rfl hsz rfl (lv_room hW) hdg hcs) kk
theorem hd_J2_get : yJ2_get.cls = RJ2 ∧ yJ2_get.cls ≠ "java/lang/invoke/MethodHandle" ∧ yJ2_get.cls ≠ "java/lang/invoke/VarHandle" ∧ (parseMethodDescriptor yJ2_get.desc).map (fun d => d.parameters.length) = some 1 := by decide +kernel
set_option maxHeartbeats 4000000 in
set_option maxRecDepth 100000 in
theorem mm_J2_get {o : Nat} {a0 : Int32} {out : Nat} (hf : f_J2_get E h o a0 = some out) : Met l yJ2_get (ws_ yJ2_get cJ2_get 2 (some (.object "java/lang/Object"))) (rM (fE + 2) (lE + 43)) (bPc G E.1 hSites h nx [.ref o, .int a0]) (gR (some (.ref out)) True) 0 0 (fun _ => False) := by
  refine bGo (by decide +kernel) (Nat.le_of_ble_eq_true rfl) (fun p e s m below meth c ls S hr hlocks hin hnm hS hB hl => ?_)
  have S : CallFix p m c cJ2_get 2 s _ lw_all RJ2 := S
  obtain ⟨hx, hb, hml, hown, hts⟩ := id S
  have hl : lv_has ls 2 [(0, .ref o), (1, .int a0)] := hl
  rw [f_J2_get] at hf
  refine lv_iload_n hx hb dJ2_get_0 rfl (lv_at hl 1 rfl) ?_
  refine lv_aload_n hx hb dJ2_get_1 rfl (lv_at hl 0 rfl) ?_
  obtain ⟨v1, hv1, hf⟩ := ob_s hf
  refine bg_J2_48 S hS hB (vI_s hv1) dJ2_get_2 ?_
  obtain ⟨v2, hv2, hf⟩ := ob_s hf
  refine mc_J2_118 S hS.1 hv2 hl.1 ⟨(by show _ ≤ (fE + 2); omega), (by show _ ≤ (lE + 43); omega)⟩ (Nat.le_of_ble_eq_true rfl) ⟨Nat.zero_le _, Nat.zero_le _⟩ dJ2_get_5 (fun _ => ?_)
  refine lv_pop hx hb dJ2_get_8 rfl ?_
  refine lv_aload_n hx hb dJ2_get_9 rfl (lv_at hl 0 rfl) ?_
  refine lv_iload_n hx hb dJ2_get_10 rfl (lv_at hl 1 rfl) ?_
  obtain ⟨g3, hf⟩ := gd_t hf
  obtain ⟨v4, hv4, hf⟩ := ob_s hf
  refine mc_J2_123 (fE := fE) (lE := lE) S hS hB g3 hv4 hl.1 ⟨(by show _ ≤ (fE + 2); omega), (by show _ ≤ (lE + 43); omega)⟩ (Nat.le_of_ble_eq_true rfl) ⟨Nat.zero_le _, Nat.zero_le _⟩ dJ2_get_11 (fun _ => ?_)
  have hE9 := Option.some.inj hf
  subst hE9
  exact gt_ra S hr (Or.inl ⟨_, rfl⟩) hlocks trivial dJ2_get_14
set_option maxRecDepth 100000 in
theorem mc_X1_43 {o : Nat} {a0 : Int32} {out : Nat} (S : CallFix p m c cc nL s args lw_all RX1) (hS : SK G E.1 hSites A s) (hB : BI G A s.heap h nx H locs) (ho : isO h o 11 = true) (hf : f_J2_get E h o a0 = some out) (hsz : ls.size = nL) (hR : (fE + 2) + 1 ≤ R.frames ∧ 8 + (2 + 11) + (lE + 43) ≤ R.locals) (hW : (rest.map fun v => v.category).sum ≤ 8) (hcs : cells ≤ R.cells ∧ slots ≤ R.slots) (hdg : decode cc pc = .ok (.invokevirtual 43, 3))  (kk : True → W p l e R s m args below meth c H locs cells slots Q (F0 m (pc + 3) ls (.ref out :: rest))) : W p l e R s m args below meth c H locs cells slots Q (F0 m pc ls (.int a0 :: .ref o :: rest)) := by
  have hN := hS.2.1
  obtain ⟨fs, he⟩ := isO_s ho
  exact br_r (va_runV (As := [.int a0]) S (mm_J2_get (l := l) (G := G) (nx := nx) (fE := fE) (lE := lE) hf) (cwV 1 S.2.2.2.2 (lw_V q292 q293 q294 q177 q295) rfl rfl rfl hd_J2_get hR) (bPreV hS hB (ci := 11) rfl he) rfl rfl hsz rfl (lv_room hW) hdg hcs) kk
set_option maxRecDepth 100000 in
theorem mc_X2_222 {o : Nat} {a0 : Int32} {out : Nat} (S : CallFix p m c cc nL s args lw_all RX2) (hS : SK G E.1 hSites A s) (hB : BI G A s.heap h nx H locs) (ho : isO h o 11 = true) (hf : f_J2_get E h o a0 = some out) (hsz : ls.size = nL) (hR : (fE + 2) + 1 ≤ R.frames ∧ 8 + (2 + 11) + (lE + 43) ≤ R.locals) (hW : (rest.map fun v => v.category).sum ≤ 8) (hcs : cells ≤ R.cells ∧ slots ≤ R.slots) (hdg : decode cc pc = .ok (.invokevirtual 222, 3))  (kk : True → W p l e R s m args below meth c H locs cells slots Q (F0 m (pc + 3) ls (.ref out :: rest))) : W p l e R s m args below meth c H locs cells slots Q (F0 m pc ls (.int a0 :: .ref o :: rest)) := by
  have hN := hS.2.1
  obtain ⟨fs, he⟩ := isO_s ho
  exact br_r (va_runV (As := [.int a0]) S (mm_J2_get (l := l) (G := G) (nx := nx) (fE := fE) (lE := lE) hf) (cwV 1 S.2.2.2.2 (lw_V q394 q293 q294 q177 q295) rfl rfl rfl hd_J2_get hR) (bPreV hS hB (ci := 11) rfl he) rfl rfl hsz rfl (lv_room hW) hdg hcs) kk
set_option maxRecDepth 100000 in
theorem mc_X4_114 {o : Nat} {a0 : Int32} {out : Nat} (S : CallFix p m c cc nL s args lw_all RX4) (hS : SK G E.1 hSites A s) (hB : BI G A s.heap h nx H locs) (ho : isO h o 11 = true) (hf : f_J2_get E h o a0 = some out) (hsz : ls.size = nL) (hR : (fE + 2) + 1 ≤ R.frames ∧ 8 + (2 + 11) + (lE + 43) ≤ R.locals) (hW : (rest.map fun v => v.category).sum ≤ 8) (hcs : cells ≤ R.cells ∧ slots ≤ R.slots) (hdg : decode cc pc = .ok (.invokevirtual 114, 3))  (kk : True → W p l e R s m args below meth c H locs cells slots Q (F0 m (pc + 3) ls (.ref out :: rest))) : W p l e R s m args below meth c H locs cells slots Q (F0 m pc ls (.int a0 :: .ref o :: rest)) := by
  have hN := hS.2.1
  obtain ⟨fs, he⟩ := isO_s ho
  exact br_r (va_runV (As := [.int a0]) S (mm_J2_get (l := l) (G := G) (nx := nx) (fE := fE) (lE := lE) hf) (cwV 1 S.2.2.2.2 (lw_V q1051 q293 q294 q177 q295) rfl rfl rfl hd_J2_get hR) (bPreV hS hB (ci := 11) rfl he) rfl rfl hsz rfl (lv_room hW) hdg hcs) kk
theorem hd_J16_init : yJ16_init.cls ≠ "java/lang/invoke/MethodHandle" ∧ yJ16_init.cls ≠ "java/lang/invoke/VarHandle" ∧ (parseMethodDescriptor yJ16_init.desc).map (fun d => d.parameters.length) = some 1 := by decide +kernel
set_option maxHeartbeats 4000000 in
set_option maxRecDepth 100000 in
theorem mm_J16_init {o : Nat} {a0 : Nat} {out : Unit × AH × Nat × Nat} (hf : f_J16_init E h nx o a0 = some out) : Met l yJ16_init (ws_ yJ16_init cJ16_init 2 none) (rC (fE + 1) (lE + 40) out.2.2.1 out.2.2.2) (bPc G E.1 hSites h nx [.ref o, .ref a0]) (bQ G none True out.2.1 (nx + out.2.2.1) (AA h nx)) out.2.2.1 out.2.2.2 (AA h nx) := by
  refine bGo (by decide +kernel) (Nat.le_of_ble_eq_true rfl) (fun p e s m below meth c ls S hr hlocks hin hnm hS hB hl => ?_)
  have S : CallFix p m c cJ16_init 2 s _ lw_all RJ16 := S
  obtain ⟨hx, hb, hml, hown, hts⟩ := id S
  have hl : lv_has ls 2 [(0, .ref o), (1, .ref a0)] := hl
  have hT : TL out out 0 0 := TL_0
  rw [f_J16_init] at hf
  refine lv_aload_n hx hb dJ16_init_0 rfl (lv_at hl 0 rfl) ?_
  refine lv_aload_n hx hb dJ16_init_1 rfl (lv_at hl 1 rfl) ?_
  obtain ⟨h1, hh1, hf⟩ := ob_s hf
  refine bp_J16_1 S hS hB hin hh1 dJ16_init_2 (fun H locs hB => ?_)
  refine lv_aload_n hx hb dJ16_init_5 rfl (lv_at hl 0 rfl) ?_
  refine W.objInit hx hb hown (hts _ q986) (hts _ q212) (hts _ q213) rfl (by rw [hml]; exact hl.1) rfl dJ16_init_6 (by show _ ≤ (fE + 1); omega) (by show _ ≤ (lE + 40); simp only [F0, JFrame.monitorRoom, List.map, List.sum_cons, List.sum_nil, Value.category]; omega) ?_
  refine W.eq (g2 := F0 m 9 ls []) rfl ?_
  refine lv_aload_n hx hb dJ16_init_9 rfl (lv_at hl 0 rfl) ?_
  refine lv_iconst hx hb dJ16_init_10 kc_im1 ?_
  obtain ⟨h2, hh2, hf⟩ := ob_s hf
  refine bp_J16_13 S hS hB hh2 dJ16_init_11 (fun H locs hB => ?_)
  refine lv_aload_n hx hb dJ16_init_14 rfl (lv_at hl 0 rfl) ?_
  refine lv_aload_n hx hb dJ16_init_15 rfl (lv_at hl 0 rfl) ?_
  obtain ⟨v3, hv3, hf⟩ := ob_s hf
  refine bg_J16_1 S hS hB (vR_s hv3) dJ16_init_16 ?_
  obtain ⟨v4, hv4, hf⟩ := ob_s hf
  refine bg_J16_17 S hS hB (vI_s hv4) dJ16_init_19 ?_
  obtain ⟨h5, hh5, hf⟩ := ob_s hf
  refine bp_J16_22 S hS hB hh5 dJ16_init_22 (fun H locs hB => ?_)
  have hE9 := TL_e hT hf
  subst hE9
  exact bt_v S hr hlocks hB (by omega) trivial dJ16_init_25
set_option maxRecDepth 100000 in
theorem mc_J2_269 {o : Nat} {a0 : Nat} {out : Unit × AH × Nat × Nat} (S : CallFix p m c cc nL s args lw_all RJ2) (hS : SK G E.1 hSites A s) (hB : BI G A s.heap h nx H locs) (hf : f_J16_init E h nx o a0 = some out) (hsz : ls.size = nL) (hR : (fE + 1) + 1 ≤ R.frames ∧ 8 + (2 + 11) + (lE + 40) ≤ R.locals) (hW : (rest.map fun v => v.category).sum ≤ 8) (hcs : cells + out.2.2.1 ≤ R.cells ∧ slots + out.2.2.2 ≤ R.slots) (hdg : decode cc pc = .ok (.invokespecial 269, 3))  (kk : ∀ (H1 : Heap) (locs1 : List Loc), True → BI G A s.heap out.2.1 (nx + out.2.2.1) H1 locs1 → W p l e R s m args below meth c H1 locs1 (cells + out.2.2.1) (slots + out.2.2.2) Q (F0 m (pc + 3) ls (rest))) : W p l e R s m args below meth c H locs cells slots Q (F0 m pc ls (.ref a0 :: .ref o :: rest)) := by
  have hN := hS.2.1
  exact br_v (va_runI (As := [.ref a0]) S (mm_J16_init (l := l) (G := G) (fE := fE) (lE := lE) hf) (⟨callB_of 1 S.2.2.2.2 (lw_meth q985) rfl rfl rfl (S.2.2.2.2 _ q197) (S.2.2.2.2 _ q983) hd_J16_init hR, rfl, S.2.2.2.2 _ q984⟩) (bPreS hS hB) rfl rfl hsz rfl (lv_room hW) hdg hcs) hB kk
theorem hd_J2_iterator : yJ2_iterator.cls = RJ2 ∧ yJ2_iterator.cls ≠ "java/lang/invoke/MethodHandle" ∧ yJ2_iterator.cls ≠ "java/lang/invoke/VarHandle" ∧ (parseMethodDescriptor yJ2_iterator.desc).map (fun d => d.parameters.length) = some 0 := by decide +kernel
set_option maxHeartbeats 4000000 in
set_option maxRecDepth 100000 in
theorem mm_J2_iterator {o : Nat} {out : Nat × AH × Nat × Nat} (hf : f_J2_iterator E h nx o = some out) : Met l yJ2_iterator (ws_ yJ2_iterator cJ2_iterator 1 (some (.object "java/util/Iterator"))) (rC (fE + 2) (lE + 61) out.2.2.1 out.2.2.2) (bPc G E.1 hSites h nx [.ref o]) (bQ G (some (.ref out.1)) True out.2.1 (nx + out.2.2.1) (AA h nx)) out.2.2.1 out.2.2.2 (AA h nx) := by
  refine bGo (by decide +kernel) (Nat.le_of_ble_eq_true rfl) (fun p e s m below meth c ls S hr hlocks hin hnm hS hB hl => ?_)
  have S : CallFix p m c cJ2_iterator 1 s _ lw_all RJ2 := S
  obtain ⟨hx, hb, hml, hown, hts⟩ := id S
  have hl : lv_has ls 1 [(0, .ref o)] := hl
  have hT : TL out out 0 0 := TL_0
  rw [f_J2_iterator] at hf
  obtain ⟨o1, hf, hT⟩ := TL_c hT hf
  refine bn_J2_267 S hS hB (TL_m hT).1 (TL_m hT).2 dJ2_iterator_0 (fun H hB => ?_)
  refine lv_dup hx hb dJ2_iterator_3 rfl ?_
  refine lv_aload_n hx hb dJ2_iterator_4 rfl (lv_at hl 0 rfl) ?_
  obtain ⟨v2, hv2, hf⟩ := ob_s hf
  obtain ⟨o3, hf, hT⟩ := TL_c hT hf
  refine mc_J2_269 (fE := fE) (lE := lE) S hS hB hv2 hl.1 ⟨(by show _ ≤ (fE + 2); omega), (by show _ ≤ (lE + 61); omega)⟩ (Nat.le_of_ble_eq_true rfl) ⟨(TL_m hT).1, (TL_m hT).2⟩ dJ2_iterator_5 (fun H locs _ hB => ?_)
  have hE9 := TL_e hT hf
  subst hE9
  exact bt_a S hr (Or.inl ⟨_, rfl⟩) hlocks hB (by omega) trivial dJ2_iterator_8
set_option maxRecDepth 100000 in
theorem mc_X1_403 {o : Nat} {out : Nat × AH × Nat × Nat} (S : CallFix p m c cc nL s args lw_all RX1) (hS : SK G E.1 hSites A s) (hB : BI G A s.heap h nx H locs) (ho : isO h o 11 = true) (hf : f_J2_iterator E h nx o = some out) (hsz : ls.size = nL) (hR : (fE + 2) + 1 ≤ R.frames ∧ 8 + (1 + 11) + (lE + 61) ≤ R.locals) (hW : (rest.map fun v => v.category).sum ≤ 8) (hcs : cells + out.2.2.1 ≤ R.cells ∧ slots + out.2.2.2 ≤ R.slots) (hdg : decode cc pc = .ok (.invokevirtual 403, 3))  (kk : ∀ (H1 : Heap) (locs1 : List Loc), True → BI G A s.heap out.2.1 (nx + out.2.2.1) H1 locs1 → W p l e R s m args below meth c H1 locs1 (cells + out.2.2.1) (slots + out.2.2.2) Q (F0 m (pc + 3) ls (.ref out.1 :: rest))) : W p l e R s m args below meth c H locs cells slots Q (F0 m pc ls (.ref o :: rest)) := by
  have hN := hS.2.1
  obtain ⟨fs, he⟩ := isO_s ho
  exact br_w (va_runV (As := []) S (mm_J2_iterator (l := l) (G := G) (fE := fE) (lE := lE) hf) (cwV 0 S.2.2.2.2 (lw_V q1502 q978 q979 q177 q980) rfl rfl rfl hd_J2_iterator hR) (bPreV hS hB (ci := 11) rfl he) rfl rfl hsz rfl (lv_room hW) hdg hcs) hB kk
set_option maxRecDepth 100000 in
theorem mc_X4_123 {o : Nat} {out : Nat × AH × Nat × Nat} (S : CallFix p m c cc nL s args lw_all RX4) (hS : SK G E.1 hSites A s) (hB : BI G A s.heap h nx H locs) (ho : isO h o 11 = true) (hf : f_J2_iterator E h nx o = some out) (hsz : ls.size = nL) (hR : (fE + 2) + 1 ≤ R.frames ∧ 8 + (1 + 11) + (lE + 61) ≤ R.locals) (hW : (rest.map fun v => v.category).sum ≤ 8) (hcs : cells + out.2.2.1 ≤ R.cells ∧ slots + out.2.2.2 ≤ R.slots) (hdg : decode cc pc = .ok (.invokevirtual 123, 3))  (kk : ∀ (H1 : Heap) (locs1 : List Loc), True → BI G A s.heap out.2.1 (nx + out.2.2.1) H1 locs1 → W p l e R s m args below meth c H1 locs1 (cells + out.2.2.1) (slots + out.2.2.2) Q (F0 m (pc + 3) ls (.ref out.1 :: rest))) : W p l e R s m args below meth c H locs cells slots Q (F0 m pc ls (.ref o :: rest)) := by
  have hN := hS.2.1
  obtain ⟨fs, he⟩ := isO_s ho
  exact br_w (va_runV (As := []) S (mm_J2_iterator (l := l) (G := G) (fE := fE) (lE := lE) hf) (cwV 0 S.2.2.2.2 (lw_V q977 q978 q979 q177 q980) rfl rfl rfl hd_J2_iterator hR) (bPreV hS hB (ci := 11) rfl he) rfl rfl hsz rfl (lv_room hW) hdg hcs) hB kk
set_option maxRecDepth 100000 in
theorem mc_J11_194 {a0 : Int32} {a1 : Int32} {out : Int32} (S : CallFix p m c cc nL s args lw_all RJ11) (hK : va_K D cl tys s) (hf : f_J6_max a0 a1 = some out) (hsz : ls.size = nL) (hR : 0 + 1 ≤ R.frames ∧ 8 + (2 + 11) + 0 ≤ R.locals) (hW : (rest.map fun v => v.category).sum ≤ 8) (hcs : cells ≤ R.cells ∧ slots ≤ R.slots) (hdg : decode cc pc = .ok (.invokestatic 194, 3))  (kk : True → W p l e R s m args below meth c H locs cells slots Q (F0 m (pc + 3) ls (.int out :: rest))) : W p l e R s m args below meth c H locs cells slots Q (F0 m pc ls (.int a1 :: .int a0 :: rest)) := by
  exact br_r (va_runS (As := [.int a0, .int a1]) S (mm_J6_max hf) (va_cwS 2 S.2.2.2.2 (lw_S q697 q357 q184 q358) rfl rfl rfl hd_J6_max hR) (gPreS hK gP0) rfl rfl hsz rfl (lv_room hW) hdg hcs) kk
set_option maxRecDepth 100000 in
theorem mc_J2_79 {a0 : Int32} {a1 : Int32} {out : Int32} (S : CallFix p m c cc nL s args lw_all RJ2) (hK : va_K D cl tys s) (hf : f_J6_max a0 a1 = some out) (hsz : ls.size = nL) (hR : 0 + 1 ≤ R.frames ∧ 8 + (2 + 11) + 0 ≤ R.locals) (hW : (rest.map fun v => v.category).sum ≤ 8) (hcs : cells ≤ R.cells ∧ slots ≤ R.slots) (hdg : decode cc pc = .ok (.invokestatic 79, 3))  (kk : True → W p l e R s m args below meth c H locs cells slots Q (F0 m (pc + 3) ls (.int out :: rest))) : W p l e R s m args below meth c H locs cells slots Q (F0 m pc ls (.int a1 :: .int a0 :: rest)) := by
  exact br_r (va_runS (As := [.int a0, .int a1]) S (mm_J6_max hf) (va_cwS 2 S.2.2.2.2 (lw_S q1125 q357 q184 q358) rfl rfl rfl hd_J6_max hR) (gPreS hK gP0) rfl rfl hsz rfl (lv_room hW) hdg hcs) kk
set_option maxRecDepth 100000 in
theorem mc_X1_19 {a0 : Int32} {a1 : Int32} {out : Int32} (S : CallFix p m c cc nL s args lw_all RX1) (hK : va_K D cl tys s) (hf : f_J6_max a0 a1 = some out) (hsz : ls.size = nL) (hR : 0 + 1 ≤ R.frames ∧ 8 + (2 + 11) + 0 ≤ R.locals) (hW : (rest.map fun v => v.category).sum ≤ 8) (hcs : cells ≤ R.cells ∧ slots ≤ R.slots) (hdg : decode cc pc = .ok (.invokestatic 19, 3))  (kk : True → W p l e R s m args below meth c H locs cells slots Q (F0 m (pc + 3) ls (.int out :: rest))) : W p l e R s m args below meth c H locs cells slots Q (F0 m pc ls (.int a1 :: .int a0 :: rest)) := by
  exact br_r (va_runS (As := [.int a0, .int a1]) S (mm_J6_max hf) (va_cwS 2 S.2.2.2.2 (lw_S q1345 q357 q184 q358) rfl rfl rfl hd_J6_max hR) (gPreS hK gP0) rfl rfl hsz rfl (lv_room hW) hdg hcs) kk
set_option maxRecDepth 100000 in
theorem mc_X10_78 {a0 : Int32} {a1 : Int32} {out : Int32} (S : CallFix p m c cc nL s args lw_all RX10) (hK : va_K D cl tys s) (hf : f_J6_max a0 a1 = some out) (hsz : ls.size = nL) (hR : 0 + 1 ≤ R.frames ∧ 8 + (2 + 11) + 0 ≤ R.locals) (hW : (rest.map fun v => v.category).sum ≤ 8) (hcs : cells ≤ R.cells ∧ slots ≤ R.slots) (hdg : decode cc pc = .ok (.invokestatic 78, 3))  (kk : True → W p l e R s m args below meth c H locs cells slots Q (F0 m (pc + 3) ls (.int out :: rest))) : W p l e R s m args below meth c H locs cells slots Q (F0 m pc ls (.int a1 :: .int a0 :: rest)) := by
  exact br_r (va_runS (As := [.int a0, .int a1]) S (mm_J6_max hf) (va_cwS 2 S.2.2.2.2 (lw_S q1701 q357 q184 q358) rfl rfl rfl hd_J6_max hR) (gPreS hK gP0) rfl rfl hsz rfl (lv_room hW) hdg hcs) kk
set_option maxRecDepth 100000 in
theorem mc_X2_217 {a0 : Int32} {a1 : Int32} {out : Int32} (S : CallFix p m c cc nL s args lw_all RX2) (hK : va_K D cl tys s) (hf : f_J6_max a0 a1 = some out) (hsz : ls.size = nL) (hR : 0 + 1 ≤ R.frames ∧ 8 + (2 + 11) + 0 ≤ R.locals) (hW : (rest.map fun v => v.category).sum ≤ 8) (hcs : cells ≤ R.cells ∧ slots ≤ R.slots) (hdg : decode cc pc = .ok (.invokestatic 217, 3))  (kk : True → W p l e R s m args below meth c H locs cells slots Q (F0 m (pc + 3) ls (.int out :: rest))) : W p l e R s m args below meth c H locs cells slots Q (F0 m pc ls (.int a1 :: .int a0 :: rest)) := by
  exact br_r (va_runS (As := [.int a0, .int a1]) S (mm_J6_max hf) (va_cwS 2 S.2.2.2.2 (lw_S q356 q357 q184 q358) rfl rfl rfl hd_J6_max hR) (gPreS hK gP0) rfl rfl hsz rfl (lv_room hW) hdg hcs) kk
theorem hd_J11_newLength : yJ11_newLength.cls ≠ "java/lang/invoke/MethodHandle" ∧ yJ11_newLength.cls ≠ "java/lang/invoke/VarHandle" ∧ (parseMethodDescriptor yJ11_newLength.desc).map (fun d => d.parameters.length) = some 3 := by decide +kernel
set_option maxHeartbeats 4000000 in
set_option maxRecDepth 100000 in
theorem mm_J11_newLength {a0 : Int32} {a1 : Int32} {a2 : Int32} {out : Int32} (hf : f_J11_newLength a0 a1 a2 = some out) : Met l yJ11_newLength (ws_ yJ11_newLength cJ11_newLength 4 (some .int)) (rM 1 21) (gPc D cl tys [.int a0, .int a1, .int a2] []) (gR (some (.int out)) True) 0 0 (fun _ => False) := by
  refine gGo (by decide +kernel) (Nat.le_of_ble_eq_true rfl) (fun p e s m below meth c ls S hr hlocks hK hP hl => ?_)
  have S : CallFix p m c cJ11_newLength 4 s _ lw_all RJ11 := S
  obtain ⟨hx, hb, hml, hown, hts⟩ := id S
  have hl : lv_has ls 4 [(0, .int a0), (1, .int a1), (2, .int a2)] := hl
  rw [f_J11_newLength] at hf
  refine lv_iload_n hx hb dJ11_newLength_0 rfl (lv_at hl 0 rfl) ?_
  refine lv_iload_n hx hb dJ11_newLength_1 rfl (lv_at hl 1 rfl) ?_
  refine lv_iload_n hx hb dJ11_newLength_2 rfl (lv_at hl 2 rfl) ?_
  obtain ⟨v1, hv1, hf⟩ := ob_s hf
  refine mc_J11_194 S hK hv1 hl.1 ⟨(by show _ ≤ 1; omega), (by show _ ≤ 21; omega)⟩ (Nat.le_of_ble_eq_true rfl) ⟨Nat.zero_le _, Nat.zero_le _⟩ dJ11_newLength_3 (fun _ => ?_)
  refine lv_iadd hx hb dJ11_newLength_6 ?_
  refine lv_istore_n (i := 3) (lv' := [(3, .int (a0 + v1)), (0, .int a0), (1, .int a1), (2, .int a2)]) hx hb dJ11_newLength_7 rfl hl (by decide) rfl (fun ls hl => ?_)
  refine lv_iconst hx hb dJ11_newLength_8 kc_i0 ?_
  refine lv_iload_n hx hb dJ11_newLength_9 rfl (lv_at hl 0 rfl) ?_
  refine lv_icmp_ge (tgt := 21) hx hb dJ11_newLength_10 (by decide) (fun c2 => ?_) (fun c2 => ?_)
  · replace hf := it_t c2 hf
    exact absurd hf (by nofun)
  · replace hf := it_f c2 hf
    refine lv_iload_n hx hb dJ11_newLength_13 rfl (lv_at hl 0 rfl) ?_
    refine lv_ldc hx hb hown (hts _ q698) dJ11_newLength_14 ?_
    refine lv_icmp_gt (tgt := 21) hx hb dJ11_newLength_16 (by decide) (fun c3 => ?_) (fun c3 => ?_)
    · replace hf := it_t c3 hf
      exact absurd hf (by nofun)
    · replace hf := it_f c3 hf
      refine lv_iload_n hx hb dJ11_newLength_19 rfl (lv_at hl 0 rfl) ?_
      have hE9 := Option.some.inj hf
      subst hE9
      exact gt_ri S hr hlocks trivial dJ11_newLength_20
set_option maxRecDepth 100000 in
theorem mc_J2_73 {a0 : Int32} {a1 : Int32} {a2 : Int32} {out : Int32} (S : CallFix p m c cc nL s args lw_all RJ2) (hK : va_K D cl tys s) (hf : f_J11_newLength a0 a1 a2 = some out) (hsz : ls.size = nL) (hR : 1 + 1 ≤ R.frames ∧ 8 + (4 + 11) + 21 ≤ R.locals) (hW : (rest.map fun v => v.category).sum ≤ 8) (hcs : cells ≤ R.cells ∧ slots ≤ R.slots) (hdg : decode cc pc = .ok (.invokestatic 73, 3))  (kk : True → W p l e R s m args below meth c H locs cells slots Q (F0 m (pc + 3) ls (.int out :: rest))) : W p l e R s m args below meth c H locs cells slots Q (F0 m pc ls (.int a2 :: .int a1 :: .int a0 :: rest)) := by
  exact br_r (va_runS (As := [.int a0, .int a1, .int a2]) S (mm_J11_newLength hf) (va_cwS 3 S.2.2.2.2 (lw_S q1096 q695 q191 q696) rfl rfl rfl hd_J11_newLength hR) (gPreS hK gP0) rfl rfl hsz rfl (lv_room hW) hdg hcs) kk
set_option maxRecDepth 100000 in
theorem mc_J7_114 {a0 : Int32} {a1 : Int32} {a2 : Int32} {out : Int32} (S : CallFix p m c cc nL s args lw_all RJ7) (hK : va_K D cl tys s) (hf : f_J11_newLength a0 a1 a2 = some out) (hsz : ls.size = nL) (hR : 1 + 1 ≤ R.frames ∧ 8 + (4 + 11) + 21 ≤ R.locals) (hW : (rest.map fun v => v.category).sum ≤ 8) (hcs : cells ≤ R.cells ∧ slots ≤ R.slots) (hdg : decode cc pc = .ok (.invokestatic 114, 3))  (kk : True → W p l e R s m args below meth c H locs cells slots Q (F0 m (pc + 3) ls (.int out :: rest))) : W p l e R s m args below meth c H locs cells slots Q (F0 m pc ls (.int a2 :: .int a1 :: .int a0 :: rest)) := by
  exact br_r (va_runS (As := [.int a0, .int a1, .int a2]) S (mm_J11_newLength hf) (va_cwS 3 S.2.2.2.2 (lw_S q694 q695 q191 q696) rfl rfl rfl hd_J11_newLength hR) (gPreS hK gP0) rfl rfl hsz rfl (lv_room hW) hdg hcs) kk
theorem hd_J6_min : yJ6_min.cls ≠ "java/lang/invoke/MethodHandle" ∧ yJ6_min.cls ≠ "java/lang/invoke/VarHandle" ∧ (parseMethodDescriptor yJ6_min.desc).map (fun d => d.parameters.length) = some 2 := by decide +kernel
set_option maxHeartbeats 4000000 in
set_option maxRecDepth 100000 in
theorem mm_J6_min {a0 : Int32} {a1 : Int32} {out : Int32} (hf : f_J6_min a0 a1 = some out) : Met l yJ6_min (ws_ yJ6_min cJ6_min 2 (some .int)) (rM 0 0) (gPc D cl tys [.int a0, .int a1] []) (gR (some (.int out)) True) 0 0 (fun _ => False) := by
  refine gGo (by decide +kernel) (Nat.le_of_ble_eq_true rfl) (fun p e s m below meth c ls S hr hlocks hK hP hl => ?_)
  have S : CallFix p m c cJ6_min 2 s _ lw_all RJ6 := S
  obtain ⟨hx, hb, hml, hown, hts⟩ := id S
  have hl : lv_has ls 2 [(0, .int a0), (1, .int a1)] := hl
  rw [f_J6_min] at hf
  refine lv_iload_n hx hb dJ6_min_0 rfl (lv_at hl 0 rfl) ?_
  refine lv_iload_n hx hb dJ6_min_1 rfl (lv_at hl 1 rfl) ?_
  refine lv_icmp_gt (tgt := 9) hx hb dJ6_min_2 (by decide) (fun c1 => ?_) (fun c1 => ?_)
  · replace hf := it_t c1 hf
    refine lv_iload_n hx hb dJ6_min_9 rfl (lv_at hl 1 rfl) ?_
    have hE9 := Option.some.inj hf
    subst hE9
    exact gt_ri S hr hlocks trivial dJ6_min_10
  · replace hf := it_f c1 hf
    refine lv_iload_n hx hb dJ6_min_5 rfl (lv_at hl 0 rfl) ?_
    refine lv_goto (tgt := 10) hx hb dJ6_min_6 (by decide) ?_
    have hE9 := Option.some.inj hf
    subst hE9
    exact gt_ri S hr hlocks trivial dJ6_min_10
set_option maxRecDepth 100000 in
theorem mc_J12_304 {a0 : Int32} {a1 : Int32} {out : Int32} (S : CallFix p m c cc nL s args lw_all RJ12) (hK : va_K D cl tys s) (hf : f_J6_min a0 a1 = some out) (hsz : ls.size = nL) (hR : 0 + 1 ≤ R.frames ∧ 8 + (2 + 11) + 0 ≤ R.locals) (hW : (rest.map fun v => v.category).sum ≤ 8) (hcs : cells ≤ R.cells ∧ slots ≤ R.slots) (hdg : decode cc pc = .ok (.invokestatic 304, 3))  (kk : True → W p l e R s m args below meth c H locs cells slots Q (F0 m (pc + 3) ls (.int out :: rest))) : W p l e R s m args below meth c H locs cells slots Q (F0 m pc ls (.int a1 :: .int a0 :: rest)) := by
  exact br_r (va_runS (As := [.int a0, .int a1]) S (mm_J6_min hf) (va_cwS 2 S.2.2.2.2 (lw_S q713 q714 q184 q715) rfl rfl rfl hd_J6_min hR) (gPreS hK gP0) rfl rfl hsz rfl (lv_room hW) hdg hcs) kk
set_option maxRecDepth 100000 in
theorem mc_J7_138 {a0 : Int32} {a1 : Int32} {out : Int32} (S : CallFix p m c cc nL s args lw_all RJ7) (hK : va_K D cl tys s) (hf : f_J6_min a0 a1 = some out) (hsz : ls.size = nL) (hR : 0 + 1 ≤ R.frames ∧ 8 + (2 + 11) + 0 ≤ R.locals) (hW : (rest.map fun v => v.category).sum ≤ 8) (hcs : cells ≤ R.cells ∧ slots ≤ R.slots) (hdg : decode cc pc = .ok (.invokestatic 138, 3))  (kk : True → W p l e R s m args below meth c H locs cells slots Q (F0 m (pc + 3) ls (.int out :: rest))) : W p l e R s m args below meth c H locs cells slots Q (F0 m pc ls (.int a1 :: .int a0 :: rest)) := by
  exact br_r (va_runS (As := [.int a0, .int a1]) S (mm_J6_min hf) (va_cwS 2 S.2.2.2.2 (lw_S q1984 q714 q184 q715) rfl rfl rfl hd_J6_min hR) (gPreS hK gP0) rfl rfl hsz rfl (lv_room hW) hdg hcs) kk
theorem hd_J12_copyOf_3 : yJ12_copyOf_3.cls ≠ "java/lang/invoke/MethodHandle" ∧ yJ12_copyOf_3.cls ≠ "java/lang/invoke/VarHandle" ∧ (parseMethodDescriptor yJ12_copyOf_3.desc).map (fun d => d.parameters.length) = some 3 := by decide +kernel
set_option maxHeartbeats 4000000 in
set_option maxRecDepth 100000 in
theorem mm_J12_copyOf_3 {a0 : Nat} {a1 : Int32} {a2 : Nat} {out : Nat × AH × Nat × Nat} (hf : f_J12_copyOf_3 E h nx a0 a1 a2 = some out) : Met l yJ12_copyOf_3 (ws_ yJ12_copyOf_3 cJ12_copyOf_3 4 (some (.array (.object "java/lang/Object")))) (rC (fE + 1) (lE + 120) out.2.2.1 out.2.2.2) (bPc G E.1 hSites h nx [.ref a0, .int a1, .ref a2]) (bQ G (some (.ref out.1)) True out.2.1 (nx + out.2.2.1) (AA h nx)) out.2.2.1 out.2.2.2 (AA h nx) := by
  refine bGo (by decide +kernel) (Nat.le_of_ble_eq_true rfl) (fun p e s m below meth c ls S hr hlocks hin hnm hS hB hl => ?_)
  have S : CallFix p m c cJ12_copyOf_3 4 s _ lw_all RJ12 := S
  obtain ⟨hx, hb, hml, hown, hts⟩ := id S
  have hl : lv_has ls 4 [(0, .ref a0), (1, .int a1), (2, .ref a2)] := hl
  have hT : TL out out 0 0 := TL_0
  rw [f_J12_copyOf_3] at hf
  refine lv_aload_n hx hb dJ12_copyOf_3_0 rfl (lv_at hl 2 rfl) ?_
  refine b_ldcM S hS (hts _ q1123) dJ12_copyOf_3_1 ?_
  refine lb_acmp_ne (tgt := 13) hx hb dJ12_copyOf_3_3 (by decide) (fun c1 => ?_) (fun c1 => ?_)
  · replace hf := it_f c1 hf
    exact absurd hf (by nofun)
  · replace hf := it_t c1 hf
    refine lv_iload_n hx hb dJ12_copyOf_3_6 rfl (lv_at hl 1 rfl) ?_
    obtain ⟨g2, hf⟩ := gd_t hf
    obtain ⟨o3, hf, hT⟩ := TL_c hT hf
    refine b_anewN S hS hB 4 rfl (hts _ q1124) q227 rfl g2 (TL_m hT).1 (TL_m hT).2 dJ12_copyOf_3_7 (fun H hB => ?_)
    obtain ⟨h4, eh4⟩ : ∃ z, z = (hu h nx (.inl (4, a1.toNatClampNeg, .inr (.inr (.inr (.inr (fun _ => none))))))) := ⟨_, rfl⟩
    replace hf := bd_e eh4 hf
    rw [← eh4] at hB
    refine lv_goto (tgt := 24) hx hb dJ12_copyOf_3_10 (by decide) ?_
    refine lv_astore_n (i := 3) (lv' := [(3, .ref nx), (0, .ref a0), (1, .int a1), (2, .ref a2)]) hx hb dJ12_copyOf_3_24 rfl hl (by decide) rfl (fun ls hl => ?_)
    refine lv_aload_n hx hb dJ12_copyOf_3_25 rfl (lv_at hl 1 rfl) ?_
    refine lv_iconst hx hb dJ12_copyOf_3_26 kc_i0 ?_
    refine lv_aload_n hx hb dJ12_copyOf_3_27 rfl (lv_at hl 0 rfl) ?_
    refine lv_iconst hx hb dJ12_copyOf_3_28 kc_i0 ?_
    refine lv_aload_n hx hb dJ12_copyOf_3_29 rfl (lv_at hl 1 rfl) ?_
    obtain ⟨v5, hv5, hf⟩ := ob_s hf
    refine b_alen S hS.1 hB hv5 dJ12_copyOf_3_30 ?_
    refine lv_iload_n hx hb dJ12_copyOf_3_31 rfl (lv_at hl 2 rfl) ?_
    obtain ⟨v6, hv6, hf⟩ := ob_s hf
    refine mc_J12_304 S hS.1 hv6 hl.1 ⟨(by show _ ≤ (fE + 1); omega), (by show _ ≤ (lE + 120); omega)⟩ (Nat.le_of_ble_eq_true rfl) ⟨(TL_m hT).1, (TL_m hT).2⟩ dJ12_copyOf_3_32 (fun _ => ?_)
    obtain ⟨h7, hh7, hf⟩ := ob_s hf
    refine b_copyR S hS hB (by rw [hml]; exact hl.1.symm) (hts _ q716) (hts _ q257) (hts _ q256) (hts _ q179) hh7 (by show _ ≤ (fE + 1); omega) (by show _ ≤ (lE + 120); simp only [List.map, List.sum_cons, List.sum_nil, Value.category]; exact Nat.le_trans (Nat.le_of_ble_eq_true rfl : _ ≤ 120) (by omega)) dJ12_copyOf_3_35 (fun H locs hB => ?_)
    refine lv_aload_n hx hb dJ12_copyOf_3_38 rfl (lv_at hl 0 rfl) ?_
    have hE9 := TL_e hT hf
    subst hE9
    exact bt_a S hr (Or.inr ⟨_, rfl⟩) hlocks hB (by omega) trivial dJ12_copyOf_3_39
set_option maxRecDepth 100000 in
theorem mc_J12_300 {a0 : Nat} {a1 : Int32} {a2 : Nat} {out : Nat × AH × Nat × Nat} (S : CallFix p m c cc nL s args lw_all RJ12) (hS : SK G E.1 hSites A s) (hB : BI G A s.heap h nx H locs) (hf : f_J12_copyOf_3 E h nx a0 a1 a2 = some out) (hsz : ls.size = nL) (hR : (fE + 1) + 1 ≤ R.frames ∧ 8 + (4 + 11) + (lE + 120) ≤ R.locals) (hW : (rest.map fun v => v.category).sum ≤ 8) (hcs : cells + out.2.2.1 ≤ R.cells ∧ slots + out.2.2.2 ≤ R.slots) (hdg : decode cc pc = .ok (.invokestatic 300, 3))  (kk : ∀ (H1 : Heap) (locs1 : List Loc), True → BI G A s.heap out.2.1 (nx + out.2.2.1) H1 locs1 → W p l e R s m args below meth c H1 locs1 (cells + out.2.2.1) (slots + out.2.2.2) Q (F0 m (pc + 3) ls (.ref out.1 :: rest))) : W p l e R s m args below meth c H locs cells slots Q (F0 m pc ls (.ref a2 :: .int a1 :: .ref a0 :: rest)) := by
  have hN := hS.2.1
  exact br_w (va_runS (As := [.ref a0, .int a1, .ref a2]) S (mm_J12_copyOf_3 (l := l) (G := G) (fE := fE) (lE := lE) hf) (va_cwS 3 S.2.2.2.2 (lw_S q1120 q1121 q192 q1122) rfl rfl rfl hd_J12_copyOf_3 hR) (bPreS hS hB) rfl rfl hsz rfl (lv_room hW) hdg hcs) hB kk
theorem hd_J12_copyOf_2 : yJ12_copyOf_2.cls ≠ "java/lang/invoke/MethodHandle" ∧ yJ12_copyOf_2.cls ≠ "java/lang/invoke/VarHandle" ∧ (parseMethodDescriptor yJ12_copyOf_2.desc).map (fun d => d.parameters.length) = some 2 := by decide +kernel
set_option maxHeartbeats 4000000 in
set_option maxRecDepth 100000 in
theorem mm_J12_copyOf_2 {a0 : Nat} {a1 : Int32} {out : Nat × AH × Nat × Nat} (hf : f_J12_copyOf_2 E h nx a0 a1 = some out) : Met l yJ12_copyOf_2 (ws_ yJ12_copyOf_2 cJ12_copyOf_2 2 (some (.array (.object "java/lang/Object")))) (rC (fE + 2) (lE + 143) out.2.2.1 out.2.2.2) (bPc G E.1 hSites h nx [.ref a0, .int a1]) (bQ G (some (.ref out.1)) True out.2.1 (nx + out.2.2.1) (AA h nx)) out.2.2.1 out.2.2.2 (AA h nx) := by
  refine bGo (by decide +kernel) (Nat.le_of_ble_eq_true rfl) (fun p e s m below meth c ls S hr hlocks hin hnm hS hB hl => ?_)
  have S : CallFix p m c cJ12_copyOf_2 2 s _ lw_all RJ12 := S
  obtain ⟨hx, hb, hml, hown, hts⟩ := id S
  have hl : lv_has ls 2 [(0, .ref a0), (1, .int a1)] := hl
  have hT : TL out out 0 0 := TL_0
  rw [f_J12_copyOf_2] at hf
  refine lv_aload_n hx hb dJ12_copyOf_2_0 rfl (lv_at hl 0 rfl) ?_
  refine lv_iload_n hx hb dJ12_copyOf_2_1 rfl (lv_at hl 1 rfl) ?_
  refine lv_aload_n hx hb dJ12_copyOf_2_2 rfl (lv_at hl 0 rfl) ?_
  obtain ⟨g1, hf⟩ := gd_t hf
  refine b_getC S hS hB (by rw [hml]; exact hl.1.symm) (hts _ q1100) q2682 (hts _ q2681) (hts _ q1101) (hts _ q1119) g1 (by show _ ≤ (fE + 2); omega) (by show _ ≤ (lE + 143); simp only [List.map, List.sum_cons, List.sum_nil, Value.category]; omega) dJ12_copyOf_2_3 ?_
  obtain ⟨v2, hv2, hf⟩ := ob_s hf
  obtain ⟨o3, hf, hT⟩ := TL_c hT hf
  refine mc_J12_300 (fE := fE) (lE := lE) S hS hB hv2 hl.1 ⟨(by show _ ≤ (fE + 2); omega), (by show _ ≤ (lE + 143); omega)⟩ (Nat.le_of_ble_eq_true rfl) ⟨(TL_m hT).1, (TL_m hT).2⟩ dJ12_copyOf_2_6 (fun H locs _ hB => ?_)
  have hE9 := TL_e hT hf
  subst hE9
  exact bt_a S hr (Or.inr ⟨_, rfl⟩) hlocks hB (by omega) trivial dJ12_copyOf_2_9
set_option maxRecDepth 100000 in
theorem mc_J2_66 {a0 : Nat} {a1 : Int32} {out : Nat × AH × Nat × Nat} (S : CallFix p m c cc nL s args lw_all RJ2) (hS : SK G E.1 hSites A s) (hB : BI G A s.heap h nx H locs) (hf : f_J12_copyOf_2 E h nx a0 a1 = some out) (hsz : ls.size = nL) (hR : (fE + 2) + 1 ≤ R.frames ∧ 8 + (2 + 11) + (lE + 143) ≤ R.locals) (hW : (rest.map fun v => v.category).sum ≤ 8) (hcs : cells + out.2.2.1 ≤ R.cells ∧ slots + out.2.2.2 ≤ R.slots) (hdg : decode cc pc = .ok (.invokestatic 66, 3))  (kk : ∀ (H1 : Heap) (locs1 : List Loc), True → BI G A s.heap out.2.1 (nx + out.2.2.1) H1 locs1 → W p l e R s m args below meth c H1 locs1 (cells + out.2.2.1) (slots + out.2.2.2) Q (F0 m (pc + 3) ls (.ref out.1 :: rest))) : W p l e R s m args below meth c H locs cells slots Q (F0 m pc ls (.int a1 :: .ref a0 :: rest)) := by
  have hN := hS.2.1
  exact br_w (va_runS (As := [.ref a0, .int a1]) S (mm_J12_copyOf_2 (l := l) (G := G) (fE := fE) (lE := lE) hf) (va_cwS 2 S.2.2.2.2 (lw_S q1097 q1098 q192 q1099) rfl rfl rfl hd_J12_copyOf_2 hR) (bPreS hS hB) rfl rfl hsz rfl (lv_room hW) hdg hcs) hB kk
theorem hd_J2_grow_2 : yJ2_grow_2.cls = RJ2 ∧ yJ2_grow_2.cls ≠ "java/lang/invoke/MethodHandle" ∧ yJ2_grow_2.cls ≠ "java/lang/invoke/VarHandle" ∧ (parseMethodDescriptor yJ2_grow_2.desc).map (fun d => d.parameters.length) = some 1 := by decide +kernel
set_option maxHeartbeats 4000000 in
set_option maxRecDepth 100000 in
theorem mm_J2_grow_2 {o : Nat} {a0 : Int32} {out : Nat × AH × Nat × Nat} (hf : f_J2_grow_2 E h nx o a0 = some out) : Met l yJ2_grow_2 (ws_ yJ2_grow_2 cJ2_grow_2 4 (some (.array (.object "java/lang/Object")))) (rC (fE + 3) (lE + 164) out.2.2.1 out.2.2.2) (bPc G E.1 hSites h nx [.ref o, .int a0]) (bQ G (some (.ref out.1)) True out.2.1 (nx + out.2.2.1) (AA h nx)) out.2.2.1 out.2.2.2 (AA h nx) := by
  refine bGo (by decide +kernel) (Nat.le_of_ble_eq_true rfl) (fun p e s m below meth c ls S hr hlocks hin hnm hS hB hl => ?_)
  have S : CallFix p m c cJ2_grow_2 4 s _ lw_all RJ2 := S
  obtain ⟨hx, hb, hml, hown, hts⟩ := id S
  have hl : lv_has ls 4 [(0, .ref o), (1, .int a0)] := hl
  have w20 : ∀ (x0 : Nat) (x1 : Int32) (x2 : Int32) (hc : AH) (nc : Nat) (ls : Array Slot) (H : Heap) (locs : List Loc) (ce sl : Nat) (o1 : Nat × AH × Nat × Nat), BI G (AA h nx) s.heap hc nc H locs → nc = nx + ce → TL out o1 ce sl → lv_has ls 4 [(0, .ref x0), (1, .int x1), (2, .int x2)] → f_J2_grow_2_20 E x0 x1 x2 hc nc = some o1 → W p l e (rC (fE + 3) (lE + 164) out.2.2.1 out.2.2.2) s m ([.ref o, .int a0] : List Value).toArray below meth c H locs ce sl (MQ below (bQ G (some (.ref out.1)) True out.2.1 (nx + out.2.2.1) (AA h nx)) ([.ref o, .int a0] : List Value).toArray s out.2.2.1 out.2.2.2 (AA h nx)) (F0 m 20 ls []) := by
    intro x0 x1 x2 hc nc ls H locs ce sl o1 hB hn hT hl hf
    rw [f_J2_grow_2_20] at hf
    refine lv_iload_n hx hb dJ2_grow_2_20 rfl (lv_at hl 2 rfl) ?_
    refine lv_iload_n hx hb dJ2_grow_2_21 rfl (lv_at hl 1 rfl) ?_
    refine lv_iload_n hx hb dJ2_grow_2_22 rfl (lv_at hl 2 rfl) ?_
    refine lv_isub hx hb dJ2_grow_2_23 ?_
    refine lv_iload_n hx hb dJ2_grow_2_24 rfl (lv_at hl 2 rfl) ?_
    refine lv_iconst hx hb dJ2_grow_2_25 kc_i1 ?_
    refine lv_ishr hx hb dJ2_grow_2_26 ?_
    obtain ⟨v1, hv1, hf⟩ := ob_s hf
    refine mc_J2_73 S hS.1 hv1 hl.1 ⟨(by show _ ≤ (fE + 3); omega), (by show _ ≤ (lE + 164); omega)⟩ (Nat.le_of_ble_eq_true rfl) ⟨(TL_m hT).1, (TL_m hT).2⟩ dJ2_grow_2_27 (fun _ => ?_)
    refine lv_istore_n (i := 3) (lv' := [(3, .int v1), (0, .ref x0), (1, .int x1), (2, .int x2)]) hx hb dJ2_grow_2_30 rfl hl (by decide) rfl (fun ls hl => ?_)
    refine lv_aload_n hx hb dJ2_grow_2_31 rfl (lv_at hl 1 rfl) ?_
    refine lv_aload_n hx hb dJ2_grow_2_32 rfl (lv_at hl 1 rfl) ?_
    obtain ⟨v2, hv2, hf⟩ := ob_s hf
    refine bg_J2_9 S hS hB (vR_s hv2) dJ2_grow_2_33 ?_
    refine lv_iload_n hx hb dJ2_grow_2_36 rfl (lv_at hl 0 rfl) ?_
    obtain ⟨v3, hv3, hf⟩ := ob_s hf
    obtain ⟨o4, hf, hT⟩ := TL_c hT hf
    refine mc_J2_66 (fE := fE) (lE := lE) S hS hB hv3 hl.1 ⟨(by show _ ≤ (fE + 3); omega), (by show _ ≤ (lE + 164); omega)⟩ (Nat.le_of_ble_eq_true rfl) ⟨(TL_m hT).1, (TL_m hT).2⟩ dJ2_grow_2_37 (fun H locs _ hB => ?_)
    refine lv_dup_x1 hx hb dJ2_grow_2_40 rfl rfl ?_
    obtain ⟨h5, hh5, hf⟩ := ob_s hf
    refine bp_J2_9 S hS hB hh5 dJ2_grow_2_41 (fun H locs hB => ?_)
    have hE9 := TL_e hT hf
    subst hE9
    exact bt_a S hr (Or.inr ⟨_, rfl⟩) hlocks hB (by omega) trivial dJ2_grow_2_44
  have hT : TL out out 0 0 := TL_0
  rw [f_J2_grow_2] at hf
  refine lv_aload_n hx hb dJ2_grow_2_0 rfl (lv_at hl 0 rfl) ?_
  obtain ⟨v1, hv1, hf⟩ := ob_s hf
  refine bg_J2_9 S hS hB (vR_s hv1) dJ2_grow_2_1 ?_
  obtain ⟨v2, hv2, hf⟩ := ob_s hf
  refine b_alen S hS.1 hB hv2 dJ2_grow_2_4 ?_
  refine lv_istore_n (i := 2) (lv' := [(2, .int v2), (0, .ref o), (1, .int a0)]) hx hb dJ2_grow_2_5 rfl hl (by decide) rfl (fun ls hl => ?_)
  refine lv_iload_n hx hb dJ2_grow_2_6 rfl (lv_at hl 0 rfl) ?_
  refine lv_if_gt (tgt := 20) hx hb dJ2_grow_2_7 (by decide) (fun c3 => ?_) (fun c3 => ?_)
  · replace hf := it_t c3 hf
    exact (w20) o a0 v2 h nx ls s.heap [] 0 0 out hB (by omega) hT (lv_sub (l' := [(0, .ref o), (1, .int a0), (2, .int v2)]) hl [1, 2, 0] rfl) hf
  · replace hf := it_f c3 hf
    refine lv_aload_n hx hb dJ2_grow_2_10 rfl (lv_at hl 1 rfl) ?_
    obtain ⟨v4, hv4, hf⟩ := ob_s hf
    refine bg_J2_9 S hS hB (vR_s hv4) dJ2_grow_2_11 ?_
    refine b_gets S hS hB 4 rfl (hts _ q1094) dJ2_grow_2_14 ?_
    refine lb_acmp_eq (tgt := 45) hx hb dJ2_grow_2_17 (by decide) (fun c5 => ?_) (fun c5 => ?_)
    · replace hf := it_t c5 hf
      refine lv_aload_n hx hb dJ2_grow_2_45 rfl (lv_at hl 1 rfl) ?_
      refine lv_bipush hx hb dJ2_grow_2_46 kc_b10 ?_
      refine lv_iload_n hx hb dJ2_grow_2_48 rfl (lv_at hl 2 rfl) ?_
      obtain ⟨v6, hv6, hf⟩ := ob_s hf
      refine mc_J2_79 S hS.1 hv6 hl.1 ⟨(by show _ ≤ (fE + 3); omega), (by show _ ≤ (lE + 164); omega)⟩ (Nat.le_of_ble_eq_true rfl) ⟨(TL_m hT).1, (TL_m hT).2⟩ dJ2_grow_2_49 (fun _ => ?_)
      obtain ⟨g7, hf⟩ := gd_t hf
      obtain ⟨o8, hf, hT⟩ := TL_c hT hf
      refine b_anewN S hS hB 4 rfl (hts _ q226) q227 rfl g7 (TL_m hT).1 (TL_m hT).2 dJ2_grow_2_52 (fun H hB => ?_)
      obtain ⟨h9, eh9⟩ : ∃ z, z = (hu h nx (.inl (4, v6.toNatClampNeg, .inr (.inr (.inr (.inr (fun _ => none))))))) := ⟨_, rfl⟩
      replace hf := bd_e eh9 hf
      rw [← eh9] at hB
      refine lv_dup_x1 hx hb dJ2_grow_2_55 rfl rfl ?_
      obtain ⟨h10, hh10, hf⟩ := ob_s hf
      refine bp_J2_9 S hS hB hh10 dJ2_grow_2_56 (fun H locs hB => ?_)
      have hE9 := TL_e hT hf
      subst hE9
      exact bt_a S hr (Or.inr ⟨_, rfl⟩) hlocks hB (by omega) trivial dJ2_grow_2_59
    · replace hf := it_f c5 hf
      exact (w20) o a0 v2 h nx ls s.heap [] 0 0 out hB (by omega) hT (lv_sub (l' := [(0, .ref o), (1, .int a0), (2, .int v2)]) hl [1, 2, 0] rfl) hf
set_option maxRecDepth 100000 in
theorem mc_J2_69 {o : Nat} {a0 : Int32} {out : Nat × AH × Nat × Nat} (S : CallFix p m c cc nL s args lw_all RJ2) (hS : SK G E.1 hSites A s) (hB : BI G A s.heap h nx H locs) (ho : isO h o 11 = true) (hf : f_J2_grow_2 E h nx o a0 = some out) (hsz : ls.size = nL) (hR : (fE + 3) + 1 ≤ R.frames ∧ 8 + (4 + 11) + (lE + 164) ≤ R.locals) (hW : (rest.map fun v => v.category).sum ≤ 8) (hcs : cells + out.2.2.1 ≤ R.cells ∧ slots + out.2.2.2 ≤ R.slots) (hdg : decode cc pc = .ok (.invokevirtual 69, 3))  (kk : ∀ (H1 : Heap) (locs1 : List Loc), True → BI G A s.heap out.2.1 (nx + out.2.2.1) H1 locs1 → W p l e R s m args below meth c H1 locs1 (cells + out.2.2.1) (slots + out.2.2.2) Q (F0 m (pc + 3) ls (.ref out.1 :: rest))) : W p l e R s m args below meth c H locs cells slots Q (F0 m pc ls (.int a0 :: .ref o :: rest)) := by
  have hN := hS.2.1
  obtain ⟨fs, he⟩ := isO_s ho
  exact br_w (va_runV (As := [.int a0]) S (mm_J2_grow_2 (l := l) (G := G) (fE := fE) (lE := lE) hf) (cwV 1 S.2.2.2.2 (lw_V q1090 q1092 qs29 q177 q1093) rfl rfl rfl hd_J2_grow_2 hR) (bPreV hS hB (ci := 11) rfl he) rfl rfl hsz rfl (lv_room hW) hdg hcs) hB kk
theorem hd_J2_grow : yJ2_grow.cls = RJ2 ∧ yJ2_grow.cls ≠ "java/lang/invoke/MethodHandle" ∧ yJ2_grow.cls ≠ "java/lang/invoke/VarHandle" ∧ (parseMethodDescriptor yJ2_grow.desc).map (fun d => d.parameters.length) = some 0 := by decide +kernel
set_option maxHeartbeats 4000000 in
set_option maxRecDepth 100000 in
theorem mm_J2_grow {o : Nat} {out : Nat × AH × Nat × Nat} (hf : f_J2_grow E h nx o = some out) : Met l yJ2_grow (ws_ yJ2_grow cJ2_grow 1 (some (.array (.object "java/lang/Object")))) (rC (fE + 4) (lE + 187) out.2.2.1 out.2.2.2) (bPc G E.1 hSites h nx [.ref o]) (bQ G (some (.ref out.1)) True out.2.1 (nx + out.2.2.1) (AA h nx)) out.2.2.1 out.2.2.2 (AA h nx) := by
  refine bGo (by decide +kernel) (Nat.le_of_ble_eq_true rfl) (fun p e s m below meth c ls S hr hlocks hin hnm hS hB hl => ?_)
  have S : CallFix p m c cJ2_grow 1 s _ lw_all RJ2 := S
  obtain ⟨hx, hb, hml, hown, hts⟩ := id S
  have hl : lv_has ls 1 [(0, .ref o)] := hl
  have hT : TL out out 0 0 := TL_0
  rw [f_J2_grow] at hf
  refine lv_aload_n hx hb dJ2_grow_0 rfl (lv_at hl 0 rfl) ?_
  refine lv_aload_n hx hb dJ2_grow_1 rfl (lv_at hl 0 rfl) ?_
  obtain ⟨v1, hv1, hf⟩ := ob_s hf
  refine bg_J2_48 S hS hB (vI_s hv1) dJ2_grow_2 ?_
  refine lv_iconst hx hb dJ2_grow_5 kc_i1 ?_
  refine lv_iadd hx hb dJ2_grow_6 ?_
  obtain ⟨g2, hf⟩ := gd_t hf
  obtain ⟨v3, hv3, hf⟩ := ob_s hf
  obtain ⟨o4, hf, hT⟩ := TL_c hT hf
  refine mc_J2_69 (fE := fE) (lE := lE) S hS hB g2 hv3 hl.1 ⟨(by show _ ≤ (fE + 4); omega), (by show _ ≤ (lE + 187); omega)⟩ (Nat.le_of_ble_eq_true rfl) ⟨(TL_m hT).1, (TL_m hT).2⟩ dJ2_grow_7 (fun H locs _ hB => ?_)
  have hE9 := TL_e hT hf
  subst hE9
  exact bt_a S hr (Or.inr ⟨_, rfl⟩) hlocks hB (by omega) trivial dJ2_grow_10
set_option maxRecDepth 100000 in
theorem mc_J2_129 {o : Nat} {out : Nat × AH × Nat × Nat} (S : CallFix p m c cc nL s args lw_all RJ2) (hS : SK G E.1 hSites A s) (hB : BI G A s.heap h nx H locs) (ho : isO h o 11 = true) (hf : f_J2_grow E h nx o = some out) (hsz : ls.size = nL) (hR : (fE + 4) + 1 ≤ R.frames ∧ 8 + (1 + 11) + (lE + 187) ≤ R.locals) (hW : (rest.map fun v => v.category).sum ≤ 8) (hcs : cells + out.2.2.1 ≤ R.cells ∧ slots + out.2.2.2 ≤ R.slots) (hdg : decode cc pc = .ok (.invokevirtual 129, 3))  (kk : ∀ (H1 : Heap) (locs1 : List Loc), True → BI G A s.heap out.2.1 (nx + out.2.2.1) H1 locs1 → W p l e R s m args below meth c H1 locs1 (cells + out.2.2.1) (slots + out.2.2.2) Q (F0 m (pc + 3) ls (.ref out.1 :: rest))) : W p l e R s m args below meth c H locs cells slots Q (F0 m pc ls (.ref o :: rest)) := by
  have hN := hS.2.1
  obtain ⟨fs, he⟩ := isO_s ho
  exact br_w (va_runV (As := []) S (mm_J2_grow (l := l) (G := G) (fE := fE) (lE := lE) hf) (cwV 0 S.2.2.2.2 (lw_V q1086 q1088 qs28 q177 q1089) rfl rfl rfl hd_J2_grow hR) (bPreV hS hB (ci := 11) rfl he) rfl rfl hsz rfl (lv_room hW) hdg hcs) hB kk
theorem hd_J2_add_2 : yJ2_add_2.cls = RJ2 ∧ yJ2_add_2.cls ≠ "java/lang/invoke/MethodHandle" ∧ yJ2_add_2.cls ≠ "java/lang/invoke/VarHandle" ∧ (parseMethodDescriptor yJ2_add_2.desc).map (fun d => d.parameters.length) = some 3 := by decide +kernel
set_option maxHeartbeats 4000000 in
set_option maxRecDepth 100000 in
theorem mm_J2_add_2 {o : Nat} {a0 : Nat} {a1 : Nat} {a2 : Int32} {out : Unit × AH × Nat × Nat} (hf : f_J2_add_2 E h nx o a0 a1 a2 = some out) : Met l yJ2_add_2 (ws_ yJ2_add_2 cJ2_add_2 4 none) (rC (fE + 5) (lE + 207) out.2.2.1 out.2.2.2) (bPc G E.1 hSites h nx [.ref o, .ref a0, .ref a1, .int a2]) (bQ G none True out.2.1 (nx + out.2.2.1) (AA h nx)) out.2.2.1 out.2.2.2 (AA h nx) := by
  refine bGo (by decide +kernel) (Nat.le_of_ble_eq_true rfl) (fun p e s m below meth c ls S hr hlocks hin hnm hS hB hl => ?_)
  have S : CallFix p m c cJ2_add_2 4 s _ lw_all RJ2 := S
  obtain ⟨hx, hb, hml, hown, hts⟩ := id S
  have hl : lv_has ls 4 [(0, .ref o), (1, .ref a0), (2, .ref a1), (3, .int a2)] := hl
  have w11 : ∀ (x0 : Nat) (x1 : Nat) (x2 : Nat) (x3 : Int32) (hc : AH) (nc : Nat) (ls : Array Slot) (H : Heap) (locs : List Loc) (ce sl : Nat) (o1 : Unit × AH × Nat × Nat), BI G (AA h nx) s.heap hc nc H locs → nc = nx + ce → TL out o1 ce sl → lv_has ls 4 [(0, .ref x0), (1, .ref x1), (2, .ref x2), (3, .int x3)] → f_J2_add_2_11 E x0 x1 x2 x3 hc nc = some o1 → W p l e (rC (fE + 5) (lE + 207) out.2.2.1 out.2.2.2) s m ([.ref o, .ref a0, .ref a1, .int a2] : List Value).toArray below meth c H locs ce sl (MQ below (bQ G none True out.2.1 (nx + out.2.2.1) (AA h nx)) ([.ref o, .ref a0, .ref a1, .int a2] : List Value).toArray s out.2.2.1 out.2.2.2 (AA h nx)) (F0 m 11 ls []) := by
    intro x0 x1 x2 x3 hc nc ls H locs ce sl o1 hB hn hT hl hf
    rw [f_J2_add_2_11] at hf
    refine lv_aload_n hx hb dJ2_add_2_11 rfl (lv_at hl 2 rfl) ?_
    refine lv_iload_n hx hb dJ2_add_2_12 rfl (lv_at hl 3 rfl) ?_
    refine lv_aload_n hx hb dJ2_add_2_13 rfl (lv_at hl 1 rfl) ?_
    obtain ⟨g1, hf⟩ := gd_t hf
    obtain ⟨h2, hh2, hf⟩ := ob_s hf
    refine b_aast S hS hB 4 rfl g1 hh2 dJ2_add_2_14 (fun H locs hB => ?_)
    refine lv_aload_n hx hb dJ2_add_2_15 rfl (lv_at hl 0 rfl) ?_
    refine lv_iload_n hx hb dJ2_add_2_16 rfl (lv_at hl 3 rfl) ?_
    refine lv_iconst hx hb dJ2_add_2_17 kc_i1 ?_
    refine lv_iadd hx hb dJ2_add_2_18 ?_
    obtain ⟨h3, hh3, hf⟩ := ob_s hf
    refine bp_J2_48 S hS hB hh3 dJ2_add_2_19 (fun H locs hB => ?_)
    have hE9 := TL_e hT hf
    subst hE9
    exact bt_v S hr hlocks hB (by omega) trivial dJ2_add_2_22
  have hT : TL out out 0 0 := TL_0
  rw [f_J2_add_2] at hf
  refine lv_iload_n hx hb dJ2_add_2_0 rfl (lv_at hl 3 rfl) ?_
  refine lv_aload_n hx hb dJ2_add_2_1 rfl (lv_at hl 2 rfl) ?_
  obtain ⟨v1, hv1, hf⟩ := ob_s hf
  refine b_alen S hS.1 hB hv1 dJ2_add_2_2 ?_
  refine lv_icmp_ne (tgt := 11) hx hb dJ2_add_2_3 (by decide) (fun c2 => ?_) (fun c2 => ?_)
  · replace hf := it_f c2 hf
    exact (w11) o a0 a1 a2 h nx ls s.heap [] 0 0 out hB (by omega) hT hl hf
  · replace hf := it_t c2 hf
    refine lv_aload_n hx hb dJ2_add_2_6 rfl (lv_at hl 0 rfl) ?_
    obtain ⟨g3, hf⟩ := gd_t hf
    obtain ⟨v4, hv4, hf⟩ := ob_s hf
    obtain ⟨o5, hf, hT⟩ := TL_c hT hf
    refine mc_J2_129 (fE := fE) (lE := lE) S hS hB g3 hv4 hl.1 ⟨(by show _ ≤ (fE + 5); omega), (by show _ ≤ (lE + 207); omega)⟩ (Nat.le_of_ble_eq_true rfl) ⟨(TL_m hT).1, (TL_m hT).2⟩ dJ2_add_2_7 (fun H locs _ hB => ?_)
    refine lv_astore_n (i := 2) (lv' := [(2, .ref v4.1), (0, .ref o), (1, .ref a0), (3, .int a2)]) hx hb dJ2_add_2_10 rfl hl (by decide) rfl (fun ls hl => ?_)
    exact (w11) o a0 v4.1 a2 v4.2.1 (nx + v4.2.2.1) ls H locs (0 + v4.2.2.1) (0 + v4.2.2.2) o5 hB (by omega) hT (lv_sub (l' := [(0, .ref o), (1, .ref a0), (2, .ref v4.1), (3, .int a2)]) hl [1, 2, 0, 3] rfl) hf
set_option maxRecDepth 100000 in
theorem mc_J2_131 {o : Nat} {a0 : Nat} {a1 : Nat} {a2 : Int32} {out : Unit × AH × Nat × Nat} (S : CallFix p m c cc nL s args lw_all RJ2) (hS : SK G E.1 hSites A s) (hB : BI G A s.heap h nx H locs) (ho : isO h o 11 = true) (hf : f_J2_add_2 E h nx o a0 a1 a2 = some out) (hsz : ls.size = nL) (hR : (fE + 5) + 1 ≤ R.frames ∧ 8 + (4 + 11) + (lE + 207) ≤ R.locals) (hW : (rest.map fun v => v.category).sum ≤ 8) (hcs : cells + out.2.2.1 ≤ R.cells ∧ slots + out.2.2.2 ≤ R.slots) (hdg : decode cc pc = .ok (.invokevirtual 131, 3))  (kk : ∀ (H1 : Heap) (locs1 : List Loc), True → BI G A s.heap out.2.1 (nx + out.2.2.1) H1 locs1 → W p l e R s m args below meth c H1 locs1 (cells + out.2.2.1) (slots + out.2.2.2) Q (F0 m (pc + 3) ls (rest))) : W p l e R s m args below meth c H locs cells slots Q (F0 m pc ls (.int a2 :: .ref a1 :: .ref a0 :: .ref o :: rest)) := by
  have hN := hS.2.1
  obtain ⟨fs, he⟩ := isO_s ho
  exact br_v (va_runV (As := [.ref a0, .ref a1, .int a2]) S (mm_J2_add_2 (l := l) (G := G) (fE := fE) (lE := lE) hf) (cwV 3 S.2.2.2.2 (lw_V q1082 q1084 qs27 q177 q1085) rfl rfl rfl hd_J2_add_2 hR) (bPreV hS hB (ci := 11) rfl he) rfl rfl hsz rfl (lv_room hW) hdg hcs) hB kk
theorem hd_J2_add : yJ2_add.cls = RJ2 ∧ yJ2_add.cls ≠ "java/lang/invoke/MethodHandle" ∧ yJ2_add.cls ≠ "java/lang/invoke/VarHandle" ∧ (parseMethodDescriptor yJ2_add.desc).map (fun d => d.parameters.length) = some 1 := by decide +kernel
set_option maxHeartbeats 4000000 in
set_option maxRecDepth 100000 in
theorem mm_J2_add {o : Nat} {a0 : Nat} {out : Int32 × AH × Nat × Nat} (hf : f_J2_add E h nx o a0 = some out) : Met l yJ2_add (ws_ yJ2_add cJ2_add 2 (some .boolean)) (rC (fE + 6) (lE + 230) out.2.2.1 out.2.2.2) (bPc G E.1 hSites h nx [.ref o, .ref a0]) (bQ G (some (.int out.1)) (narrow .boolean (.int out.1) = .int out.1) out.2.1 (nx + out.2.2.1) (AA h nx)) out.2.2.1 out.2.2.2 (AA h nx) := by
  refine bGo (by decide +kernel) (Nat.le_of_ble_eq_true rfl) (fun p e s m below meth c ls S hr hlocks hin hnm hS hB hl => ?_)
  have S : CallFix p m c cJ2_add 2 s _ lw_all RJ2 := S
  obtain ⟨hx, hb, hml, hown, hts⟩ := id S
  have hl : lv_has ls 2 [(0, .ref o), (1, .ref a0)] := hl
  have hT : TL out out 0 0 := TL_0
  rw [f_J2_add] at hf
  refine lv_aload_n hx hb dJ2_add_0 rfl (lv_at hl 0 rfl) ?_
  refine lv_dup hx hb dJ2_add_1 rfl ?_
  obtain ⟨v1, hv1, hf⟩ := ob_s hf
  refine bg_J2_63 S hS hB (vI_s hv1) dJ2_add_2 ?_
  refine lv_iconst hx hb dJ2_add_5 kc_i1 ?_
  refine lv_iadd hx hb dJ2_add_6 ?_
  obtain ⟨h2, hh2, hf⟩ := ob_s hf
  refine bp_J2_63 S hS hB hh2 dJ2_add_7 (fun H locs hB => ?_)
  refine lv_aload_n hx hb dJ2_add_10 rfl (lv_at hl 0 rfl) ?_
  refine lv_aload_n hx hb dJ2_add_11 rfl (lv_at hl 1 rfl) ?_
  refine lv_aload_n hx hb dJ2_add_12 rfl (lv_at hl 0 rfl) ?_
  obtain ⟨v3, hv3, hf⟩ := ob_s hf
  refine bg_J2_9 S hS hB (vR_s hv3) dJ2_add_13 ?_
  refine lv_aload_n hx hb dJ2_add_16 rfl (lv_at hl 0 rfl) ?_
  obtain ⟨v4, hv4, hf⟩ := ob_s hf
  refine bg_J2_48 S hS hB (vI_s hv4) dJ2_add_17 ?_
  obtain ⟨g5, hf⟩ := gd_t hf
  obtain ⟨v6, hv6, hf⟩ := ob_s hf
  obtain ⟨o7, hf, hT⟩ := TL_c hT hf
  refine mc_J2_131 (fE := fE) (lE := lE) S hS hB g5 hv6 hl.1 ⟨(by show _ ≤ (fE + 6); omega), (by show _ ≤ (lE + 230); omega)⟩ (Nat.le_of_ble_eq_true rfl) ⟨(TL_m hT).1, (TL_m hT).2⟩ dJ2_add_20 (fun H locs _ hB => ?_)
  refine lv_iconst hx hb dJ2_add_23 kc_i1 ?_
  have hE9 := TL_e hT hf
  subst hE9
  exact bt_z S hr hlocks hB (by omega) nb1 dJ2_add_24
set_option maxRecDepth 100000 in
theorem mc_X1_545 {o : Nat} {a0 : Nat} {out : Int32 × AH × Nat × Nat} (S : CallFix p m c cc nL s args lw_all RX1) (hS : SK G E.1 hSites A s) (hB : BI G A s.heap h nx H locs) (ho : isO h o 11 = true) (hf : f_J2_add E h nx o a0 = some out) (hsz : ls.size = nL) (hR : (fE + 6) + 1 ≤ R.frames ∧ 8 + (2 + 11) + (lE + 230) ≤ R.locals) (hW : (rest.map fun v => v.category).sum ≤ 8) (hcs : cells + out.2.2.1 ≤ R.cells ∧ slots + out.2.2.2 ≤ R.slots) (hdg : decode cc pc = .ok (.invokevirtual 545, 3))  (kk : ∀ (H1 : Heap) (locs1 : List Loc), (narrow .boolean (.int out.1) = .int out.1) → BI G A s.heap out.2.1 (nx + out.2.2.1) H1 locs1 → W p l e R s m args below meth c H1 locs1 (cells + out.2.2.1) (slots + out.2.2.2) Q (F0 m (pc + 3) ls (.int out.1 :: rest))) : W p l e R s m args below meth c H locs cells slots Q (F0 m pc ls (.ref a0 :: .ref o :: rest)) := by
  have hN := hS.2.1
  obtain ⟨fs, he⟩ := isO_s ho
  exact br_w (va_runV (As := [.ref a0]) S (mm_J2_add (l := l) (G := G) (fE := fE) (lE := lE) hf) (cwV 1 S.2.2.2.2 (lw_V q1800 q1079 q1080 q177 q1081) rfl rfl rfl hd_J2_add hR) (bPreV hS hB (ci := 11) rfl he) rfl rfl hsz rfl (lv_room hW) hdg hcs) hB kk
set_option maxRecDepth 100000 in
theorem mc_X2_302 {o : Nat} {a0 : Nat} {out : Int32 × AH × Nat × Nat} (S : CallFix p m c cc nL s args lw_all RX2) (hS : SK G E.1 hSites A s) (hB : BI G A s.heap h nx H locs) (ho : isO h o 11 = true) (hf : f_J2_add E h nx o a0 = some out) (hsz : ls.size = nL) (hR : (fE + 6) + 1 ≤ R.frames ∧ 8 + (2 + 11) + (lE + 230) ≤ R.locals) (hW : (rest.map fun v => v.category).sum ≤ 8) (hcs : cells + out.2.2.1 ≤ R.cells ∧ slots + out.2.2.2 ≤ R.slots) (hdg : decode cc pc = .ok (.invokevirtual 302, 3))  (kk : ∀ (H1 : Heap) (locs1 : List Loc), (narrow .boolean (.int out.1) = .int out.1) → BI G A s.heap out.2.1 (nx + out.2.2.1) H1 locs1 → W p l e R s m args below meth c H1 locs1 (cells + out.2.2.1) (slots + out.2.2.2) Q (F0 m (pc + 3) ls (.int out.1 :: rest))) : W p l e R s m args below meth c H locs cells slots Q (F0 m pc ls (.ref a0 :: .ref o :: rest)) := by
  have hN := hS.2.1
  obtain ⟨fs, he⟩ := isO_s ho
  exact br_w (va_runV (As := [.ref a0]) S (mm_J2_add (l := l) (G := G) (fE := fE) (lE := lE) hf) (cwV 1 S.2.2.2.2 (lw_V q1437 q1079 q1080 q177 q1081) rfl rfl rfl hd_J2_add hR) (bPreV hS hB (ci := 11) rfl he) rfl rfl hsz rfl (lv_room hW) hdg hcs) hB kk
set_option maxRecDepth 100000 in
theorem mc_X4_159 {o : Nat} {a0 : Nat} {out : Int32 × AH × Nat × Nat} (S : CallFix p m c cc nL s args lw_all RX4) (hS : SK G E.1 hSites A s) (hB : BI G A s.heap h nx H locs) (ho : isO h o 11 = true) (hf : f_J2_add E h nx o a0 = some out) (hsz : ls.size = nL) (hR : (fE + 6) + 1 ≤ R.frames ∧ 8 + (2 + 11) + (lE + 230) ≤ R.locals) (hW : (rest.map fun v => v.category).sum ≤ 8) (hcs : cells + out.2.2.1 ≤ R.cells ∧ slots + out.2.2.2 ≤ R.slots) (hdg : decode cc pc = .ok (.invokevirtual 159, 3))  (kk : ∀ (H1 : Heap) (locs1 : List Loc), (narrow .boolean (.int out.1) = .int out.1) → BI G A s.heap out.2.1 (nx + out.2.2.1) H1 locs1 → W p l e R s m args below meth c H1 locs1 (cells + out.2.2.1) (slots + out.2.2.2) Q (F0 m (pc + 3) ls (.int out.1 :: rest))) : W p l e R s m args below meth c H locs cells slots Q (F0 m pc ls (.ref a0 :: .ref o :: rest)) := by
  have hN := hS.2.1
  obtain ⟨fs, he⟩ := isO_s ho
  exact br_w (va_runV (As := [.ref a0]) S (mm_J2_add (l := l) (G := G) (fE := fE) (lE := lE) hf) (cwV 1 S.2.2.2.2 (lw_V q1078 q1079 q1080 q177 q1081) rfl rfl rfl hd_J2_add hR) (bPreV hS hB (ci := 11) rfl he) rfl rfl hsz rfl (lv_room hW) hdg hcs) hB kk
theorem hd_J2_clear : yJ2_clear.cls = RJ2 ∧ yJ2_clear.cls ≠ "java/lang/invoke/MethodHandle" ∧ yJ2_clear.cls ≠ "java/lang/invoke/VarHandle" ∧ (parseMethodDescriptor yJ2_clear.desc).map (fun d => d.parameters.length) = some 0 := by decide +kernel
set_option maxHeartbeats 4000000 in
set_option maxRecDepth 100000 in
theorem mm_J2_clear {o : Nat} {out : Unit × AH × Nat × Nat} (hf : f_J2_clear E h nx o = some out) : Met l yJ2_clear (ws_ yJ2_clear cJ2_clear 4 none) (rC (fE + 0) (lE + 0) out.2.2.1 out.2.2.2) (bPc G E.1 hSites h nx [.ref o]) (bQ G none True out.2.1 (nx + out.2.2.1) (AA h nx)) out.2.2.1 out.2.2.2 (AA h nx) := by
  refine bGo (by decide +kernel) (Nat.le_of_ble_eq_true rfl) (fun p e s m below meth c ls S hr hlocks hin hnm hS hB hl => ?_)
  have S : CallFix p m c cJ2_clear 4 s _ lw_all RJ2 := S
  obtain ⟨hx, hb, hml, hown, hts⟩ := id S
  have hl : lv_has ls 4 [(0, .ref o)] := hl
  have w27 : ∀ (n : Nat) , ∀ (x1 : Nat) (x2 : Int32) (x3 : Int32) (hc : AH) (nc : Nat) (ls : Array Slot) (H : Heap) (locs : List Loc) (ce sl : Nat) (o1 : Unit × AH × Nat × Nat), BI G (AA h nx) s.heap hc nc H locs → nc = nx + ce → TL out o1 ce sl → lv_has ls 4 [(1, .ref x1), (2, .int x2), (3, .int x3)] → f_J2_clear_27 n E x1 x2 x3 hc nc = some o1 → W p l e (rC (fE + 0) (lE + 0) out.2.2.1 out.2.2.2) s m ([.ref o] : List Value).toArray below meth c H locs ce sl (MQ below (bQ G none True out.2.1 (nx + out.2.2.1) (AA h nx)) ([.ref o] : List Value).toArray s out.2.2.1 out.2.2.2 (AA h nx)) (F0 m 27 ls []) := by
    intro n
    induction n with
    | zero =>
      intro x1 x2 x3 hc nc ls H locs ce sl o1 hB hn hT hl hf
      exact absurd hf (by rw [f_J2_clear_27]; exact nofun)
    | succ n ih =>
      intro x1 x2 x3 hc nc ls H locs ce sl o1 hB hn hT hl hf
      rw [f_J2_clear_27] at hf
      refine lv_iload_n hx hb dJ2_clear_27 rfl (lv_at hl 2 rfl) ?_
      refine lv_iload_n hx hb dJ2_clear_28 rfl (lv_at hl 1 rfl) ?_
      refine lv_icmp_ge (tgt := 42) hx hb dJ2_clear_29 (by decide) (fun c1 => ?_) (fun c1 => ?_)
      · replace hf := it_t c1 hf
        have hE9 := TL_e hT hf
        subst hE9
        exact bt_v S hr hlocks hB (by omega) trivial dJ2_clear_42
      · replace hf := it_f c1 hf
        refine lv_aload_n hx hb dJ2_clear_32 rfl (lv_at hl 0 rfl) ?_
        refine lv_iload_n hx hb dJ2_clear_33 rfl (lv_at hl 2 rfl) ?_
        refine lv_null hx hb dJ2_clear_34 ?_
        obtain ⟨h2, hh2, hf⟩ := ob_s hf
        refine b_aastN S hS.1 hB 4 rfl hh2 dJ2_clear_35 (fun H locs hB => ?_)
        refine lv_iinc (v := (x3 + 1)) (lv' := [(3, .int (x3 + 1)), (1, .ref x1), (2, .int x2)]) hx hb dJ2_clear_36 hl (k := 2) rfl rfl (by decide) rfl (fun ls hl => ?_)
        refine lv_goto (tgt := 27) hx hb dJ2_clear_39 (by decide) ?_
        exact (ih) x1 x2 (x3 + 1) h2 nc ls H locs ce sl o1 hB (by omega) hT (lv_sub (l' := [(1, .ref x1), (2, .int x2), (3, .int (x3 + 1))]) hl [1, 2, 0] rfl) hf
  have hT : TL out out 0 0 := TL_0
  rw [f_J2_clear] at hf
  refine lv_aload_n hx hb dJ2_clear_0 rfl (lv_at hl 0 rfl) ?_
  refine lv_dup hx hb dJ2_clear_1 rfl ?_
  obtain ⟨v1, hv1, hf⟩ := ob_s hf
  refine bg_J2_63 S hS hB (vI_s hv1) dJ2_clear_2 ?_
  refine lv_iconst hx hb dJ2_clear_5 kc_i1 ?_
  refine lv_iadd hx hb dJ2_clear_6 ?_
  obtain ⟨h2, hh2, hf⟩ := ob_s hf
  refine bp_J2_63 S hS hB hh2 dJ2_clear_7 (fun H locs hB => ?_)
  refine lv_aload_n hx hb dJ2_clear_10 rfl (lv_at hl 0 rfl) ?_
  obtain ⟨v3, hv3, hf⟩ := ob_s hf
  refine bg_J2_9 S hS hB (vR_s hv3) dJ2_clear_11 ?_
  refine lv_astore_n (i := 1) (lv' := [(1, .ref v3), (0, .ref o)]) hx hb dJ2_clear_14 rfl hl (by decide) rfl (fun ls hl => ?_)
  refine lv_aload_n hx hb dJ2_clear_15 rfl (lv_at hl 1 rfl) ?_
  obtain ⟨v4, hv4, hf⟩ := ob_s hf
  refine bg_J2_48 S hS hB (vI_s hv4) dJ2_clear_16 ?_
  refine lv_istore_n (i := 2) (lv' := [(2, .int v4), (1, .ref v3), (0, .ref o)]) hx hb dJ2_clear_19 rfl hl (by decide) rfl (fun ls hl => ?_)
  refine lv_aload_n hx hb dJ2_clear_20 rfl (lv_at hl 2 rfl) ?_
  refine lv_iconst hx hb dJ2_clear_21 kc_i0 ?_
  refine lv_dup_x1 hx hb dJ2_clear_22 rfl rfl ?_
  obtain ⟨h5, hh5, hf⟩ := ob_s hf
  refine bp_J2_48 S hS hB hh5 dJ2_clear_23 (fun H locs hB => ?_)
  refine lv_istore_n (i := 3) (lv' := [(3, .int 0), (2, .int v4), (1, .ref v3), (0, .ref o)]) hx hb dJ2_clear_26 rfl hl (by decide) rfl (fun ls hl => ?_)
  exact (w27 FU) v3 v4 0 h5 nx ls H locs 0 0 out hB (by omega) hT (lv_sub (l' := [(1, .ref v3), (2, .int v4), (3, .int 0)]) hl [2, 1, 0] rfl) hf
set_option maxRecDepth 100000 in
theorem mc_X1_186 {o : Nat} {out : Unit × AH × Nat × Nat} (S : CallFix p m c cc nL s args lw_all RX1) (hS : SK G E.1 hSites A s) (hB : BI G A s.heap h nx H locs) (ho : isO h o 11 = true) (hf : f_J2_clear E h nx o = some out) (hsz : ls.size = nL) (hR : (fE + 0) + 1 ≤ R.frames ∧ 8 + (4 + 11) + (lE + 0) ≤ R.locals) (hW : (rest.map fun v => v.category).sum ≤ 8) (hcs : cells + out.2.2.1 ≤ R.cells ∧ slots + out.2.2.2 ≤ R.slots) (hdg : decode cc pc = .ok (.invokevirtual 186, 3))  (kk : ∀ (H1 : Heap) (locs1 : List Loc), True → BI G A s.heap out.2.1 (nx + out.2.2.1) H1 locs1 → W p l e R s m args below meth c H1 locs1 (cells + out.2.2.1) (slots + out.2.2.2) Q (F0 m (pc + 3) ls (rest))) : W p l e R s m args below meth c H locs cells slots Q (F0 m pc ls (.ref o :: rest)) := by
  have hN := hS.2.1
  obtain ⟨fs, he⟩ := isO_s ho
  exact br_v (va_runV (As := []) S (mm_J2_clear (l := l) (G := G) (fE := fE) (lE := lE) hf) (cwV 0 S.2.2.2.2 (lw_V q1171 q1172 q1173 q177 q1174) rfl rfl rfl hd_J2_clear hR) (bPreV hS hB (ci := 11) rfl he) rfl rfl hsz rfl (lv_room hW) hdg hcs) hB kk
set_option maxRecDepth 100000 in
theorem mc_X2_131 {o : Nat} {out : Unit × AH × Nat × Nat} (S : CallFix p m c cc nL s args lw_all RX2) (hS : SK G E.1 hSites A s) (hB : BI G A s.heap h nx H locs) (ho : isO h o 11 = true) (hf : f_J2_clear E h nx o = some out) (hsz : ls.size = nL) (hR : (fE + 0) + 1 ≤ R.frames ∧ 8 + (4 + 11) + (lE + 0) ≤ R.locals) (hW : (rest.map fun v => v.category).sum ≤ 8) (hcs : cells + out.2.2.1 ≤ R.cells ∧ slots + out.2.2.2 ≤ R.slots) (hdg : decode cc pc = .ok (.invokevirtual 131, 3))  (kk : ∀ (H1 : Heap) (locs1 : List Loc), True → BI G A s.heap out.2.1 (nx + out.2.2.1) H1 locs1 → W p l e R s m args below meth c H1 locs1 (cells + out.2.2.1) (slots + out.2.2.2) Q (F0 m (pc + 3) ls (rest))) : W p l e R s m args below meth c H locs cells slots Q (F0 m pc ls (.ref o :: rest)) := by
  have hN := hS.2.1
  obtain ⟨fs, he⟩ := isO_s ho
  exact br_v (va_runV (As := []) S (mm_J2_clear (l := l) (G := G) (fE := fE) (lE := lE) hf) (cwV 0 S.2.2.2.2 (lw_V q1382 q1172 q1173 q177 q1174) rfl rfl rfl hd_J2_clear hR) (bPreV hS hB (ci := 11) rfl he) rfl rfl hsz rfl (lv_room hW) hdg hcs) hB kk
theorem hd_J2_toArray : yJ2_toArray.cls = RJ2 ∧ yJ2_toArray.cls ≠ "java/lang/invoke/MethodHandle" ∧ yJ2_toArray.cls ≠ "java/lang/invoke/VarHandle" ∧ (parseMethodDescriptor yJ2_toArray.desc).map (fun d => d.parameters.length) = some 0 := by decide +kernel
set_option maxHeartbeats 4000000 in
set_option maxRecDepth 100000 in
theorem mm_J2_toArray {o : Nat} {out : Nat × AH × Nat × Nat} (hf : f_J2_toArray E h nx o = some out) : Met l yJ2_toArray (ws_ yJ2_toArray cJ2_toArray 1 (some (.array (.object "java/lang/Object")))) (rC (fE + 3) (lE + 164) out.2.2.1 out.2.2.2) (bPc G E.1 hSites h nx [.ref o]) (bQ G (some (.ref out.1)) True out.2.1 (nx + out.2.2.1) (AA h nx)) out.2.2.1 out.2.2.2 (AA h nx) := by
  refine bGo (by decide +kernel) (Nat.le_of_ble_eq_true rfl) (fun p e s m below meth c ls S hr hlocks hin hnm hS hB hl => ?_)
  have S : CallFix p m c cJ2_toArray 1 s _ lw_all RJ2 := S
  obtain ⟨hx, hb, hml, hown, hts⟩ := id S
  have hl : lv_has ls 1 [(0, .ref o)] := hl
  have hT : TL out out 0 0 := TL_0
  rw [f_J2_toArray] at hf
  refine lv_aload_n hx hb dJ2_toArray_0 rfl (lv_at hl 0 rfl) ?_
  obtain ⟨v1, hv1, hf⟩ := ob_s hf
  refine bg_J2_9 S hS hB (vR_s hv1) dJ2_toArray_1 ?_
  refine lv_aload_n hx hb dJ2_toArray_4 rfl (lv_at hl 0 rfl) ?_
  obtain ⟨v2, hv2, hf⟩ := ob_s hf
  refine bg_J2_48 S hS hB (vI_s hv2) dJ2_toArray_5 ?_
  obtain ⟨v3, hv3, hf⟩ := ob_s hf
  obtain ⟨o4, hf, hT⟩ := TL_c hT hf
  refine mc_J2_66 (fE := fE) (lE := lE) S hS hB hv3 hl.1 ⟨(by show _ ≤ (fE + 3); omega), (by show _ ≤ (lE + 164); omega)⟩ (Nat.le_of_ble_eq_true rfl) ⟨(TL_m hT).1, (TL_m hT).2⟩ dJ2_toArray_8 (fun H locs _ hB => ?_)
  have hE9 := TL_e hT hf
  subst hE9
  exact bt_a S hr (Or.inr ⟨_, rfl⟩) hlocks hB (by omega) trivial dJ2_toArray_11
set_option maxRecDepth 100000 in
theorem mc_J2_42 {o : Nat} {out : Nat × AH × Nat × Nat} (S : CallFix p m c cc nL s args lw_all RJ2) (hS : SK G E.1 hSites A s) (hB : BI G A s.heap h nx H locs) (ho : isO h o 11 = true) (hf : f_J2_toArray E h nx o = some out) (hsz : ls.size = nL) (hR : (fE + 3) + 1 ≤ R.frames ∧ 8 + (1 + 11) + (lE + 164) ≤ R.locals) (hW : (rest.map fun v => v.category).sum ≤ 8) (hcs : cells + out.2.2.1 ≤ R.cells ∧ slots + out.2.2.2 ≤ R.slots) (hdg : decode cc pc = .ok (.invokeinterface 42 1, 5))  (kk : ∀ (H1 : Heap) (locs1 : List Loc), True → BI G A s.heap out.2.1 (nx + out.2.2.1) H1 locs1 → W p l e R s m args below meth c H1 locs1 (cells + out.2.2.1) (slots + out.2.2.2) Q (F0 m (pc + 5) ls (.ref out.1 :: rest))) : W p l e R s m args below meth c H locs cells slots Q (F0 m pc ls (.ref o :: rest)) := by
  have hN := hS.2.1
  obtain ⟨fs, he⟩ := isO_s ho
  exact br5_w (va_runF (hS.1.1 11 _ rfl).2 (As := []) S (mm_J2_toArray (l := l) (G := G) (fE := fE) (lE := lE) hf) (va_cwF (x := mCol) 0 S.2.2.2.2 (lw_app (c := ws_ yJ2_toArray cJ2_toArray 1 (some (.array (.object "java/lang/Object")))) (fun w hw => by simp only [List.mem_cons, List.not_mem_nil, or_false] at hw; rcases hw with e | e | e | e <;> (rw [e]; first | exact q1388 | exact q1392 | exact q1394 | exact q177)) (lw_meth q1396)) rfl rfl rfl hS.2.2.2.2.1.1 (by decide +kernel) hR) (bPreV hS hB (ci := 11) rfl he) rfl rfl hsz rfl (lv_room hW) hdg hcs) hB kk
theorem hd_J2_addAll : yJ2_addAll.cls = RJ2 ∧ yJ2_addAll.cls ≠ "java/lang/invoke/MethodHandle" ∧ yJ2_addAll.cls ≠ "java/lang/invoke/VarHandle" ∧ (parseMethodDescriptor yJ2_addAll.desc).map (fun d => d.parameters.length) = some 1 := by decide +kernel
set_option maxHeartbeats 4000000 in
set_option maxRecDepth 100000 in
theorem mm_J2_addAll {o : Nat} {a0 : Nat} {out : Int32 × AH × Nat × Nat} (hf : f_J2_addAll E h nx o a0 = some out) : Met l yJ2_addAll (ws_ yJ2_addAll cJ2_addAll 6 (some .boolean)) (rC (fE + 4) (lE + 187) out.2.2.1 out.2.2.2) (bPc G E.1 hSites h nx [.ref o, .ref a0]) (bQ G (some (.int out.1)) (narrow .boolean (.int out.1) = .int out.1) out.2.1 (nx + out.2.2.1) (AA h nx)) out.2.2.1 out.2.2.2 (AA h nx) := by
  refine bGo (by decide +kernel) (Nat.le_of_ble_eq_true rfl) (fun p e s m below meth c ls S hr hlocks hin hnm hS hB hl => ?_)
  have S : CallFix p m c cJ2_addAll 6 s _ lw_all RJ2 := S
  obtain ⟨hx, hb, hml, hown, hts⟩ := id S
  have hl : lv_has ls 6 [(0, .ref o), (1, .ref a0)] := hl
  have w56 : ∀ (x0 : Nat) (x2 : Nat) (x3 : Int32) (x4 : Nat) (x5 : Int32) (hc : AH) (nc : Nat) (ls : Array Slot) (H : Heap) (locs : List Loc) (ce sl : Nat) (o1 : Int32 × AH × Nat × Nat), BI G (AA h nx) s.heap hc nc H locs → nc = nx + ce → TL out o1 ce sl → lv_has ls 6 [(0, .ref x0), (2, .ref x2), (3, .int x3), (4, .ref x4), (5, .int x5)] → f_J2_addAll_56 E x0 x2 x3 x4 x5 hc nc = some o1 → W p l e (rC (fE + 4) (lE + 187) out.2.2.1 out.2.2.2) s m ([.ref o, .ref a0] : List Value).toArray below meth c H locs ce sl (MQ below (bQ G (some (.int out.1)) (narrow .boolean (.int out.1) = .int out.1) out.2.1 (nx + out.2.2.1) (AA h nx)) ([.ref o, .ref a0] : List Value).toArray s out.2.2.1 out.2.2.2 (AA h nx)) (F0 m 56 ls []) := by
    intro x0 x2 x3 x4 x5 hc nc ls H locs ce sl o1 hB hn hT hl hf
    rw [f_J2_addAll_56] at hf
    refine lv_aload_n hx hb dJ2_addAll_56 rfl (lv_at hl 1 rfl) ?_
    refine lv_iconst hx hb dJ2_addAll_57 kc_i0 ?_
    refine lv_aload hx hb dJ2_addAll_58 (lv_at hl 3 rfl) ?_
    refine lv_iload hx hb dJ2_addAll_60 (lv_at hl 4 rfl) ?_
    refine lv_iload_n hx hb dJ2_addAll_62 rfl (lv_at hl 2 rfl) ?_
    obtain ⟨h1, hh1, hf⟩ := ob_s hf
    refine b_copyR S hS hB (by rw [hml]; exact hl.1.symm) (hts _ q1397) (hts _ q257) (hts _ q256) (hts _ q179) hh1 (by show _ ≤ (fE + 4); omega) (by show _ ≤ (lE + 187); simp only [List.map, List.sum_cons, List.sum_nil, Value.category]; exact Nat.le_trans (Nat.le_of_ble_eq_true rfl : _ ≤ 120) (by omega)) dJ2_addAll_63 (fun H locs hB => ?_)
    refine lv_aload_n hx hb dJ2_addAll_66 rfl (lv_at hl 0 rfl) ?_
    refine lv_iload hx hb dJ2_addAll_67 (lv_at hl 4 rfl) ?_
    refine lv_iload_n hx hb dJ2_addAll_69 rfl (lv_at hl 2 rfl) ?_
    refine lv_iadd hx hb dJ2_addAll_70 ?_
    obtain ⟨h2, hh2, hf⟩ := ob_s hf
    refine bp_J2_48 S hS hB hh2 dJ2_addAll_71 (fun H locs hB => ?_)
    refine lv_iconst hx hb dJ2_addAll_74 kc_i1 ?_
    have hE9 := TL_e hT hf
    subst hE9
    exact bt_z S hr hlocks hB (by omega) nb1 dJ2_addAll_75
  have hT : TL out out 0 0 := TL_0
  rw [f_J2_addAll] at hf
  refine lv_aload_n hx hb dJ2_addAll_0 rfl (lv_at hl 1 rfl) ?_
  obtain ⟨g1, hf⟩ := gd_t hf
  obtain ⟨v2, hv2, hf⟩ := ob_s hf
  obtain ⟨o3, hf, hT⟩ := TL_c hT hf
  refine mc_J2_42 (fE := fE) (lE := lE) S hS hB g1 hv2 hl.1 ⟨(by show _ ≤ (fE + 4); omega), (by show _ ≤ (lE + 187); omega)⟩ (Nat.le_of_ble_eq_true rfl) ⟨(TL_m hT).1, (TL_m hT).2⟩ dJ2_addAll_1 (fun H locs _ hB => ?_)
  refine lv_astore_n (i := 2) (lv' := [(2, .ref v2.1), (0, .ref o), (1, .ref a0)]) hx hb dJ2_addAll_6 rfl hl (by decide) rfl (fun ls hl => ?_)
  refine lv_aload_n hx hb dJ2_addAll_7 rfl (lv_at hl 1 rfl) ?_
  refine lv_dup hx hb dJ2_addAll_8 rfl ?_
  obtain ⟨v4, hv4, hf⟩ := ob_s hf
  refine bg_J2_63 S hS hB (vI_s hv4) dJ2_addAll_9 ?_
  refine lv_iconst hx hb dJ2_addAll_12 kc_i1 ?_
  refine lv_iadd hx hb dJ2_addAll_13 ?_
  obtain ⟨h5, hh5, hf⟩ := ob_s hf
  refine bp_J2_63 S hS hB hh5 dJ2_addAll_14 (fun H locs hB => ?_)
  refine lv_aload_n hx hb dJ2_addAll_17 rfl (lv_at hl 0 rfl) ?_
  obtain ⟨v6, hv6, hf⟩ := ob_s hf
  refine b_alen S hS.1 hB hv6 dJ2_addAll_18 ?_
  refine lv_istore_n (i := 3) (lv' := [(3, .int v6), (2, .ref v2.1), (0, .ref o), (1, .ref a0)]) hx hb dJ2_addAll_19 rfl hl (by decide) rfl (fun ls hl => ?_)
  refine lv_iload_n hx hb dJ2_addAll_20 rfl (lv_at hl 0 rfl) ?_
  refine lv_if_ne (tgt := 26) hx hb dJ2_addAll_21 (by decide) (fun c7 => ?_) (fun c7 => ?_)
  · replace hf := it_f c7 hf
    refine lv_iload_n hx hb dJ2_addAll_26 rfl (lv_at hl 0 rfl) ?_
    refine lv_aload_n hx hb dJ2_addAll_27 rfl (lv_at hl 2 rfl) ?_
    obtain ⟨v8, hv8, hf⟩ := ob_s hf
    refine bg_J2_9 S hS hB (vR_s hv8) dJ2_addAll_28 ?_
    refine lv_dup hx hb dJ2_addAll_31 rfl ?_
    refine lv_astore (lv' := [(4, .ref v8), (3, .int v6), (2, .ref v2.1), (0, .ref o), (1, .ref a0)]) hx hb dJ2_addAll_32 hl (by decide) rfl (fun ls hl => ?_)
    obtain ⟨v9, hv9, hf⟩ := ob_s hf
    refine b_alen S hS.1 hB hv9 dJ2_addAll_34 ?_
    refine lv_aload_n hx hb dJ2_addAll_35 rfl (lv_at hl 3 rfl) ?_
    obtain ⟨v10, hv10, hf⟩ := ob_s hf
    refine bg_J2_48 S hS hB (vI_s hv10) dJ2_addAll_36 ?_
    refine lv_dup hx hb dJ2_addAll_39 rfl ?_
    refine lv_istore (lv' := [(5, .int v10), (4, .ref v8), (3, .int v6), (2, .ref v2.1), (0, .ref o), (1, .ref a0)]) hx hb dJ2_addAll_40 hl (by decide) rfl (fun ls hl => ?_)
    refine lv_isub hx hb dJ2_addAll_42 ?_
    refine lv_icmp_le (tgt := 56) hx hb dJ2_addAll_43 (by decide) (fun c11 => ?_) (fun c11 => ?_)
    · replace hf := it_t c11 hf
      exact (w56) o v2.1 v6 v8 v10 h5 (nx + v2.2.2.1) ls H locs (0 + v2.2.2.1) (0 + v2.2.2.2) o3 hB (by omega) hT (lv_sub (l' := [(0, .ref o), (2, .ref v2.1), (3, .int v6), (4, .ref v8), (5, .int v10)]) hl [4, 3, 2, 1, 0] rfl) hf
    · replace hf := it_f c11 hf
      refine lv_aload_n hx hb dJ2_addAll_46 rfl (lv_at hl 4 rfl) ?_
      refine lv_iload hx hb dJ2_addAll_47 (lv_at hl 0 rfl) ?_
      refine lv_iload_n hx hb dJ2_addAll_49 rfl (lv_at hl 2 rfl) ?_
      refine lv_iadd hx hb dJ2_addAll_50 ?_
      obtain ⟨g12, hf⟩ := gd_t hf
      obtain ⟨v13, hv13, hf⟩ := ob_s hf
      obtain ⟨o14, hf, hT⟩ := TL_c hT hf
      refine mc_J2_69 (fE := fE) (lE := lE) S hS hB g12 hv13 hl.1 ⟨(by show _ ≤ (fE + 4); omega), (by show _ ≤ (lE + 187); omega)⟩ (Nat.le_of_ble_eq_true rfl) ⟨(TL_m hT).1, (TL_m hT).2⟩ dJ2_addAll_51 (fun H locs _ hB => ?_)
      refine lv_astore (lv' := [(4, .ref v13.1), (5, .int v10), (3, .int v6), (2, .ref v2.1), (0, .ref o), (1, .ref a0)]) hx hb dJ2_addAll_54 hl (by decide) rfl (fun ls hl => ?_)
      exact (w56) o v2.1 v6 v13.1 v10 v13.2.1 ((nx + v2.2.2.1) + v13.2.2.1) ls H locs ((0 + v2.2.2.1) + v13.2.2.1) ((0 + v2.2.2.2) + v13.2.2.2) o14 hB (by omega) hT (lv_sub (l' := [(0, .ref o), (2, .ref v2.1), (3, .int v6), (4, .ref v13.1), (5, .int v10)]) hl [4, 3, 2, 0, 1] rfl) hf
  · replace hf := it_t c7 hf
    refine lv_iconst hx hb dJ2_addAll_24 kc_i0 ?_
    have hE9 := TL_e hT hf
    subst hE9
    exact bt_z S hr hlocks hB (by omega) nb0 dJ2_addAll_25
set_option maxRecDepth 100000 in
theorem mc_X2_134 {o : Nat} {a0 : Nat} {out : Int32 × AH × Nat × Nat} (S : CallFix p m c cc nL s args lw_all RX2) (hS : SK G E.1 hSites A s) (hB : BI G A s.heap h nx H locs) (ho : isO h o 11 = true) (hf : f_J2_addAll E h nx o a0 = some out) (hsz : ls.size = nL) (hR : (fE + 4) + 1 ≤ R.frames ∧ 8 + (6 + 11) + (lE + 187) ≤ R.locals) (hW : (rest.map fun v => v.category).sum ≤ 8) (hcs : cells + out.2.2.1 ≤ R.cells ∧ slots + out.2.2.2 ≤ R.slots) (hdg : decode cc pc = .ok (.invokevirtual 134, 3))  (kk : ∀ (H1 : Heap) (locs1 : List Loc), (narrow .boolean (.int out.1) = .int out.1) → BI G A s.heap out.2.1 (nx + out.2.2.1) H1 locs1 → W p l e R s m args below meth c H1 locs1 (cells + out.2.2.1) (slots + out.2.2.2) Q (F0 m (pc + 3) ls (.int out.1 :: rest))) : W p l e R s m args below meth c H locs cells slots Q (F0 m pc ls (.ref a0 :: .ref o :: rest)) := by
  have hN := hS.2.1
  obtain ⟨fs, he⟩ := isO_s ho
  exact br_w (va_runV (As := [.ref a0]) S (mm_J2_addAll (l := l) (G := G) (fE := fE) (lE := lE) hf) (cwV 1 S.2.2.2.2 (lw_V q1383 q1384 q1385 q177 q1386) rfl rfl rfl hd_J2_addAll hR) (bPreV hS hB (ci := 11) rfl he) rfl rfl hsz rfl (lv_room hW) hdg hcs) hB kk
theorem hd_J2_fastRemove : yJ2_fastRemove.cls = RJ2 ∧ yJ2_fastRemove.cls ≠ "java/lang/invoke/MethodHandle" ∧ yJ2_fastRemove.cls ≠ "java/lang/invoke/VarHandle" ∧ (parseMethodDescriptor yJ2_fastRemove.desc).map (fun d => d.parameters.length) = some 2 := by decide +kernel
set_option maxHeartbeats 4000000 in
set_option maxRecDepth 100000 in
theorem mm_J2_fastRemove {o : Nat} {a0 : Nat} {a1 : Int32} {out : Unit × AH × Nat × Nat} (hf : f_J2_fastRemove E h nx o a0 a1 = some out) : Met l yJ2_fastRemove (ws_ yJ2_fastRemove cJ2_fastRemove 4 none) (rC (fE + 1) (lE + 120) out.2.2.1 out.2.2.2) (bPc G E.1 hSites h nx [.ref o, .ref a0, .int a1]) (bQ G none True out.2.1 (nx + out.2.2.1) (AA h nx)) out.2.2.1 out.2.2.2 (AA h nx) := by
  refine bGo (by decide +kernel) (Nat.le_of_ble_eq_true rfl) (fun p e s m below meth c ls S hr hlocks hin hnm hS hB hl => ?_)
  have S : CallFix p m c cJ2_fastRemove 4 s _ lw_all RJ2 := S
  obtain ⟨hx, hb, hml, hown, hts⟩ := id S
  have hl : lv_has ls 4 [(0, .ref o), (1, .ref a0), (2, .int a1)] := hl
  have w34 : ∀ (x0 : Nat) (x1 : Nat) (x3 : Int32) (hc : AH) (nc : Nat) (ls : Array Slot) (H : Heap) (locs : List Loc) (ce sl : Nat) (o1 : Unit × AH × Nat × Nat), BI G (AA h nx) s.heap hc nc H locs → nc = nx + ce → TL out o1 ce sl → lv_has ls 4 [(0, .ref x0), (1, .ref x1), (3, .int x3)] → f_J2_fastRemove_34 E x0 x1 x3 hc nc = some o1 → W p l e (rC (fE + 1) (lE + 120) out.2.2.1 out.2.2.2) s m ([.ref o, .ref a0, .int a1] : List Value).toArray below meth c H locs ce sl (MQ below (bQ G none True out.2.1 (nx + out.2.2.1) (AA h nx)) ([.ref o, .ref a0, .int a1] : List Value).toArray s out.2.2.1 out.2.2.2 (AA h nx)) (F0 m 34 ls []) := by
    intro x0 x1 x3 hc nc ls H locs ce sl o1 hB hn hT hl hf
    rw [f_J2_fastRemove_34] at hf
    refine lv_aload_n hx hb dJ2_fastRemove_34 rfl (lv_at hl 1 rfl) ?_
    refine lv_aload_n hx hb dJ2_fastRemove_35 rfl (lv_at hl 0 rfl) ?_
    refine lv_iload_n hx hb dJ2_fastRemove_36 rfl (lv_at hl 2 rfl) ?_
    refine lv_dup_x1 hx hb dJ2_fastRemove_37 rfl rfl ?_
    obtain ⟨h1, hh1, hf⟩ := ob_s hf
    refine bp_J2_48 S hS hB hh1 dJ2_fastRemove_38 (fun H locs hB => ?_)
    refine lv_null hx hb dJ2_fastRemove_41 ?_
    obtain ⟨h2, hh2, hf⟩ := ob_s hf
    refine b_aastN S hS.1 hB 4 rfl hh2 dJ2_fastRemove_42 (fun H locs hB => ?_)
    have hE9 := TL_e hT hf
    subst hE9
    exact bt_v S hr hlocks hB (by omega) trivial dJ2_fastRemove_43
  have hT : TL out out 0 0 := TL_0
  rw [f_J2_fastRemove] at hf
  refine lv_aload_n hx hb dJ2_fastRemove_0 rfl (lv_at hl 0 rfl) ?_
  refine lv_dup hx hb dJ2_fastRemove_1 rfl ?_
  obtain ⟨v1, hv1, hf⟩ := ob_s hf
  refine bg_J2_63 S hS hB (vI_s hv1) dJ2_fastRemove_2 ?_
  refine lv_iconst hx hb dJ2_fastRemove_5 kc_i1 ?_
  refine lv_iadd hx hb dJ2_fastRemove_6 ?_
  obtain ⟨h2, hh2, hf⟩ := ob_s hf
  refine bp_J2_63 S hS hB hh2 dJ2_fastRemove_7 (fun H locs hB => ?_)
  refine lv_aload_n hx hb dJ2_fastRemove_10 rfl (lv_at hl 0 rfl) ?_
  obtain ⟨v3, hv3, hf⟩ := ob_s hf
  refine bg_J2_48 S hS hB (vI_s hv3) dJ2_fastRemove_11 ?_
  refine lv_iconst hx hb dJ2_fastRemove_14 kc_i1 ?_
  refine lv_isub hx hb dJ2_fastRemove_15 ?_
  refine lv_dup hx hb dJ2_fastRemove_16 rfl ?_
  refine lv_istore_n (i := 3) (lv' := [(3, .int (v3 - 1)), (0, .ref o), (1, .ref a0), (2, .int a1)]) hx hb dJ2_fastRemove_17 rfl hl (by decide) rfl (fun ls hl => ?_)
  refine lv_iload_n hx hb dJ2_fastRemove_18 rfl (lv_at hl 3 rfl) ?_
  refine lv_icmp_le (tgt := 34) hx hb dJ2_fastRemove_19 (by decide) (fun c4 => ?_) (fun c4 => ?_)
  · replace hf := it_t c4 hf
    exact (w34) o a0 (v3 - 1) h2 nx ls H locs 0 0 out hB (by omega) hT (lv_sub (l' := [(0, .ref o), (1, .ref a0), (3, .int (v3 - 1))]) hl [1, 2, 0] rfl) hf
  · replace hf := it_f c4 hf
    refine lv_aload_n hx hb dJ2_fastRemove_22 rfl (lv_at hl 2 rfl) ?_
    refine lv_iload_n hx hb dJ2_fastRemove_23 rfl (lv_at hl 3 rfl) ?_
    refine lv_iconst hx hb dJ2_fastRemove_24 kc_i1 ?_
    refine lv_iadd hx hb dJ2_fastRemove_25 ?_
    refine lv_aload_n hx hb dJ2_fastRemove_26 rfl (lv_at hl 2 rfl) ?_
    refine lv_iload_n hx hb dJ2_fastRemove_27 rfl (lv_at hl 3 rfl) ?_
    refine lv_iload_n hx hb dJ2_fastRemove_28 rfl (lv_at hl 0 rfl) ?_
    refine lv_iload_n hx hb dJ2_fastRemove_29 rfl (lv_at hl 3 rfl) ?_
    refine lv_isub hx hb dJ2_fastRemove_30 ?_
    obtain ⟨h5, hh5, hf⟩ := ob_s hf
    refine b_copyR S hS hB (by rw [hml]; exact hl.1.symm) (hts _ q1397) (hts _ q257) (hts _ q256) (hts _ q179) hh5 (by show _ ≤ (fE + 1); omega) (by show _ ≤ (lE + 120); simp only [List.map, List.sum_cons, List.sum_nil, Value.category]; exact Nat.le_trans (Nat.le_of_ble_eq_true rfl : _ ≤ 120) (by omega)) dJ2_fastRemove_31 (fun H locs hB => ?_)
    exact (w34) o a0 (v3 - 1) h5 nx ls H locs 0 0 out hB (by omega) hT (lv_sub (l' := [(0, .ref o), (1, .ref a0), (3, .int (v3 - 1))]) hl [1, 2, 0] rfl) hf
set_option maxRecDepth 100000 in
theorem mc_J2_144 {o : Nat} {a0 : Nat} {a1 : Int32} {out : Unit × AH × Nat × Nat} (S : CallFix p m c cc nL s args lw_all RJ2) (hS : SK G E.1 hSites A s) (hB : BI G A s.heap h nx H locs) (ho : isO h o 11 = true) (hf : f_J2_fastRemove E h nx o a0 a1 = some out) (hsz : ls.size = nL) (hR : (fE + 1) + 1 ≤ R.frames ∧ 8 + (4 + 11) + (lE + 120) ≤ R.locals) (hW : (rest.map fun v => v.category).sum ≤ 8) (hcs : cells + out.2.2.1 ≤ R.cells ∧ slots + out.2.2.2 ≤ R.slots) (hdg : decode cc pc = .ok (.invokevirtual 144, 3))  (kk : ∀ (H1 : Heap) (locs1 : List Loc), True → BI G A s.heap out.2.1 (nx + out.2.2.1) H1 locs1 → W p l e R s m args below meth c H1 locs1 (cells + out.2.2.1) (slots + out.2.2.2) Q (F0 m (pc + 3) ls (rest))) : W p l e R s m args below meth c H locs cells slots Q (F0 m pc ls (.int a1 :: .ref a0 :: .ref o :: rest)) := by
  have hN := hS.2.1
  obtain ⟨fs, he⟩ := isO_s ho
  exact br_v (va_runV (As := [.ref a0, .int a1]) S (mm_J2_fastRemove (l := l) (G := G) (fE := fE) (lE := lE) hf) (cwV 2 S.2.2.2.2 (lw_V q1796 q1798 qs89 q177 q1799) rfl rfl rfl hd_J2_fastRemove hR) (bPreV hS hB (ci := 11) rfl he) rfl rfl hsz rfl (lv_room hW) hdg hcs) hB kk
theorem hd_J2_remove : yJ2_remove.cls = RJ2 ∧ yJ2_remove.cls ≠ "java/lang/invoke/MethodHandle" ∧ yJ2_remove.cls ≠ "java/lang/invoke/VarHandle" ∧ (parseMethodDescriptor yJ2_remove.desc).map (fun d => d.parameters.length) = some 1 := by decide +kernel
set_option maxHeartbeats 4000000 in
set_option maxRecDepth 100000 in
theorem mm_J2_remove {o : Nat} {a0 : Int32} {out : Nat × AH × Nat × Nat} (hf : f_J2_remove E h nx o a0 = some out) : Met l yJ2_remove (ws_ yJ2_remove cJ2_remove 4 (some (.object "java/lang/Object"))) (rC (fE + 2) (lE + 143) out.2.2.1 out.2.2.2) (bPc G E.1 hSites h nx [.ref o, .int a0]) (bQ G (some (.ref out.1)) True out.2.1 (nx + out.2.2.1) (AA h nx)) out.2.2.1 out.2.2.2 (AA h nx) := by
  refine bGo (by decide +kernel) (Nat.le_of_ble_eq_true rfl) (fun p e s m below meth c ls S hr hlocks hin hnm hS hB hl => ?_)
  have S : CallFix p m c cJ2_remove 4 s _ lw_all RJ2 := S
  obtain ⟨hx, hb, hml, hown, hts⟩ := id S
  have hl : lv_has ls 4 [(0, .ref o), (1, .int a0)] := hl
  have hT : TL out out 0 0 := TL_0
  rw [f_J2_remove] at hf
  refine lv_iload_n hx hb dJ2_remove_0 rfl (lv_at hl 1 rfl) ?_
  refine lv_aload_n hx hb dJ2_remove_1 rfl (lv_at hl 0 rfl) ?_
  obtain ⟨v1, hv1, hf⟩ := ob_s hf
  refine bg_J2_48 S hS hB (vI_s hv1) dJ2_remove_2 ?_
  obtain ⟨v2, hv2, hf⟩ := ob_s hf
  refine mc_J2_118 S hS.1 hv2 hl.1 ⟨(by show _ ≤ (fE + 2); omega), (by show _ ≤ (lE + 143); omega)⟩ (Nat.le_of_ble_eq_true rfl) ⟨(TL_m hT).1, (TL_m hT).2⟩ dJ2_remove_5 (fun _ => ?_)
  refine lv_pop hx hb dJ2_remove_8 rfl ?_
  refine lv_aload_n hx hb dJ2_remove_9 rfl (lv_at hl 0 rfl) ?_
  obtain ⟨v3, hv3, hf⟩ := ob_s hf
  refine bg_J2_9 S hS hB (vR_s hv3) dJ2_remove_10 ?_
  refine lv_astore_n (i := 2) (lv' := [(2, .ref v3), (0, .ref o), (1, .int a0)]) hx hb dJ2_remove_13 rfl hl (by decide) rfl (fun ls hl => ?_)
  refine lv_aload_n hx hb dJ2_remove_14 rfl (lv_at hl 0 rfl) ?_
  refine lv_iload_n hx hb dJ2_remove_15 rfl (lv_at hl 2 rfl) ?_
  obtain ⟨v4, hv4, hf⟩ := ob_s hf
  refine b_aald S hS.1 hB 4 rfl rfl hv4 dJ2_remove_16 ?_
  refine lv_astore_n (i := 3) (lv' := [(3, .ref v4), (2, .ref v3), (0, .ref o), (1, .int a0)]) hx hb dJ2_remove_17 rfl hl (by decide) rfl (fun ls hl => ?_)
  refine lv_aload_n hx hb dJ2_remove_18 rfl (lv_at hl 2 rfl) ?_
  refine lv_aload_n hx hb dJ2_remove_19 rfl (lv_at hl 1 rfl) ?_
  refine lv_iload_n hx hb dJ2_remove_20 rfl (lv_at hl 3 rfl) ?_
  obtain ⟨g5, hf⟩ := gd_t hf
  obtain ⟨v6, hv6, hf⟩ := ob_s hf
  obtain ⟨o7, hf, hT⟩ := TL_c hT hf
  refine mc_J2_144 (fE := fE) (lE := lE) S hS hB g5 hv6 hl.1 ⟨(by show _ ≤ (fE + 2); omega), (by show _ ≤ (lE + 143); omega)⟩ (Nat.le_of_ble_eq_true rfl) ⟨(TL_m hT).1, (TL_m hT).2⟩ dJ2_remove_21 (fun H locs _ hB => ?_)
  refine lv_aload_n hx hb dJ2_remove_24 rfl (lv_at hl 0 rfl) ?_
  have hE9 := TL_e hT hf
  subst hE9
  exact bt_a S hr (Or.inl ⟨_, rfl⟩) hlocks hB (by omega) trivial dJ2_remove_25
set_option maxRecDepth 100000 in
theorem mc_X1_542 {o : Nat} {a0 : Int32} {out : Nat × AH × Nat × Nat} (S : CallFix p m c cc nL s args lw_all RX1) (hS : SK G E.1 hSites A s) (hB : BI G A s.heap h nx H locs) (ho : isO h o 11 = true) (hf : f_J2_remove E h nx o a0 = some out) (hsz : ls.size = nL) (hR : (fE + 2) + 1 ≤ R.frames ∧ 8 + (4 + 11) + (lE + 143) ≤ R.locals) (hW : (rest.map fun v => v.category).sum ≤ 8) (hcs : cells + out.2.2.1 ≤ R.cells ∧ slots + out.2.2.2 ≤ R.slots) (hdg : decode cc pc = .ok (.invokevirtual 542, 3))  (kk : ∀ (H1 : Heap) (locs1 : List Loc), True → BI G A s.heap out.2.1 (nx + out.2.2.1) H1 locs1 → W p l e R s m args below meth c H1 locs1 (cells + out.2.2.1) (slots + out.2.2.2) Q (F0 m (pc + 3) ls (.ref out.1 :: rest))) : W p l e R s m args below meth c H locs cells slots Q (F0 m pc ls (.int a0 :: .ref o :: rest)) := by
  have hN := hS.2.1
  obtain ⟨fs, he⟩ := isO_s ho
  exact br_w (va_runV (As := [.int a0]) S (mm_J2_remove (l := l) (G := G) (fE := fE) (lE := lE) hf) (cwV 1 S.2.2.2.2 (lw_V q1792 q1793 q1794 q177 q1795) rfl rfl rfl hd_J2_remove hR) (bPreV hS hB (ci := 11) rfl he) rfl rfl hsz rfl (lv_room hW) hdg hcs) hB kk
theorem hd_J2_isEmpty : yJ2_isEmpty.cls = RJ2 ∧ yJ2_isEmpty.cls ≠ "java/lang/invoke/MethodHandle" ∧ yJ2_isEmpty.cls ≠ "java/lang/invoke/VarHandle" ∧ (parseMethodDescriptor yJ2_isEmpty.desc).map (fun d => d.parameters.length) = some 0 := by decide +kernel
set_option maxHeartbeats 4000000 in
set_option maxRecDepth 100000 in
theorem mm_J2_isEmpty {o : Nat} {out : Int32} (hf : f_J2_isEmpty E h o = some out) : Met l yJ2_isEmpty (ws_ yJ2_isEmpty cJ2_isEmpty 1 (some .boolean)) (rM (fE + 0) (lE + 0)) (bPc G E.1 hSites h nx [.ref o]) (gR (some (.int out)) (narrow .boolean (.int out) = .int out)) 0 0 (fun _ => False) := by
  refine bGo (by decide +kernel) (Nat.le_of_ble_eq_true rfl) (fun p e s m below meth c ls S hr hlocks hin hnm hS hB hl => ?_)
  have S : CallFix p m c cJ2_isEmpty 1 s _ lw_all RJ2 := S
  obtain ⟨hx, hb, hml, hown, hts⟩ := id S
  have hl : lv_has ls 1 [(0, .ref o)] := hl
  rw [f_J2_isEmpty] at hf
  refine lv_aload_n hx hb dJ2_isEmpty_0 rfl (lv_at hl 0 rfl) ?_
  obtain ⟨v1, hv1, hf⟩ := ob_s hf
  refine bg_J2_48 S hS hB (vI_s hv1) dJ2_isEmpty_1 ?_
  refine lv_if_ne (tgt := 11) hx hb dJ2_isEmpty_4 (by decide) (fun c2 => ?_) (fun c2 => ?_)
  · replace hf := it_f c2 hf
    refine lv_iconst hx hb dJ2_isEmpty_11 kc_i0 ?_
    have hE9 := Option.some.inj hf
    subst hE9
    exact gt_rz S hr hlocks nb0 dJ2_isEmpty_12
  · replace hf := it_t c2 hf
    refine lv_iconst hx hb dJ2_isEmpty_7 kc_i1 ?_
    refine lv_goto (tgt := 12) hx hb dJ2_isEmpty_8 (by decide) ?_
    have hE9 := Option.some.inj hf
    subst hE9
    exact gt_rz S hr hlocks nb1 dJ2_isEmpty_12
set_option maxRecDepth 100000 in
theorem mc_X1_564 {o : Nat} {out : Int32} (S : CallFix p m c cc nL s args lw_all RX1) (hS : SK G E.1 hSites A s) (hB : BI G A s.heap h nx H locs) (ho : isO h o 11 = true) (hf : f_J2_isEmpty E h o = some out) (hsz : ls.size = nL) (hR : (fE + 0) + 1 ≤ R.frames ∧ 8 + (1 + 11) + (lE + 0) ≤ R.locals) (hW : (rest.map fun v => v.category).sum ≤ 8) (hcs : cells ≤ R.cells ∧ slots ≤ R.slots) (hdg : decode cc pc = .ok (.invokevirtual 564, 3))  (kk : (narrow .boolean (.int out) = .int out) → W p l e R s m args below meth c H locs cells slots Q (F0 m (pc + 3) ls (.int out :: rest))) : W p l e R s m args below meth c H locs cells slots Q (F0 m pc ls (.ref o :: rest)) := by
  have hN := hS.2.1
  obtain ⟨fs, he⟩ := isO_s ho
  exact br_r (va_runV (As := []) S (mm_J2_isEmpty (l := l) (G := G) (nx := nx) (fE := fE) (lE := lE) hf) (cwV 0 S.2.2.2.2 (lw_V q1847 q1848 q1849 q177 q1850) rfl rfl rfl hd_J2_isEmpty hR) (bPreV hS hB (ci := 11) rfl he) rfl rfl hsz rfl (lv_room hW) hdg hcs) kk
theorem hd_J16_hasNext : yJ16_hasNext.cls = RJ16 ∧ yJ16_hasNext.cls ≠ "java/lang/invoke/MethodHandle" ∧ yJ16_hasNext.cls ≠ "java/lang/invoke/VarHandle" ∧ (parseMethodDescriptor yJ16_hasNext.desc).map (fun d => d.parameters.length) = some 0 := by decide +kernel
set_option maxHeartbeats 4000000 in
set_option maxRecDepth 100000 in
theorem mm_J16_hasNext {o : Nat} {out : Int32} (hf : f_J16_hasNext E h o = some out) : Met l yJ16_hasNext (ws_ yJ16_hasNext cJ16_hasNext 1 (some .boolean)) (rM (fE + 0) (lE + 0)) (bPc G E.1 hSites h nx [.ref o]) (gR (some (.int out)) (narrow .boolean (.int out) = .int out)) 0 0 (fun _ => False) := by
  refine bGo (by decide +kernel) (Nat.le_of_ble_eq_true rfl) (fun p e s m below meth c ls S hr hlocks hin hnm hS hB hl => ?_)
  have S : CallFix p m c cJ16_hasNext 1 s _ lw_all RJ16 := S
  obtain ⟨hx, hb, hml, hown, hts⟩ := id S
  have hl : lv_has ls 1 [(0, .ref o)] := hl
  rw [f_J16_hasNext] at hf
  refine lv_aload_n hx hb dJ16_hasNext_0 rfl (lv_at hl 0 rfl) ?_
  obtain ⟨v1, hv1, hf⟩ := ob_s hf
  refine bg_J16_25 S hS hB (vI_s hv1) dJ16_hasNext_1 ?_
  refine lv_aload_n hx hb dJ16_hasNext_4 rfl (lv_at hl 0 rfl) ?_
  obtain ⟨v2, hv2, hf⟩ := ob_s hf
  refine bg_J16_1 S hS hB (vR_s hv2) dJ16_hasNext_5 ?_
  obtain ⟨v3, hv3, hf⟩ := ob_s hf
  refine bg_J16_28 S hS hB (vI_s hv3) dJ16_hasNext_8 ?_
  refine lv_icmp_eq (tgt := 18) hx hb dJ16_hasNext_11 (by decide) (fun c4 => ?_) (fun c4 => ?_)
  · replace hf := it_t c4 hf
    refine lv_iconst hx hb dJ16_hasNext_18 kc_i0 ?_
    have hE9 := Option.some.inj hf
    subst hE9
    exact gt_rz S hr hlocks nb0 dJ16_hasNext_19
  · replace hf := it_f c4 hf
    refine lv_iconst hx hb dJ16_hasNext_14 kc_i1 ?_
    refine lv_goto (tgt := 19) hx hb dJ16_hasNext_15 (by decide) ?_
    have hE9 := Option.some.inj hf
    subst hE9
    exact gt_rz S hr hlocks nb1 dJ16_hasNext_19
set_option maxRecDepth 100000 in
theorem mc_X1_407 {o : Nat} {out : Int32} (S : CallFix p m c cc nL s args lw_all RX1) (hS : SK G E.1 hSites A s) (hB : BI G A s.heap h nx H locs) (ho : isO h o 14 = true) (hf : f_J16_hasNext E h o = some out) (hsz : ls.size = nL) (hR : (fE + 0) + 1 ≤ R.frames ∧ 8 + (1 + 11) + (lE + 0) ≤ R.locals) (hW : (rest.map fun v => v.category).sum ≤ 8) (hcs : cells ≤ R.cells ∧ slots ≤ R.slots) (hdg : decode cc pc = .ok (.invokeinterface 407 1, 5))  (kk : (narrow .boolean (.int out) = .int out) → W p l e R s m args below meth c H locs cells slots Q (F0 m (pc + 5) ls (.int out :: rest))) : W p l e R s m args below meth c H locs cells slots Q (F0 m pc ls (.ref o :: rest)) := by
  have hN := hS.2.1
  obtain ⟨fs, he⟩ := isO_s ho
  exact br5_r (va_runF (hS.1.1 14 _ rfl).2 (As := []) S (mm_J16_hasNext (l := l) (G := G) (nx := nx) (fE := fE) (lE := lE) hf) (va_cwF (x := mHas) 0 S.2.2.2.2 (lw_app (c := ws_ yJ16_hasNext cJ16_hasNext 1 (some .boolean)) (fun w hw => by simp only [List.mem_cons, List.not_mem_nil, or_false] at hw; rcases hw with e | e | e | e <;> (rw [e]; first | exact q1504 | exact q1005 | exact q1007 | exact q197)) (lw_meth q1009)) rfl rfl rfl hS.2.2.2.2.1.2.1 (by decide +kernel) hR) (bPreV hS hB (ci := 14) rfl he) rfl rfl hsz rfl (lv_room hW) hdg hcs) kk
set_option maxRecDepth 100000 in
theorem mc_X4_127 {o : Nat} {out : Int32} (S : CallFix p m c cc nL s args lw_all RX4) (hS : SK G E.1 hSites A s) (hB : BI G A s.heap h nx H locs) (ho : isO h o 14 = true) (hf : f_J16_hasNext E h o = some out) (hsz : ls.size = nL) (hR : (fE + 0) + 1 ≤ R.frames ∧ 8 + (1 + 11) + (lE + 0) ≤ R.locals) (hW : (rest.map fun v => v.category).sum ≤ 8) (hcs : cells ≤ R.cells ∧ slots ≤ R.slots) (hdg : decode cc pc = .ok (.invokeinterface 127 1, 5))  (kk : (narrow .boolean (.int out) = .int out) → W p l e R s m args below meth c H locs cells slots Q (F0 m (pc + 5) ls (.int out :: rest))) : W p l e R s m args below meth c H locs cells slots Q (F0 m pc ls (.ref o :: rest)) := by
  have hN := hS.2.1
  obtain ⟨fs, he⟩ := isO_s ho
  exact br5_r (va_runF (hS.1.1 14 _ rfl).2 (As := []) S (mm_J16_hasNext (l := l) (G := G) (nx := nx) (fE := fE) (lE := lE) hf) (va_cwF (x := mHas) 0 S.2.2.2.2 (lw_app (c := ws_ yJ16_hasNext cJ16_hasNext 1 (some .boolean)) (fun w hw => by simp only [List.mem_cons, List.not_mem_nil, or_false] at hw; rcases hw with e | e | e | e <;> (rw [e]; first | exact q1001 | exact q1005 | exact q1007 | exact q197)) (lw_meth q1009)) rfl rfl rfl hS.2.2.2.2.1.2.1 (by decide +kernel) hR) (bPreV hS hB (ci := 14) rfl he) rfl rfl hsz rfl (lv_room hW) hdg hcs) kk
theorem hd_J16_checkForComodification : yJ16_checkForComodification.cls = RJ16 ∧ yJ16_checkForComodification.cls ≠ "java/lang/invoke/MethodHandle" ∧ yJ16_checkForComodification.cls ≠ "java/lang/invoke/VarHandle" ∧ (parseMethodDescriptor yJ16_checkForComodification.desc).map (fun d => d.parameters.length) = some 0 := by decide +kernel
set_option maxHeartbeats 4000000 in
set_option maxRecDepth 100000 in
theorem mm_J16_checkForComodification {o : Nat} {out : Unit} (hf : f_J16_checkForComodification E h o = some out) : Met l yJ16_checkForComodification (ws_ yJ16_checkForComodification cJ16_checkForComodification 1 none) (rM (fE + 0) (lE + 0)) (bPc G E.1 hSites h nx [.ref o]) (gR none True) 0 0 (fun _ => False) := by
  refine bGo (by decide +kernel) (Nat.le_of_ble_eq_true rfl) (fun p e s m below meth c ls S hr hlocks hin hnm hS hB hl => ?_)
  have S : CallFix p m c cJ16_checkForComodification 1 s _ lw_all RJ16 := S
  obtain ⟨hx, hb, hml, hown, hts⟩ := id S
  have hl : lv_has ls 1 [(0, .ref o)] := hl
  rw [f_J16_checkForComodification] at hf
  refine lv_aload_n hx hb dJ16_checkForComodification_0 rfl (lv_at hl 0 rfl) ?_
  obtain ⟨v1, hv1, hf⟩ := ob_s hf
  refine bg_J16_1 S hS hB (vR_s hv1) dJ16_checkForComodification_1 ?_
  obtain ⟨v2, hv2, hf⟩ := ob_s hf
  refine bg_J16_17 S hS hB (vI_s hv2) dJ16_checkForComodification_4 ?_
  refine lv_aload_n hx hb dJ16_checkForComodification_7 rfl (lv_at hl 0 rfl) ?_
  obtain ⟨v3, hv3, hf⟩ := ob_s hf
  refine bg_J16_22 S hS hB (vI_s hv3) dJ16_checkForComodification_8 ?_
  refine lv_icmp_eq (tgt := 22) hx hb dJ16_checkForComodification_11 (by decide) (fun c4 => ?_) (fun c4 => ?_)
  · replace hf := it_t c4 hf
    have hE9 := Option.some.inj hf
    subst hE9
    exact gt_rv S hr hlocks trivial dJ16_checkForComodification_22
  · replace hf := it_f c4 hf
    exact absurd hf (by nofun)
set_option maxRecDepth 100000 in
theorem mc_J16_31 {o : Nat} {out : Unit} (S : CallFix p m c cc nL s args lw_all RJ16) (hS : SK G E.1 hSites A s) (hB : BI G A s.heap h nx H locs) (ho : isO h o 14 = true) (hf : f_J16_checkForComodification E h o = some out) (hsz : ls.size = nL) (hR : (fE + 0) + 1 ≤ R.frames ∧ 8 + (1 + 11) + (lE + 0) ≤ R.locals) (hW : (rest.map fun v => v.category).sum ≤ 8) (hcs : cells ≤ R.cells ∧ slots ≤ R.slots) (hdg : decode cc pc = .ok (.invokevirtual 31, 3))  (kk : True → W p l e R s m args below meth c H locs cells slots Q (F0 m (pc + 3) ls (rest))) : W p l e R s m args below meth c H locs cells slots Q (F0 m pc ls (.ref o :: rest)) := by
  have hN := hS.2.1
  obtain ⟨fs, he⟩ := isO_s ho
  exact br_rv (va_runV (As := []) S (mm_J16_checkForComodification (l := l) (G := G) (nx := nx) (fE := fE) (lE := lE) hf) (cwV 0 S.2.2.2.2 (lw_V q1019 q1020 q1021 q197 q1022) rfl rfl rfl hd_J16_checkForComodification hR) (bPreV hS hB (ci := 14) rfl he) rfl rfl hsz rfl (lv_room hW) hdg hcs) kk
theorem hd_J16_next : yJ16_next.cls = RJ16 ∧ yJ16_next.cls ≠ "java/lang/invoke/MethodHandle" ∧ yJ16_next.cls ≠ "java/lang/invoke/VarHandle" ∧ (parseMethodDescriptor yJ16_next.desc).map (fun d => d.parameters.length) = some 0 := by decide +kernel
set_option maxHeartbeats 4000000 in
set_option maxRecDepth 100000 in
theorem mm_J16_next {o : Nat} {out : Nat × AH × Nat × Nat} (hf : f_J16_next E h nx o = some out) : Met l yJ16_next (ws_ yJ16_next cJ16_next 3 (some (.object "java/lang/Object"))) (rC (fE + 1) (lE + 20) out.2.2.1 out.2.2.2) (bPc G E.1 hSites h nx [.ref o]) (bQ G (some (.ref out.1)) True out.2.1 (nx + out.2.2.1) (AA h nx)) out.2.2.1 out.2.2.2 (AA h nx) := by
  refine bGo (by decide +kernel) (Nat.le_of_ble_eq_true rfl) (fun p e s m below meth c ls S hr hlocks hin hnm hS hB hl => ?_)
  have S : CallFix p m c cJ16_next 3 s _ lw_all RJ16 := S
  obtain ⟨hx, hb, hml, hown, hts⟩ := id S
  have hl : lv_has ls 3 [(0, .ref o)] := hl
  have hT : TL out out 0 0 := TL_0
  rw [f_J16_next] at hf
  refine lv_aload_n hx hb dJ16_next_0 rfl (lv_at hl 0 rfl) ?_
  obtain ⟨g1, hf⟩ := gd_t hf
  obtain ⟨v2, hv2, hf⟩ := ob_s hf
  refine mc_J16_31 (fE := fE) (lE := lE) S hS hB g1 hv2 hl.1 ⟨(by show _ ≤ (fE + 1); omega), (by show _ ≤ (lE + 20); omega)⟩ (Nat.le_of_ble_eq_true rfl) ⟨(TL_m hT).1, (TL_m hT).2⟩ dJ16_next_1 (fun _ => ?_)
  refine lv_aload_n hx hb dJ16_next_4 rfl (lv_at hl 0 rfl) ?_
  obtain ⟨v3, hv3, hf⟩ := ob_s hf
  refine bg_J16_25 S hS hB (vI_s hv3) dJ16_next_5 ?_
  refine lv_istore_n (i := 1) (lv' := [(1, .int v3), (0, .ref o)]) hx hb dJ16_next_8 rfl hl (by decide) rfl (fun ls hl => ?_)
  refine lv_iload_n hx hb dJ16_next_9 rfl (lv_at hl 0 rfl) ?_
  refine lv_aload_n hx hb dJ16_next_10 rfl (lv_at hl 1 rfl) ?_
  obtain ⟨v4, hv4, hf⟩ := ob_s hf
  refine bg_J16_1 S hS hB (vR_s hv4) dJ16_next_11 ?_
  obtain ⟨v5, hv5, hf⟩ := ob_s hf
  refine bg_J16_28 S hS hB (vI_s hv5) dJ16_next_14 ?_
  refine lv_icmp_lt (tgt := 28) hx hb dJ16_next_17 (by decide) (fun c6 => ?_) (fun c6 => ?_)
  · replace hf := it_t c6 hf
    refine lv_aload_n hx hb dJ16_next_28 rfl (lv_at hl 1 rfl) ?_
    obtain ⟨v7, hv7, hf⟩ := ob_s hf
    refine bg_J16_1 S hS hB (vR_s hv7) dJ16_next_29 ?_
    obtain ⟨v8, hv8, hf⟩ := ob_s hf
    refine bg_J16_37 S hS hB (vR_s hv8) dJ16_next_32 ?_
    refine lv_astore_n (i := 2) (lv' := [(2, .ref v8), (1, .int v3), (0, .ref o)]) hx hb dJ16_next_35 rfl hl (by decide) rfl (fun ls hl => ?_)
    refine lv_iload_n hx hb dJ16_next_36 rfl (lv_at hl 1 rfl) ?_
    refine lv_aload_n hx hb dJ16_next_37 rfl (lv_at hl 0 rfl) ?_
    obtain ⟨v9, hv9, hf⟩ := ob_s hf
    refine b_alen S hS.1 hB hv9 dJ16_next_38 ?_
    refine lv_icmp_lt (tgt := 50) hx hb dJ16_next_39 (by decide) (fun c10 => ?_) (fun c10 => ?_)
    · replace hf := it_t c10 hf
      refine lv_aload_n hx hb dJ16_next_50 rfl (lv_at hl 2 rfl) ?_
      refine lv_iload_n hx hb dJ16_next_51 rfl (lv_at hl 1 rfl) ?_
      refine lv_iconst hx hb dJ16_next_52 kc_i1 ?_
      refine lv_iadd hx hb dJ16_next_53 ?_
      obtain ⟨h11, hh11, hf⟩ := ob_s hf
      refine bp_J16_25 S hS hB hh11 dJ16_next_54 (fun H locs hB => ?_)
      refine lv_aload_n hx hb dJ16_next_57 rfl (lv_at hl 0 rfl) ?_
      refine lv_aload_n hx hb dJ16_next_58 rfl (lv_at hl 2 rfl) ?_
      refine lv_iload_n hx hb dJ16_next_59 rfl (lv_at hl 1 rfl) ?_
      refine lv_dup_x1 hx hb dJ16_next_60 rfl rfl ?_
      obtain ⟨h12, hh12, hf⟩ := ob_s hf
      refine bp_J16_13 S hS hB hh12 dJ16_next_61 (fun H locs hB => ?_)
      obtain ⟨v13, hv13, hf⟩ := ob_s hf
      refine b_aald S hS.1 hB 4 rfl rfl hv13 dJ16_next_64 ?_
      have hE9 := TL_e hT hf
      subst hE9
      exact bt_a S hr (Or.inl ⟨_, rfl⟩) hlocks hB (by omega) trivial dJ16_next_65
    · replace hf := it_f c10 hf
      exact absurd hf (by nofun)
  · replace hf := it_f c6 hf
    exact absurd hf (by nofun)
set_option maxRecDepth 100000 in
theorem mc_X1_412 {o : Nat} {out : Nat × AH × Nat × Nat} (S : CallFix p m c cc nL s args lw_all RX1) (hS : SK G E.1 hSites A s) (hB : BI G A s.heap h nx H locs) (ho : isO h o 14 = true) (hf : f_J16_next E h nx o = some out) (hsz : ls.size = nL) (hR : (fE + 1) + 1 ≤ R.frames ∧ 8 + (3 + 11) + (lE + 20) ≤ R.locals) (hW : (rest.map fun v => v.category).sum ≤ 8) (hcs : cells + out.2.2.1 ≤ R.cells ∧ slots + out.2.2.2 ≤ R.slots) (hdg : decode cc pc = .ok (.invokeinterface 412 1, 5))  (kk : ∀ (H1 : Heap) (locs1 : List Loc), True → BI G A s.heap out.2.1 (nx + out.2.2.1) H1 locs1 → W p l e R s m args below meth c H1 locs1 (cells + out.2.2.1) (slots + out.2.2.2) Q (F0 m (pc + 5) ls (.ref out.1 :: rest))) : W p l e R s m args below meth c H locs cells slots Q (F0 m pc ls (.ref o :: rest)) := by
  have hN := hS.2.1
  obtain ⟨fs, he⟩ := isO_s ho
  exact br5_w (va_runF (hS.1.1 14 _ rfl).2 (As := []) S (mm_J16_next (l := l) (G := G) (fE := fE) (lE := lE) hf) (va_cwF (x := mNxt) 0 S.2.2.2.2 (lw_app (c := ws_ yJ16_next cJ16_next 3 (some (.object "java/lang/Object"))) (fun w hw => by simp only [List.mem_cons, List.not_mem_nil, or_false] at hw; rcases hw with e | e | e | e <;> (rw [e]; first | exact q1506 | exact q1014 | exact q1016 | exact q197)) (lw_meth q1018)) rfl rfl rfl hS.2.2.2.2.1.2.2 (by decide +kernel) hR) (bPreV hS hB (ci := 14) rfl he) rfl rfl hsz rfl (lv_room hW) hdg hcs) hB kk
set_option maxRecDepth 100000 in
theorem mc_X4_133 {o : Nat} {out : Nat × AH × Nat × Nat} (S : CallFix p m c cc nL s args lw_all RX4) (hS : SK G E.1 hSites A s) (hB : BI G A s.heap h nx H locs) (ho : isO h o 14 = true) (hf : f_J16_next E h nx o = some out) (hsz : ls.size = nL) (hR : (fE + 1) + 1 ≤ R.frames ∧ 8 + (3 + 11) + (lE + 20) ≤ R.locals) (hW : (rest.map fun v => v.category).sum ≤ 8) (hcs : cells + out.2.2.1 ≤ R.cells ∧ slots + out.2.2.2 ≤ R.slots) (hdg : decode cc pc = .ok (.invokeinterface 133 1, 5))  (kk : ∀ (H1 : Heap) (locs1 : List Loc), True → BI G A s.heap out.2.1 (nx + out.2.2.1) H1 locs1 → W p l e R s m args below meth c H1 locs1 (cells + out.2.2.1) (slots + out.2.2.2) Q (F0 m (pc + 5) ls (.ref out.1 :: rest))) : W p l e R s m args below meth c H locs cells slots Q (F0 m pc ls (.ref o :: rest)) := by
  have hN := hS.2.1
  obtain ⟨fs, he⟩ := isO_s ho
  exact br5_w (va_runF (hS.1.1 14 _ rfl).2 (As := []) S (mm_J16_next (l := l) (G := G) (fE := fE) (lE := lE) hf) (va_cwF (x := mNxt) 0 S.2.2.2.2 (lw_app (c := ws_ yJ16_next cJ16_next 3 (some (.object "java/lang/Object"))) (fun w hw => by simp only [List.mem_cons, List.not_mem_nil, or_false] at hw; rcases hw with e | e | e | e <;> (rw [e]; first | exact q1011 | exact q1014 | exact q1016 | exact q197)) (lw_meth q1018)) rfl rfl rfl hS.2.2.2.2.1.2.2 (by decide +kernel) hR) (bPreV hS hB (ci := 14) rfl he) rfl rfl hsz rfl (lv_room hW) hdg hcs) hB kk
theorem hd_X6_init : yX6_init.cls ≠ "java/lang/invoke/MethodHandle" ∧ yX6_init.cls ≠ "java/lang/invoke/VarHandle" ∧ (parseMethodDescriptor yX6_init.desc).map (fun d => d.parameters.length) = some 3 := by decide +kernel
set_option maxHeartbeats 4000000 in
set_option maxRecDepth 100000 in
theorem mm_X6_init {o : Nat} {a0 : Nat} {a1 : Int32} {a2 : Int32} {out : Unit × AH × Nat × Nat} (hf : f_X6_init E h nx o a0 a1 a2 = some out) : Met l yX6_init (ws_ yX6_init cX6_init 4 none) (rC (fE + 1) (lE + 40) out.2.2.1 out.2.2.2) (bPc G E.1 hSites h nx [.ref o, .ref a0, .int a1, .int a2]) (bQ G none True out.2.1 (nx + out.2.2.1) (AA h nx)) out.2.2.1 out.2.2.2 (AA h nx) := by
  refine bGo (by decide +kernel) (Nat.le_of_ble_eq_true rfl) (fun p e s m below meth c ls S hr hlocks hin hnm hS hB hl => ?_)
  have S : CallFix p m c cX6_init 4 s _ lw_all RX6 := S
  obtain ⟨hx, hb, hml, hown, hts⟩ := id S
  have hl : lv_has ls 4 [(0, .ref o), (1, .ref a0), (2, .int a1), (3, .int a2)] := hl
  have hT : TL out out 0 0 := TL_0
  rw [f_X6_init] at hf
  refine lv_aload_n hx hb dX6_init_0 rfl (lv_at hl 0 rfl) ?_
  refine W.objInit hx hb hown (hts _ q1061) (hts _ q212) (hts _ q213) rfl (by rw [hml]; exact hl.1) rfl dX6_init_1 (by show _ ≤ (fE + 1); omega) (by show _ ≤ (lE + 40); simp only [F0, JFrame.monitorRoom, List.map, List.sum_cons, List.sum_nil, Value.category]; omega) ?_
  refine W.eq (g2 := F0 m 4 ls []) rfl ?_
  refine lv_aload_n hx hb dX6_init_4 rfl (lv_at hl 0 rfl) ?_
  refine lv_aload_n hx hb dX6_init_5 rfl (lv_at hl 1 rfl) ?_
  obtain ⟨h1, hh1, hf⟩ := ob_s hf
  refine bp_X6_7 S hS hB hin hh1 dX6_init_6 (fun H locs hB => ?_)
  refine lv_aload_n hx hb dX6_init_9 rfl (lv_at hl 0 rfl) ?_
  refine lv_iload_n hx hb dX6_init_10 rfl (lv_at hl 2 rfl) ?_
  obtain ⟨h2, hh2, hf⟩ := ob_s hf
  refine bp_X6_13 S hS hB hin hh2 dX6_init_11 (fun H locs hB => ?_)
  refine lv_aload_n hx hb dX6_init_14 rfl (lv_at hl 0 rfl) ?_
  refine lv_iload_n hx hb dX6_init_15 rfl (lv_at hl 3 rfl) ?_
  obtain ⟨h3, hh3, hf⟩ := ob_s hf
  refine bp_X6_17 S hS hB hin hh3 dX6_init_16 (fun H locs hB => ?_)
  have hE9 := TL_e hT hf
  subst hE9
  exact bt_v S hr hlocks hB (by omega) trivial dX6_init_19
set_option maxRecDepth 100000 in
theorem mc_X4_156 {o : Nat} {a0 : Nat} {a1 : Int32} {a2 : Int32} {out : Unit × AH × Nat × Nat} (S : CallFix p m c cc nL s args lw_all RX4) (hS : SK G E.1 hSites A s) (hB : BI G A s.heap h nx H locs) (hf : f_X6_init E h nx o a0 a1 a2 = some out) (hsz : ls.size = nL) (hR : (fE + 1) + 1 ≤ R.frames ∧ 8 + (4 + 11) + (lE + 40) ≤ R.locals) (hW : (rest.map fun v => v.category).sum ≤ 8) (hcs : cells + out.2.2.1 ≤ R.cells ∧ slots + out.2.2.2 ≤ R.slots) (hdg : decode cc pc = .ok (.invokespecial 156, 3))  (kk : ∀ (H1 : Heap) (locs1 : List Loc), True → BI G A s.heap out.2.1 (nx + out.2.2.1) H1 locs1 → W p l e R s m args below meth c H1 locs1 (cells + out.2.2.1) (slots + out.2.2.2) Q (F0 m (pc + 3) ls (rest))) : W p l e R s m args below meth c H locs cells slots Q (F0 m pc ls (.int a2 :: .int a1 :: .ref a0 :: .ref o :: rest)) := by
  have hN := hS.2.1
  exact br_v (va_runI (As := [.ref a0, .int a1, .int a2]) S (mm_X6_init (l := l) (G := G) (fE := fE) (lE := lE) hf) (⟨callB_of 3 S.2.2.2.2 (lw_meth q1060) rfl rfl rfl (S.2.2.2.2 _ q200) (S.2.2.2.2 _ q1058) hd_X6_init hR, rfl, S.2.2.2.2 _ q1059⟩) (bPreS hS hB) rfl rfl hsz rfl (lv_room hW) hdg hcs) hB kk
theorem hd_X7_band : yX7_band.cls = RX7 ∧ yX7_band.cls ≠ "java/lang/invoke/MethodHandle" ∧ yX7_band.cls ≠ "java/lang/invoke/VarHandle" ∧ (parseMethodDescriptor yX7_band.desc).map (fun d => d.parameters.length) = some 0 := by decide +kernel
set_option maxHeartbeats 4000000 in
set_option maxRecDepth 100000 in
theorem mm_X7_band {o : Nat} {out : Int32} (hf : f_X7_band E h o = some out) : Met l yX7_band (ws_ yX7_band cX7_band 1 (some .int)) (rM (fE + 0) (lE + 0)) (bPc G E.1 hSites h nx [.ref o]) (gR (some (.int out)) True) 0 0 (fun _ => False) := by
  refine bGo (by decide +kernel) (Nat.le_of_ble_eq_true rfl) (fun p e s m below meth c ls S hr hlocks hin hnm hS hB hl => ?_)
  have S : CallFix p m c cX7_band 1 s _ lw_all RX7 := S
  obtain ⟨hx, hb, hml, hown, hts⟩ := id S
  have hl : lv_has ls 1 [(0, .ref o)] := hl
  rw [f_X7_band] at hf
  refine lv_aload_n hx hb dX7_band_0 rfl (lv_at hl 0 rfl) ?_
  obtain ⟨v1, hv1, hf⟩ := ob_s hf
  refine bg_X7_13 S hS hB (vR_s hv1) dX7_band_1 ?_
  refine lv_iconst hx hb dX7_band_4 kc_i0 ?_
  obtain ⟨v2, hv2, hf⟩ := ob_s hf
  refine b_iald S hS.1 hB hv2 dX7_band_5 ?_
  have hE9 := Option.some.inj hf
  subst hE9
  exact gt_ri S hr hlocks trivial dX7_band_6
set_option maxRecDepth 100000 in
theorem mc_X1_281 {o : Nat} {out : Int32} (S : CallFix p m c cc nL s args lw_all RX1) (hS : SK G E.1 hSites A s) (hB : BI G A s.heap h nx H locs) (ho : isO h o 6 = true) (hf : f_X7_band E h o = some out) (hsz : ls.size = nL) (hR : (fE + 0) + 1 ≤ R.frames ∧ 8 + (1 + 11) + (lE + 0) ≤ R.locals) (hW : (rest.map fun v => v.category).sum ≤ 8) (hcs : cells ≤ R.cells ∧ slots ≤ R.slots) (hdg : decode cc pc = .ok (.invokevirtual 281, 3))  (kk : True → W p l e R s m args below meth c H locs cells slots Q (F0 m (pc + 3) ls (.int out :: rest))) : W p l e R s m args below meth c H locs cells slots Q (F0 m pc ls (.ref o :: rest)) := by
  have hN := hS.2.1
  obtain ⟨fs, he⟩ := isO_s ho
  exact br_r (va_runV (As := []) S (mm_X7_band (l := l) (G := G) (nx := nx) (fE := fE) (lE := lE) hf) (cwV 0 S.2.2.2.2 (lw_V q1244 q345 q346 q201 q347) rfl rfl rfl hd_X7_band hR) (bPreV hS hB (ci := 6) rfl he) rfl rfl hsz rfl (lv_room hW) hdg hcs) kk
set_option maxRecDepth 100000 in
theorem mc_X2_211 {o : Nat} {out : Int32} (S : CallFix p m c cc nL s args lw_all RX2) (hS : SK G E.1 hSites A s) (hB : BI G A s.heap h nx H locs) (ho : isO h o 6 = true) (hf : f_X7_band E h o = some out) (hsz : ls.size = nL) (hR : (fE + 0) + 1 ≤ R.frames ∧ 8 + (1 + 11) + (lE + 0) ≤ R.locals) (hW : (rest.map fun v => v.category).sum ≤ 8) (hcs : cells ≤ R.cells ∧ slots ≤ R.slots) (hdg : decode cc pc = .ok (.invokevirtual 211, 3))  (kk : True → W p l e R s m args below meth c H locs cells slots Q (F0 m (pc + 3) ls (.int out :: rest))) : W p l e R s m args below meth c H locs cells slots Q (F0 m pc ls (.ref o :: rest)) := by
  have hN := hS.2.1
  obtain ⟨fs, he⟩ := isO_s ho
  exact br_r (va_runV (As := []) S (mm_X7_band (l := l) (G := G) (nx := nx) (fE := fE) (lE := lE) hf) (cwV 0 S.2.2.2.2 (lw_V q344 q345 q346 q201 q347) rfl rfl rfl hd_X7_band hR) (bPreV hS hB (ci := 6) rfl he) rfl rfl hsz rfl (lv_room hW) hdg hcs) kk
theorem hd_X7_day : yX7_day.cls = RX7 ∧ yX7_day.cls ≠ "java/lang/invoke/MethodHandle" ∧ yX7_day.cls ≠ "java/lang/invoke/VarHandle" ∧ (parseMethodDescriptor yX7_day.desc).map (fun d => d.parameters.length) = some 0 := by decide +kernel
set_option maxHeartbeats 4000000 in
set_option maxRecDepth 100000 in
theorem mm_X7_day {o : Nat} {out : Int32} (hf : f_X7_day E h o = some out) : Met l yX7_day (ws_ yX7_day cX7_day 1 (some .int)) (rM (fE + 0) (lE + 0)) (bPc G E.1 hSites h nx [.ref o]) (gR (some (.int out)) True) 0 0 (fun _ => False) := by
  refine bGo (by decide +kernel) (Nat.le_of_ble_eq_true rfl) (fun p e s m below meth c ls S hr hlocks hin hnm hS hB hl => ?_)
  have S : CallFix p m c cX7_day 1 s _ lw_all RX7 := S
  obtain ⟨hx, hb, hml, hown, hts⟩ := id S
  have hl : lv_has ls 1 [(0, .ref o)] := hl
  rw [f_X7_day] at hf
  refine lv_aload_n hx hb dX7_day_0 rfl (lv_at hl 0 rfl) ?_
  obtain ⟨v1, hv1, hf⟩ := ob_s hf
  refine bg_X7_13 S hS hB (vR_s hv1) dX7_day_1 ?_
  refine lv_iconst hx hb dX7_day_4 kc_i3 ?_
  obtain ⟨v2, hv2, hf⟩ := ob_s hf
  refine b_iald S hS.1 hB hv2 dX7_day_5 ?_
  have hE9 := Option.some.inj hf
  subst hE9
  exact gt_ri S hr hlocks trivial dX7_day_6
set_option maxRecDepth 100000 in
theorem mc_X1_293 {o : Nat} {out : Int32} (S : CallFix p m c cc nL s args lw_all RX1) (hS : SK G E.1 hSites A s) (hB : BI G A s.heap h nx H locs) (ho : isO h o 6 = true) (hf : f_X7_day E h o = some out) (hsz : ls.size = nL) (hR : (fE + 0) + 1 ≤ R.frames ∧ 8 + (1 + 11) + (lE + 0) ≤ R.locals) (hW : (rest.map fun v => v.category).sum ≤ 8) (hcs : cells ≤ R.cells ∧ slots ≤ R.slots) (hdg : decode cc pc = .ok (.invokevirtual 293, 3))  (kk : True → W p l e R s m args below meth c H locs cells slots Q (F0 m (pc + 3) ls (.int out :: rest))) : W p l e R s m args below meth c H locs cells slots Q (F0 m pc ls (.ref o :: rest)) := by
  have hN := hS.2.1
  obtain ⟨fs, he⟩ := isO_s ho
  exact br_r (va_runV (As := []) S (mm_X7_day (l := l) (G := G) (nx := nx) (fE := fE) (lE := lE) hf) (cwV 0 S.2.2.2.2 (lw_V q1247 q353 q354 q201 q355) rfl rfl rfl hd_X7_day hR) (bPreV hS hB (ci := 6) rfl he) rfl rfl hsz rfl (lv_room hW) hdg hcs) kk
set_option maxRecDepth 100000 in
theorem mc_X2_197 {o : Nat} {out : Int32} (S : CallFix p m c cc nL s args lw_all RX2) (hS : SK G E.1 hSites A s) (hB : BI G A s.heap h nx H locs) (ho : isO h o 6 = true) (hf : f_X7_day E h o = some out) (hsz : ls.size = nL) (hR : (fE + 0) + 1 ≤ R.frames ∧ 8 + (1 + 11) + (lE + 0) ≤ R.locals) (hW : (rest.map fun v => v.category).sum ≤ 8) (hcs : cells ≤ R.cells ∧ slots ≤ R.slots) (hdg : decode cc pc = .ok (.invokevirtual 197, 3))  (kk : True → W p l e R s m args below meth c H locs cells slots Q (F0 m (pc + 3) ls (.int out :: rest))) : W p l e R s m args below meth c H locs cells slots Q (F0 m pc ls (.ref o :: rest)) := by
  have hN := hS.2.1
  obtain ⟨fs, he⟩ := isO_s ho
  exact br_r (va_runV (As := []) S (mm_X7_day (l := l) (G := G) (nx := nx) (fE := fE) (lE := lE) hf) (cwV 0 S.2.2.2.2 (lw_V q352 q353 q354 q201 q355) rfl rfl rfl hd_X7_day hR) (bPreV hS hB (ci := 6) rfl he) rfl rfl hsz rfl (lv_room hW) hdg hcs) kk
theorem hd_X7_tie : yX7_tie.cls = RX7 ∧ yX7_tie.cls ≠ "java/lang/invoke/MethodHandle" ∧ yX7_tie.cls ≠ "java/lang/invoke/VarHandle" ∧ (parseMethodDescriptor yX7_tie.desc).map (fun d => d.parameters.length) = some 0 := by decide +kernel
set_option maxHeartbeats 4000000 in
set_option maxRecDepth 100000 in
theorem mm_X7_tie {o : Nat} {out : Int32} (hf : f_X7_tie E h o = some out) : Met l yX7_tie (ws_ yX7_tie cX7_tie 1 (some .int)) (rM (fE + 0) (lE + 0)) (bPc G E.1 hSites h nx [.ref o]) (gR (some (.int out)) True) 0 0 (fun _ => False) := by
  refine bGo (by decide +kernel) (Nat.le_of_ble_eq_true rfl) (fun p e s m below meth c ls S hr hlocks hin hnm hS hB hl => ?_)
  have S : CallFix p m c cX7_tie 1 s _ lw_all RX7 := S
  obtain ⟨hx, hb, hml, hown, hts⟩ := id S
  have hl : lv_has ls 1 [(0, .ref o)] := hl
  rw [f_X7_tie] at hf
  refine lv_aload_n hx hb dX7_tie_0 rfl (lv_at hl 0 rfl) ?_
  obtain ⟨v1, hv1, hf⟩ := ob_s hf
  refine bg_X7_13 S hS hB (vR_s hv1) dX7_tie_1 ?_
  refine lv_iconst hx hb dX7_tie_4 kc_i2 ?_
  obtain ⟨v2, hv2, hf⟩ := ob_s hf
  refine b_iald S hS.1 hB hv2 dX7_tie_5 ?_
  have hE9 := Option.some.inj hf
  subst hE9
  exact gt_ri S hr hlocks trivial dX7_tie_6
set_option maxRecDepth 100000 in
theorem mc_X1_290 {o : Nat} {out : Int32} (S : CallFix p m c cc nL s args lw_all RX1) (hS : SK G E.1 hSites A s) (hB : BI G A s.heap h nx H locs) (ho : isO h o 6 = true) (hf : f_X7_tie E h o = some out) (hsz : ls.size = nL) (hR : (fE + 0) + 1 ≤ R.frames ∧ 8 + (1 + 11) + (lE + 0) ≤ R.locals) (hW : (rest.map fun v => v.category).sum ≤ 8) (hcs : cells ≤ R.cells ∧ slots ≤ R.slots) (hdg : decode cc pc = .ok (.invokevirtual 290, 3))  (kk : True → W p l e R s m args below meth c H locs cells slots Q (F0 m (pc + 3) ls (.int out :: rest))) : W p l e R s m args below meth c H locs cells slots Q (F0 m pc ls (.ref o :: rest)) := by
  have hN := hS.2.1
  obtain ⟨fs, he⟩ := isO_s ho
  exact br_r (va_runV (As := []) S (mm_X7_tie (l := l) (G := G) (nx := nx) (fE := fE) (lE := lE) hf) (cwV 0 S.2.2.2.2 (lw_V q1246 q404 q405 q201 q406) rfl rfl rfl hd_X7_tie hR) (bPreV hS hB (ci := 6) rfl he) rfl rfl hsz rfl (lv_room hW) hdg hcs) kk
set_option maxRecDepth 100000 in
theorem mc_X2_248 {o : Nat} {out : Int32} (S : CallFix p m c cc nL s args lw_all RX2) (hS : SK G E.1 hSites A s) (hB : BI G A s.heap h nx H locs) (ho : isO h o 6 = true) (hf : f_X7_tie E h o = some out) (hsz : ls.size = nL) (hR : (fE + 0) + 1 ≤ R.frames ∧ 8 + (1 + 11) + (lE + 0) ≤ R.locals) (hW : (rest.map fun v => v.category).sum ≤ 8) (hcs : cells ≤ R.cells ∧ slots ≤ R.slots) (hdg : decode cc pc = .ok (.invokevirtual 248, 3))  (kk : True → W p l e R s m args below meth c H locs cells slots Q (F0 m (pc + 3) ls (.int out :: rest))) : W p l e R s m args below meth c H locs cells slots Q (F0 m pc ls (.ref o :: rest)) := by
  have hN := hS.2.1
  obtain ⟨fs, he⟩ := isO_s ho
  exact br_r (va_runV (As := []) S (mm_X7_tie (l := l) (G := G) (nx := nx) (fE := fE) (lE := lE) hf) (cwV 0 S.2.2.2.2 (lw_V q403 q404 q405 q201 q406) rfl rfl rfl hd_X7_tie hR) (bPreV hS hB (ci := 6) rfl he) rfl rfl hsz rfl (lv_room hW) hdg hcs) kk
theorem hd_X7_init : yX7_init.cls ≠ "java/lang/invoke/MethodHandle" ∧ yX7_init.cls ≠ "java/lang/invoke/VarHandle" ∧ (parseMethodDescriptor yX7_init.desc).map (fun d => d.parameters.length) = some 2 := by decide +kernel
set_option maxHeartbeats 4000000 in
set_option maxRecDepth 100000 in
theorem mm_X7_init {o : Nat} {a0 : Nat} {a1 : Nat} {out : Unit × AH × Nat × Nat} (hf : f_X7_init E h nx o a0 a1 = some out) : Met l yX7_init (ws_ yX7_init cX7_init 3 none) (rC (fE + 1) (lE + 40) out.2.2.1 out.2.2.2) (bPc G E.1 hSites h nx [.ref o, .ref a0, .ref a1]) (bQ G none True out.2.1 (nx + out.2.2.1) (AA h nx)) out.2.2.1 out.2.2.2 (AA h nx) := by
  refine bGo (by decide +kernel) (Nat.le_of_ble_eq_true rfl) (fun p e s m below meth c ls S hr hlocks hin hnm hS hB hl => ?_)
  have S : CallFix p m c cX7_init 3 s _ lw_all RX7 := S
  obtain ⟨hx, hb, hml, hown, hts⟩ := id S
  have hl : lv_has ls 3 [(0, .ref o), (1, .ref a0), (2, .ref a1)] := hl
  have hT : TL out out 0 0 := TL_0
  rw [f_X7_init] at hf
  refine lv_aload_n hx hb dX7_init_0 rfl (lv_at hl 0 rfl) ?_
  refine W.objInit hx hb hown (hts _ q1148) (hts _ q212) (hts _ q213) rfl (by rw [hml]; exact hl.1) rfl dX7_init_1 (by show _ ≤ (fE + 1); omega) (by show _ ≤ (lE + 40); simp only [F0, JFrame.monitorRoom, List.map, List.sum_cons, List.sum_nil, Value.category]; omega) ?_
  refine W.eq (g2 := F0 m 4 ls []) rfl ?_
  refine lv_aload_n hx hb dX7_init_4 rfl (lv_at hl 0 rfl) ?_
  refine lv_aload_n hx hb dX7_init_5 rfl (lv_at hl 1 rfl) ?_
  obtain ⟨h1, hh1, hf⟩ := ob_s hf
  refine bp_X7_7 S hS hB hin hh1 dX7_init_6 (fun H locs hB => ?_)
  refine lv_aload_n hx hb dX7_init_9 rfl (lv_at hl 0 rfl) ?_
  refine lv_aload_n hx hb dX7_init_10 rfl (lv_at hl 2 rfl) ?_
  obtain ⟨h2, hh2, hf⟩ := ob_s hf
  refine bp_X7_13 S hS hB hin hh2 dX7_init_11 (fun H locs hB => ?_)
  have hE9 := TL_e hT hf
  subst hE9
  exact bt_v S hr hlocks hB (by omega) trivial dX7_init_14
set_option maxRecDepth 100000 in
theorem mc_X4_188 {o : Nat} {a0 : Nat} {a1 : Nat} {out : Unit × AH × Nat × Nat} (S : CallFix p m c cc nL s args lw_all RX4) (hS : SK G E.1 hSites A s) (hB : BI G A s.heap h nx H locs) (hf : f_X7_init E h nx o a0 a1 = some out) (hsz : ls.size = nL) (hR : (fE + 1) + 1 ≤ R.frames ∧ 8 + (3 + 11) + (lE + 40) ≤ R.locals) (hW : (rest.map fun v => v.category).sum ≤ 8) (hcs : cells + out.2.2.1 ≤ R.cells ∧ slots + out.2.2.2 ≤ R.slots) (hdg : decode cc pc = .ok (.invokespecial 188, 3))  (kk : ∀ (H1 : Heap) (locs1 : List Loc), True → BI G A s.heap out.2.1 (nx + out.2.2.1) H1 locs1 → W p l e R s m args below meth c H1 locs1 (cells + out.2.2.1) (slots + out.2.2.2) Q (F0 m (pc + 3) ls (rest))) : W p l e R s m args below meth c H locs cells slots Q (F0 m pc ls (.ref a1 :: .ref a0 :: .ref o :: rest)) := by
  have hN := hS.2.1
  exact br_v (va_runI (As := [.ref a0, .ref a1]) S (mm_X7_init (l := l) (G := G) (fE := fE) (lE := lE) hf) (⟨callB_of 2 S.2.2.2.2 (lw_meth q1147) rfl rfl rfl (S.2.2.2.2 _ q201) (S.2.2.2.2 _ q1145) hd_X7_init hR, rfl, S.2.2.2.2 _ q1146⟩) (bPreS hS hB) rfl rfl hsz rfl (lv_room hW) hdg hcs) hB kk
theorem hd_X8_init : yX8_init.cls ≠ "java/lang/invoke/MethodHandle" ∧ yX8_init.cls ≠ "java/lang/invoke/VarHandle" ∧ (parseMethodDescriptor yX8_init.desc).map (fun d => d.parameters.length) = some 7 := by decide +kernel
set_option maxHeartbeats 4000000 in
set_option maxRecDepth 100000 in
theorem mm_X8_init {o : Nat} {a0 : Int32} {a1 : Int32} {a2 : Int32} {a3 : Int32} {a4 : Int32} {a5 : Int32} {a6 : Nat} {out : Unit × AH × Nat × Nat} (hf : f_X8_init E h nx o a0 a1 a2 a3 a4 a5 a6 = some out) : Met l yX8_init (ws_ yX8_init cX8_init 8 none) (rC (fE + 1) (lE + 40) out.2.2.1 out.2.2.2) (bPc G E.1 hSites h nx [.ref o, .int a0, .int a1, .int a2, .int a3, .int a4, .int a5, .ref a6]) (bQ G none True out.2.1 (nx + out.2.2.1) (AA h nx)) out.2.2.1 out.2.2.2 (AA h nx) := by
  refine bGo (by decide +kernel) (Nat.le_of_ble_eq_true rfl) (fun p e s m below meth c ls S hr hlocks hin hnm hS hB hl => ?_)
  have S : CallFix p m c cX8_init 8 s _ lw_all RX8 := S
  obtain ⟨hx, hb, hml, hown, hts⟩ := id S
  have hl : lv_has ls 8 [(0, .ref o), (1, .int a0), (2, .int a1), (3, .int a2), (4, .int a3), (5, .int a4), (6, .int a5), (7, .ref a6)] := hl
  have hT : TL out out 0 0 := TL_0
  rw [f_X8_init] at hf
  refine lv_aload_n hx hb dX8_init_0 rfl (lv_at hl 0 rfl) ?_
  refine W.objInit hx hb hown (hts _ q1446) (hts _ q212) (hts _ q213) rfl (by rw [hml]; exact hl.1) rfl dX8_init_1 (by show _ ≤ (fE + 1); omega) (by show _ ≤ (lE + 40); simp only [F0, JFrame.monitorRoom, List.map, List.sum_cons, List.sum_nil, Value.category]; omega) ?_
  refine W.eq (g2 := F0 m 4 ls []) rfl ?_
  refine lv_aload_n hx hb dX8_init_4 rfl (lv_at hl 0 rfl) ?_
  refine lv_iload_n hx hb dX8_init_5 rfl (lv_at hl 1 rfl) ?_
  obtain ⟨h1, hh1, hf⟩ := ob_s hf
  refine bp_X8_7 S hS hB hin hh1 dX8_init_6 (fun H locs hB => ?_)
  refine lv_aload_n hx hb dX8_init_9 rfl (lv_at hl 0 rfl) ?_
  refine lv_iload_n hx hb dX8_init_10 rfl (lv_at hl 2 rfl) ?_
  obtain ⟨h2, hh2, hf⟩ := ob_s hf
  refine bp_X8_13 S hS hB hin hh2 dX8_init_11 (fun H locs hB => ?_)
  refine lv_aload_n hx hb dX8_init_14 rfl (lv_at hl 0 rfl) ?_
  refine lv_iload_n hx hb dX8_init_15 rfl (lv_at hl 3 rfl) ?_
  obtain ⟨h3, hh3, hf⟩ := ob_s hf
  refine bp_X8_16 S hS hB hin hh3 dX8_init_16 (fun H locs hB => ?_)
  refine lv_aload_n hx hb dX8_init_19 rfl (lv_at hl 0 rfl) ?_
  refine lv_iload hx hb dX8_init_20 (lv_at hl 4 rfl) ?_
  obtain ⟨h4, hh4, hf⟩ := ob_s hf
  refine bp_X8_19 S hS hB hin hh4 dX8_init_22 (fun H locs hB => ?_)
  refine lv_aload_n hx hb dX8_init_25 rfl (lv_at hl 0 rfl) ?_
  refine lv_iload hx hb dX8_init_26 (lv_at hl 5 rfl) ?_
  obtain ⟨h5, hh5, hf⟩ := ob_s hf
  refine bp_X8_22 S hS hB hin hh5 dX8_init_28 (fun H locs hB => ?_)
  refine lv_aload_n hx hb dX8_init_31 rfl (lv_at hl 0 rfl) ?_
  refine lv_iload hx hb dX8_init_32 (lv_at hl 6 rfl) ?_
  obtain ⟨h6, hh6, hf⟩ := ob_s hf
  refine bp_X8_25 S hS hB hin hh6 dX8_init_34 (fun H locs hB => ?_)
  refine lv_aload_n hx hb dX8_init_37 rfl (lv_at hl 0 rfl) ?_
  refine lv_aload hx hb dX8_init_38 (lv_at hl 7 rfl) ?_
  refine lv_iconst hx hb dX8_init_40 kc_i0 ?_
  obtain ⟨v7, hv7, hf⟩ := ob_s hf
  refine b_zald S hS.1 hB hv7 dX8_init_41 ?_
  obtain ⟨g8, hf⟩ := gd_t hf
  obtain ⟨h9, hh9, hf⟩ := ob_s hf
  refine bp_X8_28 S hS hB hin (isB_n g8) (isB_f g8) hh9 dX8_init_42 (fun H locs hB => ?_)
  refine lv_aload_n hx hb dX8_init_45 rfl (lv_at hl 0 rfl) ?_
  refine lv_aload hx hb dX8_init_46 (lv_at hl 7 rfl) ?_
  refine lv_iconst hx hb dX8_init_48 kc_i1 ?_
  obtain ⟨v10, hv10, hf⟩ := ob_s hf
  refine b_zald S hS.1 hB hv10 dX8_init_49 ?_
  obtain ⟨g11, hf⟩ := gd_t hf
  obtain ⟨h12, hh12, hf⟩ := ob_s hf
  refine bp_X8_32 S hS hB hin (isB_n g11) (isB_f g11) hh12 dX8_init_50 (fun H locs hB => ?_)
  refine lv_aload_n hx hb dX8_init_53 rfl (lv_at hl 0 rfl) ?_
  refine lv_aload hx hb dX8_init_54 (lv_at hl 7 rfl) ?_
  refine lv_iconst hx hb dX8_init_56 kc_i2 ?_
  obtain ⟨v13, hv13, hf⟩ := ob_s hf
  refine b_zald S hS.1 hB hv13 dX8_init_57 ?_
  obtain ⟨g14, hf⟩ := gd_t hf
  obtain ⟨h15, hh15, hf⟩ := ob_s hf
  refine bp_X8_35 S hS hB hin (isB_n g14) (isB_f g14) hh15 dX8_init_58 (fun H locs hB => ?_)
  refine lv_aload_n hx hb dX8_init_61 rfl (lv_at hl 0 rfl) ?_
  refine lv_aload hx hb dX8_init_62 (lv_at hl 7 rfl) ?_
  refine lv_iconst hx hb dX8_init_64 kc_i3 ?_
  obtain ⟨v16, hv16, hf⟩ := ob_s hf
  refine b_zald S hS.1 hB hv16 dX8_init_65 ?_
  obtain ⟨g17, hf⟩ := gd_t hf
  obtain ⟨h18, hh18, hf⟩ := ob_s hf
  refine bp_X8_38 S hS hB hin (isB_n g17) (isB_f g17) hh18 dX8_init_66 (fun H locs hB => ?_)
  have hE9 := TL_e hT hf
  subst hE9
  exact bt_v S hr hlocks hB (by omega) trivial dX8_init_69
set_option maxRecDepth 100000 in
theorem mc_X2_315 {o : Nat} {a0 : Int32} {a1 : Int32} {a2 : Int32} {a3 : Int32} {a4 : Int32} {a5 : Int32} {a6 : Nat} {out : Unit × AH × Nat × Nat} (S : CallFix p m c cc nL s args lw_all RX2) (hS : SK G E.1 hSites A s) (hB : BI G A s.heap h nx H locs) (hf : f_X8_init E h nx o a0 a1 a2 a3 a4 a5 a6 = some out) (hsz : ls.size = nL) (hR : (fE + 1) + 1 ≤ R.frames ∧ 8 + (8 + 11) + (lE + 40) ≤ R.locals) (hW : (rest.map fun v => v.category).sum ≤ 8) (hcs : cells + out.2.2.1 ≤ R.cells ∧ slots + out.2.2.2 ≤ R.slots) (hdg : decode cc pc = .ok (.invokespecial 315, 3))  (kk : ∀ (H1 : Heap) (locs1 : List Loc), True → BI G A s.heap out.2.1 (nx + out.2.2.1) H1 locs1 → W p l e R s m args below meth c H1 locs1 (cells + out.2.2.1) (slots + out.2.2.2) Q (F0 m (pc + 3) ls (rest))) : W p l e R s m args below meth c H locs cells slots Q (F0 m pc ls (.ref a6 :: .int a5 :: .int a4 :: .int a3 :: .int a2 :: .int a1 :: .int a0 :: .ref o :: rest)) := by
  have hN := hS.2.1
  exact br_v (va_runI (As := [.int a0, .int a1, .int a2, .int a3, .int a4, .int a5, .ref a6]) S (mm_X8_init (l := l) (G := G) (fE := fE) (lE := lE) hf) (⟨callB_of 7 S.2.2.2.2 (lw_meth q1445) rfl rfl rfl (S.2.2.2.2 _ q202) (S.2.2.2.2 _ q1443) hd_X8_init hR, rfl, S.2.2.2.2 _ q1444⟩) (bPreS hS hB) rfl rfl hsz rfl (lv_room hW) hdg hcs) hB kk
theorem hd_X1_rising : yX1_rising.cls ≠ "java/lang/invoke/MethodHandle" ∧ yX1_rising.cls ≠ "java/lang/invoke/VarHandle" ∧ (parseMethodDescriptor yX1_rising.desc).map (fun d => d.parameters.length) = some 1 := by decide +kernel
set_option maxHeartbeats 4000000 in
set_option maxRecDepth 100000 in
theorem mm_X1_rising {a0 : Nat} {out : Nat × AH × Nat × Nat} (hf : f_X1_rising E h nx a0 = some out) : Met l yX1_rising (ws_ yX1_rising cX1_rising 1 (some (.object "HomesQueue$Step"))) (rC (fE + 0) (lE + 3100) out.2.2.1 out.2.2.2) (bPc G E.1 hSites h nx [.ref a0]) (bQ G (some (.ref out.1)) True out.2.1 (nx + out.2.2.1) (AA h nx)) out.2.2.1 out.2.2.2 (AA h nx) := by
  refine bGo (by decide +kernel) (Nat.le_of_ble_eq_true rfl) (fun p e s m below meth c ls S hr hlocks hin hnm hS hB hl => ?_)
  have S : CallFix p m c cX1_rising 1 s _ lw_all RX1 := S
  obtain ⟨hx, hb, hml, hown, hts⟩ := id S
  have hl : lv_has ls 1 [(0, .ref a0)] := hl
  have hT : TL out out 0 0 := TL_0
  rw [f_X1_rising] at hf
  refine lv_aload_n hx hb dX1_rising_0 rfl (lv_at hl 0 rfl) ?_
  obtain ⟨o1, hf, hT⟩ := TL_c hT hf
  refine b_lam S hS hB (k := 7) (vs := [.ref a0]) hnm rfl lamL_7 (lamV_c rfl rfl lamV_n) rfl hl.1 (by show _ ≤ (lE + 3100); simp only [List.map, List.sum_cons, List.sum_nil, Value.category]; omega) (TL_m hT).1 (TL_m hT).2 dX1_rising_1 (fun H hB => ?_)
  have hE9 := TL_e hT hf
  subst hE9
  exact bt_a S hr (Or.inl ⟨_, rfl⟩) hlocks hB (by omega) trivial dX1_rising_6
set_option maxRecDepth 100000 in
theorem mc_X1_421 {a0 : Nat} {out : Nat × AH × Nat × Nat} (S : CallFix p m c cc nL s args lw_all RX1) (hS : SK G E.1 hSites A s) (hB : BI G A s.heap h nx H locs) (hf : f_X1_rising E h nx a0 = some out) (hsz : ls.size = nL) (hR : (fE + 0) + 1 ≤ R.frames ∧ 8 + (1 + 11) + (lE + 3100) ≤ R.locals) (hW : (rest.map fun v => v.category).sum ≤ 8) (hcs : cells + out.2.2.1 ≤ R.cells ∧ slots + out.2.2.2 ≤ R.slots) (hdg : decode cc pc = .ok (.invokestatic 421, 3))  (kk : ∀ (H1 : Heap) (locs1 : List Loc), True → BI G A s.heap out.2.1 (nx + out.2.2.1) H1 locs1 → W p l e R s m args below meth c H1 locs1 (cells + out.2.2.1) (slots + out.2.2.2) Q (F0 m (pc + 3) ls (.ref out.1 :: rest))) : W p l e R s m args below meth c H locs cells slots Q (F0 m pc ls (.ref a0 :: rest)) := by
  have hN := hS.2.1
  exact br_w (va_runS (As := [.ref a0]) S (mm_X1_rising (l := l) (G := G) (fE := fE) (lE := lE) hf) (va_cwS 1 S.2.2.2.2 (lw_S q1529 q360 q174 q361) rfl rfl rfl hd_X1_rising hR) (bPreS hS hB) rfl rfl hsz rfl (lv_room hW) hdg hcs) hB kk
set_option maxRecDepth 100000 in
theorem mc_X2_104 {a0 : Nat} {out : Nat × AH × Nat × Nat} (S : CallFix p m c cc nL s args lw_all RX2) (hS : SK G E.1 hSites A s) (hB : BI G A s.heap h nx H locs) (hf : f_X1_rising E h nx a0 = some out) (hsz : ls.size = nL) (hR : (fE + 0) + 1 ≤ R.frames ∧ 8 + (1 + 11) + (lE + 3100) ≤ R.locals) (hW : (rest.map fun v => v.category).sum ≤ 8) (hcs : cells + out.2.2.1 ≤ R.cells ∧ slots + out.2.2.2 ≤ R.slots) (hdg : decode cc pc = .ok (.invokestatic 104, 3))  (kk : ∀ (H1 : Heap) (locs1 : List Loc), True → BI G A s.heap out.2.1 (nx + out.2.2.1) H1 locs1 → W p l e R s m args below meth c H1 locs1 (cells + out.2.2.1) (slots + out.2.2.2) Q (F0 m (pc + 3) ls (.ref out.1 :: rest))) : W p l e R s m args below meth c H locs cells slots Q (F0 m pc ls (.ref a0 :: rest)) := by
  have hN := hS.2.1
  exact br_w (va_runSN (As := [.ref a0]) S (mm_X1_rising (l := l) (G := G) (fE := fE) (lE := lE) hf) (⟨va_cnB 1 S.2.2.2.2 (lw_meth q361) rfl rfl rfl (hN _ q359 rfl) (S.2.2.2.2 _ q174) hd_X1_rising hR, S.2.2.2.2 _ q360, trivial⟩) (bPreS hS hB) rfl rfl hsz rfl (lv_room hW) hdg hcs) hB kk
theorem hd_X1_inTurn : yX1_inTurn.cls ≠ "java/lang/invoke/MethodHandle" ∧ yX1_inTurn.cls ≠ "java/lang/invoke/VarHandle" ∧ (parseMethodDescriptor yX1_inTurn.desc).map (fun d => d.parameters.length) = some 1 := by decide +kernel
set_option maxHeartbeats 4000000 in
set_option maxRecDepth 100000 in
theorem mm_X1_inTurn {a0 : Nat} {out : Nat × AH × Nat × Nat} (hf : f_X1_inTurn E h nx a0 = some out) : Met l yX1_inTurn (ws_ yX1_inTurn cX1_inTurn 1 (some (.object "HomesQueue$Step"))) (rC (fE + 0) (lE + 3100) out.2.2.1 out.2.2.2) (bPc G E.1 hSites h nx [.ref a0]) (bQ G (some (.ref out.1)) True out.2.1 (nx + out.2.2.1) (AA h nx)) out.2.2.1 out.2.2.2 (AA h nx) := by
  refine bGo (by decide +kernel) (Nat.le_of_ble_eq_true rfl) (fun p e s m below meth c ls S hr hlocks hin hnm hS hB hl => ?_)
  have S : CallFix p m c cX1_inTurn 1 s _ lw_all RX1 := S
  obtain ⟨hx, hb, hml, hown, hts⟩ := id S
  have hl : lv_has ls 1 [(0, .ref a0)] := hl
  have hT : TL out out 0 0 := TL_0
  rw [f_X1_inTurn] at hf
  refine lv_aload_n hx hb dX1_inTurn_0 rfl (lv_at hl 0 rfl) ?_
  obtain ⟨o1, hf, hT⟩ := TL_c hT hf
  refine b_lam S hS hB (k := 10) (vs := [.ref a0]) hnm rfl lamL_10 (lamV_c rfl rfl lamV_n) rfl hl.1 (by show _ ≤ (lE + 3100); simp only [List.map, List.sum_cons, List.sum_nil, Value.category]; omega) (TL_m hT).1 (TL_m hT).2 dX1_inTurn_1 (fun H hB => ?_)
  have hE9 := TL_e hT hf
  subst hE9
  exact bt_a S hr (Or.inl ⟨_, rfl⟩) hlocks hB (by omega) trivial dX1_inTurn_6
set_option maxRecDepth 100000 in
theorem mc_X1_425 {a0 : Nat} {out : Nat × AH × Nat × Nat} (S : CallFix p m c cc nL s args lw_all RX1) (hS : SK G E.1 hSites A s) (hB : BI G A s.heap h nx H locs) (hf : f_X1_inTurn E h nx a0 = some out) (hsz : ls.size = nL) (hR : (fE + 0) + 1 ≤ R.frames ∧ 8 + (1 + 11) + (lE + 3100) ≤ R.locals) (hW : (rest.map fun v => v.category).sum ≤ 8) (hcs : cells + out.2.2.1 ≤ R.cells ∧ slots + out.2.2.2 ≤ R.slots) (hdg : decode cc pc = .ok (.invokestatic 425, 3))  (kk : ∀ (H1 : Heap) (locs1 : List Loc), True → BI G A s.heap out.2.1 (nx + out.2.2.1) H1 locs1 → W p l e R s m args below meth c H1 locs1 (cells + out.2.2.1) (slots + out.2.2.2) Q (F0 m (pc + 3) ls (.ref out.1 :: rest))) : W p l e R s m args below meth c H locs cells slots Q (F0 m pc ls (.ref a0 :: rest)) := by
  have hN := hS.2.1
  exact br_w (va_runS (As := [.ref a0]) S (mm_X1_inTurn (l := l) (G := G) (fE := fE) (lE := lE) hf) (va_cwS 1 S.2.2.2.2 (lw_S q1537 q375 q174 q376) rfl rfl rfl hd_X1_inTurn hR) (bPreS hS hB) rfl rfl hsz rfl (lv_room hW) hdg hcs) hB kk
set_option maxRecDepth 100000 in
theorem mc_X2_110 {a0 : Nat} {out : Nat × AH × Nat × Nat} (S : CallFix p m c cc nL s args lw_all RX2) (hS : SK G E.1 hSites A s) (hB : BI G A s.heap h nx H locs) (hf : f_X1_inTurn E h nx a0 = some out) (hsz : ls.size = nL) (hR : (fE + 0) + 1 ≤ R.frames ∧ 8 + (1 + 11) + (lE + 3100) ≤ R.locals) (hW : (rest.map fun v => v.category).sum ≤ 8) (hcs : cells + out.2.2.1 ≤ R.cells ∧ slots + out.2.2.2 ≤ R.slots) (hdg : decode cc pc = .ok (.invokestatic 110, 3))  (kk : ∀ (H1 : Heap) (locs1 : List Loc), True → BI G A s.heap out.2.1 (nx + out.2.2.1) H1 locs1 → W p l e R s m args below meth c H1 locs1 (cells + out.2.2.1) (slots + out.2.2.2) Q (F0 m (pc + 3) ls (.ref out.1 :: rest))) : W p l e R s m args below meth c H locs cells slots Q (F0 m pc ls (.ref a0 :: rest)) := by
  have hN := hS.2.1
  exact br_w (va_runSN (As := [.ref a0]) S (mm_X1_inTurn (l := l) (G := G) (fE := fE) (lE := lE) hf) (⟨va_cnB 1 S.2.2.2.2 (lw_meth q376) rfl rfl rfl (hN _ q374 rfl) (S.2.2.2.2 _ q174) hd_X1_inTurn hR, S.2.2.2.2 _ q375, trivial⟩) (bPreS hS hB) rfl rfl hsz rfl (lv_room hW) hdg hcs) hB kk
theorem hd_X1_sooner : yX1_sooner.cls ≠ "java/lang/invoke/MethodHandle" ∧ yX1_sooner.cls ≠ "java/lang/invoke/VarHandle" ∧ (parseMethodDescriptor yX1_sooner.desc).map (fun d => d.parameters.length) = some 1 := by decide +kernel
set_option maxHeartbeats 4000000 in
set_option maxRecDepth 100000 in
theorem mm_X1_sooner {a0 : Nat} {out : Nat × AH × Nat × Nat} (hf : f_X1_sooner E h nx a0 = some out) : Met l yX1_sooner (ws_ yX1_sooner cX1_sooner 1 (some (.object "HomesQueue$Step"))) (rC (fE + 0) (lE + 3100) out.2.2.1 out.2.2.2) (bPc G E.1 hSites h nx [.ref a0]) (bQ G (some (.ref out.1)) True out.2.1 (nx + out.2.2.1) (AA h nx)) out.2.2.1 out.2.2.2 (AA h nx) := by
  refine bGo (by decide +kernel) (Nat.le_of_ble_eq_true rfl) (fun p e s m below meth c ls S hr hlocks hin hnm hS hB hl => ?_)
  have S : CallFix p m c cX1_sooner 1 s _ lw_all RX1 := S
  obtain ⟨hx, hb, hml, hown, hts⟩ := id S
  have hl : lv_has ls 1 [(0, .ref a0)] := hl
  have hT : TL out out 0 0 := TL_0
  rw [f_X1_sooner] at hf
  refine lv_aload_n hx hb dX1_sooner_0 rfl (lv_at hl 0 rfl) ?_
  obtain ⟨o1, hf, hT⟩ := TL_c hT hf
  refine b_lam S hS hB (k := 12) (vs := [.ref a0]) hnm rfl lamL_12 (lamV_c rfl rfl lamV_n) rfl hl.1 (by show _ ≤ (lE + 3100); simp only [List.map, List.sum_cons, List.sum_nil, Value.category]; omega) (TL_m hT).1 (TL_m hT).2 dX1_sooner_1 (fun H hB => ?_)
  have hE9 := TL_e hT hf
  subst hE9
  exact bt_a S hr (Or.inl ⟨_, rfl⟩) hlocks hB (by omega) trivial dX1_sooner_6
set_option maxRecDepth 100000 in
theorem mc_X2_119 {a0 : Nat} {out : Nat × AH × Nat × Nat} (S : CallFix p m c cc nL s args lw_all RX2) (hS : SK G E.1 hSites A s) (hB : BI G A s.heap h nx H locs) (hf : f_X1_sooner E h nx a0 = some out) (hsz : ls.size = nL) (hR : (fE + 0) + 1 ≤ R.frames ∧ 8 + (1 + 11) + (lE + 3100) ≤ R.locals) (hW : (rest.map fun v => v.category).sum ≤ 8) (hcs : cells + out.2.2.1 ≤ R.cells ∧ slots + out.2.2.2 ≤ R.slots) (hdg : decode cc pc = .ok (.invokestatic 119, 3))  (kk : ∀ (H1 : Heap) (locs1 : List Loc), True → BI G A s.heap out.2.1 (nx + out.2.2.1) H1 locs1 → W p l e R s m args below meth c H1 locs1 (cells + out.2.2.1) (slots + out.2.2.2) Q (F0 m (pc + 3) ls (.ref out.1 :: rest))) : W p l e R s m args below meth c H locs cells slots Q (F0 m pc ls (.ref a0 :: rest)) := by
  have hN := hS.2.1
  exact br_w (va_runSN (As := [.ref a0]) S (mm_X1_sooner (l := l) (G := G) (fE := fE) (lE := lE) hf) (⟨va_cnB 1 S.2.2.2.2 (lw_meth q409) rfl rfl rfl (hN _ q407 rfl) (S.2.2.2.2 _ q174) hd_X1_sooner hR, S.2.2.2.2 _ q408, trivial⟩) (bPreS hS hB) rfl rfl hsz rfl (lv_room hW) hdg hcs) hB kk
theorem hd_X2_init : yX2_init.cls ≠ "java/lang/invoke/MethodHandle" ∧ yX2_init.cls ≠ "java/lang/invoke/VarHandle" ∧ (parseMethodDescriptor yX2_init.desc).map (fun d => d.parameters.length) = some 1 := by decide +kernel
set_option maxHeartbeats 4000000 in
set_option maxRecDepth 100000 in
theorem mm_X2_init {o : Nat} {a0 : Nat} {out : Unit × AH × Nat × Nat} (hf : f_X2_init E h nx o a0 = some out) : Met l yX2_init (ws_ yX2_init cX2_init 3 none) (rC (fE + 4) (lE + 3120) out.2.2.1 out.2.2.2) (bPc G E.1 hSites h nx [.ref o, .ref a0]) (bQ G none True out.2.1 (nx + out.2.2.1) (AA h nx)) out.2.2.1 out.2.2.2 (AA h nx) := by
  refine bGo (by decide +kernel) (Nat.le_of_ble_eq_true rfl) (fun p e s m below meth c ls S hr hlocks hin hnm hS hB hl => ?_)
  have S : CallFix p m c cX2_init 3 s _ lw_all RX2 := S
  obtain ⟨hx, hb, hml, hown, hts⟩ := id S
  have hl : lv_has ls 3 [(0, .ref o), (1, .ref a0)] := hl
  have w190 : ∀ (n : Nat) , ∀ (x0 : Nat) (x2 : Int32) (hc : AH) (nc : Nat) (ls : Array Slot) (H : Heap) (locs : List Loc) (ce sl : Nat) (o1 : Unit × AH × Nat × Nat), BI G (AA h nx) s.heap hc nc H locs → nc = nx + ce → TL out o1 ce sl → lv_has ls 3 [(0, .ref x0), (2, .int x2)] → f_X2_init_190 n E x0 x2 hc nc = some o1 → W p l e (rC (fE + 4) (lE + 3120) out.2.2.1 out.2.2.2) s m ([.ref o, .ref a0] : List Value).toArray below meth c H locs ce sl (MQ below (bQ G none True out.2.1 (nx + out.2.2.1) (AA h nx)) ([.ref o, .ref a0] : List Value).toArray s out.2.2.1 out.2.2.2 (AA h nx)) (F0 m 190 ls []) := by
    intro n
    induction n with
    | zero =>
      intro x0 x2 hc nc ls H locs ce sl o1 hB hn hT hl hf
      exact absurd hf (by rw [f_X2_init_190]; exact nofun)
    | succ n ih =>
      intro x0 x2 hc nc ls H locs ce sl o1 hB hn hT hl hf
      rw [f_X2_init_190] at hf
      refine lv_iload_n hx hb dX2_init_190 rfl (lv_at hl 1 rfl) ?_
      refine lv_bipush hx hb dX2_init_191 kc_b10 ?_
      refine lv_icmp_ge (tgt := 209) hx hb dX2_init_193 (by decide) (fun c1 => ?_) (fun c1 => ?_)
      · replace hf := it_t c1 hf
        refine lv_aload_n hx hb dX2_init_209 rfl (lv_at hl 0 rfl) ?_
        refine lv_bipush hx hb dX2_init_210 kc_b6 ?_
        obtain ⟨o2, hf, hT⟩ := TL_c hT hf
        refine b_anewN S hS hB 5 rfl (hts _ q258) q259 kn_6 kna_6 (TL_m hT).1 (TL_m hT).2 dX2_init_212 (fun H hB => ?_)
        refine lv_dup hx hb dX2_init_215 rfl ?_
        refine lv_iconst hx hb dX2_init_216 kc_i0 ?_
        refine lv_aload_n hx hb dX2_init_217 rfl (lv_at hl 0 rfl) ?_
        obtain ⟨o3, hf, hT⟩ := TL_c hT hf
        refine b_lam S hS hB (k := 0) (vs := [.ref x0]) hnm rfl lamL_0 (lamV_c rfl rfl lamV_n) rfl hl.1 (by show _ ≤ (lE + 3120); simp only [List.map, List.sum_cons, List.sum_nil, Value.category]; omega) (TL_m hT).1 (TL_m hT).2 dX2_init_218 (fun H hB => ?_)
        obtain ⟨h4, eh4⟩ : ∃ z, z = (hu (hu hc nc (.inl (5, 6, .inr (.inr (.inr (.inr (fun _ => none))))))) (nc + 1) (.inr (.inr (0, [.ref x0])))) := ⟨_, rfl⟩
        replace hf := bd_e eh4 hf
        rw [← eh4] at hB
        obtain ⟨g5, hf⟩ := gd_t hf
        obtain ⟨h6, hh6, hf⟩ := ob_s hf
        refine b_aast S hS hB 5 rfl g5 hh6 dX2_init_223 (fun H locs hB => ?_)
        refine lv_dup hx hb dX2_init_224 rfl ?_
        refine lv_iconst hx hb dX2_init_225 kc_i1 ?_
        refine lv_aload_n hx hb dX2_init_226 rfl (lv_at hl 0 rfl) ?_
        obtain ⟨o7, hf, hT⟩ := TL_c hT hf
        refine b_lam S hS hB (k := 1) (vs := [.ref x0]) hnm rfl lamL_1 (lamV_c rfl rfl lamV_n) rfl hl.1 (by show _ ≤ (lE + 3120); simp only [List.map, List.sum_cons, List.sum_nil, Value.category]; omega) (TL_m hT).1 (TL_m hT).2 dX2_init_227 (fun H hB => ?_)
        obtain ⟨g8, hf⟩ := gd_t hf
        obtain ⟨h9, hh9, hf⟩ := ob_s hf
        refine b_aast S hS hB 5 rfl g8 hh9 dX2_init_232 (fun H locs hB => ?_)
        refine lv_dup hx hb dX2_init_233 rfl ?_
        refine lv_iconst hx hb dX2_init_234 kc_i2 ?_
        refine lv_aload_n hx hb dX2_init_235 rfl (lv_at hl 0 rfl) ?_
        obtain ⟨o10, hf, hT⟩ := TL_c hT hf
        refine b_lam S hS hB (k := 2) (vs := [.ref x0]) hnm rfl lamL_2 (lamV_c rfl rfl lamV_n) rfl hl.1 (by show _ ≤ (lE + 3120); simp only [List.map, List.sum_cons, List.sum_nil, Value.category]; omega) (TL_m hT).1 (TL_m hT).2 dX2_init_236 (fun H hB => ?_)
        obtain ⟨g11, hf⟩ := gd_t hf
        obtain ⟨h12, hh12, hf⟩ := ob_s hf
        refine b_aast S hS hB 5 rfl g11 hh12 dX2_init_241 (fun H locs hB => ?_)
        refine lv_dup hx hb dX2_init_242 rfl ?_
        refine lv_iconst hx hb dX2_init_243 kc_i3 ?_
        refine lv_aload_n hx hb dX2_init_244 rfl (lv_at hl 0 rfl) ?_
        obtain ⟨o13, hf, hT⟩ := TL_c hT hf
        refine b_lam S hS hB (k := 3) (vs := [.ref x0]) hnm rfl lamL_3 (lamV_c rfl rfl lamV_n) rfl hl.1 (by show _ ≤ (lE + 3120); simp only [List.map, List.sum_cons, List.sum_nil, Value.category]; omega) (TL_m hT).1 (TL_m hT).2 dX2_init_245 (fun H hB => ?_)
        obtain ⟨g14, hf⟩ := gd_t hf
        obtain ⟨h15, hh15, hf⟩ := ob_s hf
        refine b_aast S hS hB 5 rfl g14 hh15 dX2_init_250 (fun H locs hB => ?_)
        refine lv_dup hx hb dX2_init_251 rfl ?_
        refine lv_iconst hx hb dX2_init_252 kc_i4 ?_
        refine lv_aload_n hx hb dX2_init_253 rfl (lv_at hl 0 rfl) ?_
        obtain ⟨o16, hf, hT⟩ := TL_c hT hf
        refine b_lam S hS hB (k := 4) (vs := [.ref x0]) hnm rfl lamL_4 (lamV_c rfl rfl lamV_n) rfl hl.1 (by show _ ≤ (lE + 3120); simp only [List.map, List.sum_cons, List.sum_nil, Value.category]; omega) (TL_m hT).1 (TL_m hT).2 dX2_init_254 (fun H hB => ?_)
        obtain ⟨g17, hf⟩ := gd_t hf
        obtain ⟨h18, hh18, hf⟩ := ob_s hf
        refine b_aast S hS hB 5 rfl g17 hh18 dX2_init_259 (fun H locs hB => ?_)
        refine lv_dup hx hb dX2_init_260 rfl ?_
        refine lv_iconst hx hb dX2_init_261 kc_i5 ?_
        refine lv_aload_n hx hb dX2_init_262 rfl (lv_at hl 0 rfl) ?_
        obtain ⟨o19, hf, hT⟩ := TL_c hT hf
        refine b_lam S hS hB (k := 5) (vs := [.ref x0]) hnm rfl lamL_5 (lamV_c rfl rfl lamV_n) rfl hl.1 (by show _ ≤ (lE + 3120); simp only [List.map, List.sum_cons, List.sum_nil, Value.category]; omega) (TL_m hT).1 (TL_m hT).2 dX2_init_263 (fun H hB => ?_)
        obtain ⟨h20, eh20⟩ : ∃ z, z = (hu h18 ((((((nc + 1) + 1) + 1) + 1) + 1) + 1) (.inr (.inr (5, [.ref x0])))) := ⟨_, rfl⟩
        replace hf := bd_e eh20 hf
        rw [← eh20] at hB
        obtain ⟨g21, hf⟩ := gd_t hf
        obtain ⟨h22, hh22, hf⟩ := ob_s hf
        refine b_aast S hS hB 5 rfl g21 hh22 dX2_init_268 (fun H locs hB => ?_)
        obtain ⟨h23, hh23, hf⟩ := ob_s hf
        refine bp_X2_94 S hS hB hin hh23 dX2_init_269 (fun H locs hB => ?_)
        refine lv_aload_n hx hb dX2_init_272 rfl (lv_at hl 0 rfl) ?_
        refine lv_iconst hx hb dX2_init_273 kc_i3 ?_
        obtain ⟨o24, hf, hT⟩ := TL_c hT hf
        refine b_anewN S hS hB 6 rfl (hts _ q330) q331 kn_3 kna_3 (TL_m hT).1 (TL_m hT).2 dX2_init_274 (fun H hB => ?_)
        obtain ⟨h25, eh25⟩ : ∃ z, z = (hu h23 (((((((nc + 1) + 1) + 1) + 1) + 1) + 1) + 1) (.inl (6, 3, .inr (.inr (.inr (.inr (fun _ => none))))))) := ⟨_, rfl⟩
        replace hf := bd_e eh25 hf
        rw [← eh25] at hB
        refine lv_dup hx hb dX2_init_277 rfl ?_
        refine lv_iconst hx hb dX2_init_278 kc_i0 ?_
        refine lv_aload_n hx hb dX2_init_279 rfl (lv_at hl 0 rfl) ?_
        obtain ⟨o26, hf, hT⟩ := TL_c hT hf
        refine b_lam S hS hB (k := 6) (vs := [.ref x0]) hnm rfl lamL_6 (lamV_c rfl rfl lamV_n) rfl hl.1 (by show _ ≤ (lE + 3120); simp only [List.map, List.sum_cons, List.sum_nil, Value.category]; omega) (TL_m hT).1 (TL_m hT).2 dX2_init_280 (fun H hB => ?_)
        obtain ⟨h27, eh27⟩ : ∃ z, z = (hu h25 ((((((((nc + 1) + 1) + 1) + 1) + 1) + 1) + 1) + 1) (.inr (.inr (6, [.ref x0])))) := ⟨_, rfl⟩
        replace hf := bd_e eh27 hf
        rw [← eh27] at hB
        obtain ⟨v28, hv28, hf⟩ := ob_s hf
        obtain ⟨o29, hf, hT⟩ := TL_c hT hf
        refine mc_X2_104 (fE := fE) (lE := lE) S hS hB hv28 hl.1 ⟨(by show _ ≤ (fE + 4); omega), (by show _ ≤ (lE + 3120); omega)⟩ (Nat.le_of_ble_eq_true rfl) ⟨(TL_m hT).1, (TL_m hT).2⟩ dX2_init_285 (fun H locs _ hB => ?_)
        obtain ⟨g30, hf⟩ := gd_t hf
        obtain ⟨h31, hh31, hf⟩ := ob_s hf
        refine b_aast S hS hB 6 rfl g30 hh31 dX2_init_288 (fun H locs hB => ?_)
        refine lv_dup hx hb dX2_init_289 rfl ?_
        refine lv_iconst hx hb dX2_init_290 kc_i1 ?_
        refine lv_aload_n hx hb dX2_init_291 rfl (lv_at hl 0 rfl) ?_
        obtain ⟨o32, hf, hT⟩ := TL_c hT hf
        refine b_lam S hS hB (k := 8) (vs := [.ref x0]) hnm rfl lamL_8 (lamV_c rfl rfl lamV_n) rfl hl.1 (by show _ ≤ (lE + 3120); simp only [List.map, List.sum_cons, List.sum_nil, Value.category]; omega) (TL_m hT).1 (TL_m hT).2 dX2_init_292 (fun H hB => ?_)
        obtain ⟨h33, eh33⟩ : ∃ z, z = (hu h31 ((((((((((nc + 1) + 1) + 1) + 1) + 1) + 1) + 1) + 1) + 1) + v28.2.2.1) (.inr (.inr (8, [.ref x0])))) := ⟨_, rfl⟩
        replace hf := bd_e eh33 hf
        rw [← eh33] at hB
        obtain ⟨v34, hv34, hf⟩ := ob_s hf
        obtain ⟨o35, hf, hT⟩ := TL_c hT hf
        refine mc_X2_104 (fE := fE) (lE := lE) S hS hB hv34 hl.1 ⟨(by show _ ≤ (fE + 4); omega), (by show _ ≤ (lE + 3120); omega)⟩ (Nat.le_of_ble_eq_true rfl) ⟨(TL_m hT).1, (TL_m hT).2⟩ dX2_init_297 (fun H locs _ hB => ?_)
        obtain ⟨g36, hf⟩ := gd_t hf
        obtain ⟨h37, hh37, hf⟩ := ob_s hf
        refine b_aast S hS hB 6 rfl g36 hh37 dX2_init_300 (fun H locs hB => ?_)
        refine lv_dup hx hb dX2_init_301 rfl ?_
        refine lv_iconst hx hb dX2_init_302 kc_i2 ?_
        refine lv_aload_n hx hb dX2_init_303 rfl (lv_at hl 0 rfl) ?_
        obtain ⟨o38, hf, hT⟩ := TL_c hT hf
        refine b_lam S hS hB (k := 9) (vs := [.ref x0]) hnm rfl lamL_9 (lamV_c rfl rfl lamV_n) rfl hl.1 (by show _ ≤ (lE + 3120); simp only [List.map, List.sum_cons, List.sum_nil, Value.category]; omega) (TL_m hT).1 (TL_m hT).2 dX2_init_304 (fun H hB => ?_)
        obtain ⟨h39, eh39⟩ : ∃ z, z = (hu h37 ((((((((((((nc + 1) + 1) + 1) + 1) + 1) + 1) + 1) + 1) + 1) + v28.2.2.1) + 1) + v34.2.2.1) (.inr (.inr (9, [.ref x0])))) := ⟨_, rfl⟩
        replace hf := bd_e eh39 hf
        rw [← eh39] at hB
        obtain ⟨v40, hv40, hf⟩ := ob_s hf
        obtain ⟨o41, hf, hT⟩ := TL_c hT hf
        refine mc_X2_104 (fE := fE) (lE := lE) S hS hB hv40 hl.1 ⟨(by show _ ≤ (fE + 4); omega), (by show _ ≤ (lE + 3120); omega)⟩ (Nat.le_of_ble_eq_true rfl) ⟨(TL_m hT).1, (TL_m hT).2⟩ dX2_init_309 (fun H locs _ hB => ?_)
        obtain ⟨g42, hf⟩ := gd_t hf
        obtain ⟨h43, hh43, hf⟩ := ob_s hf
        refine b_aast S hS hB 6 rfl g42 hh43 dX2_init_312 (fun H locs hB => ?_)
        obtain ⟨v44, hv44, hf⟩ := ob_s hf
        obtain ⟨o45, hf, hT⟩ := TL_c hT hf
        refine mc_X2_110 (fE := fE) (lE := lE) S hS hB hv44 hl.1 ⟨(by show _ ≤ (fE + 4); omega), (by show _ ≤ (lE + 3120); omega)⟩ (Nat.le_of_ble_eq_true rfl) ⟨(TL_m hT).1, (TL_m hT).2⟩ dX2_init_313 (fun H locs _ hB => ?_)
        obtain ⟨h46, hh46, hf⟩ := ob_s hf
        refine bp_X2_114 S hS hB hin hh46 dX2_init_316 (fun H locs hB => ?_)
        refine lv_aload_n hx hb dX2_init_319 rfl (lv_at hl 0 rfl) ?_
        refine lv_iconst hx hb dX2_init_320 kc_i3 ?_
        obtain ⟨o47, hf, hT⟩ := TL_c hT hf
        refine b_anewN S hS hB 6 rfl (hts _ q330) q331 kn_3 kna_3 (TL_m hT).1 (TL_m hT).2 dX2_init_321 (fun H hB => ?_)
        obtain ⟨h48, eh48⟩ : ∃ z, z = (hu h46 (((((((((((((((nc + 1) + 1) + 1) + 1) + 1) + 1) + 1) + 1) + 1) + v28.2.2.1) + 1) + v34.2.2.1) + 1) + v40.2.2.1) + v44.2.2.1) (.inl (6, 3, .inr (.inr (.inr (.inr (fun _ => none))))))) := ⟨_, rfl⟩
        replace hf := bd_e eh48 hf
        rw [← eh48] at hB
        refine lv_dup hx hb dX2_init_324 rfl ?_
        refine lv_iconst hx hb dX2_init_325 kc_i0 ?_
        refine lv_aload_n hx hb dX2_init_326 rfl (lv_at hl 0 rfl) ?_
        obtain ⟨o49, hf, hT⟩ := TL_c hT hf
        refine b_lam S hS hB (k := 11) (vs := [.ref x0]) hnm rfl lamL_11 (lamV_c rfl rfl lamV_n) rfl hl.1 (by show _ ≤ (lE + 3120); simp only [List.map, List.sum_cons, List.sum_nil, Value.category]; omega) (TL_m hT).1 (TL_m hT).2 dX2_init_327 (fun H hB => ?_)
        obtain ⟨h50, eh50⟩ : ∃ z, z = (hu h48 ((((((((((((((((nc + 1) + 1) + 1) + 1) + 1) + 1) + 1) + 1) + 1) + v28.2.2.1) + 1) + v34.2.2.1) + 1) + v40.2.2.1) + v44.2.2.1) + 1) (.inr (.inr (11, [.ref x0])))) := ⟨_, rfl⟩
        replace hf := bd_e eh50 hf
        rw [← eh50] at hB
        obtain ⟨v51, hv51, hf⟩ := ob_s hf
        obtain ⟨o52, hf, hT⟩ := TL_c hT hf
        refine mc_X2_119 (fE := fE) (lE := lE) S hS hB hv51 hl.1 ⟨(by show _ ≤ (fE + 4); omega), (by show _ ≤ (lE + 3120); omega)⟩ (Nat.le_of_ble_eq_true rfl) ⟨(TL_m hT).1, (TL_m hT).2⟩ dX2_init_332 (fun H locs _ hB => ?_)
        obtain ⟨g53, hf⟩ := gd_t hf
        obtain ⟨h54, hh54, hf⟩ := ob_s hf
        refine b_aast S hS hB 6 rfl g53 hh54 dX2_init_335 (fun H locs hB => ?_)
        refine lv_dup hx hb dX2_init_336 rfl ?_
        refine lv_iconst hx hb dX2_init_337 kc_i1 ?_
        refine lv_aload_n hx hb dX2_init_338 rfl (lv_at hl 0 rfl) ?_
        obtain ⟨o55, hf, hT⟩ := TL_c hT hf
        refine b_lam S hS hB (k := 13) (vs := [.ref x0]) hnm rfl lamL_13 (lamV_c rfl rfl lamV_n) rfl hl.1 (by show _ ≤ (lE + 3120); simp only [List.map, List.sum_cons, List.sum_nil, Value.category]; omega) (TL_m hT).1 (TL_m hT).2 dX2_init_339 (fun H hB => ?_)
        obtain ⟨h56, eh56⟩ : ∃ z, z = (hu h54 ((((((((((((((((((nc + 1) + 1) + 1) + 1) + 1) + 1) + 1) + 1) + 1) + v28.2.2.1) + 1) + v34.2.2.1) + 1) + v40.2.2.1) + v44.2.2.1) + 1) + 1) + v51.2.2.1) (.inr (.inr (13, [.ref x0])))) := ⟨_, rfl⟩
        replace hf := bd_e eh56 hf
        rw [← eh56] at hB
        obtain ⟨v57, hv57, hf⟩ := ob_s hf
        obtain ⟨o58, hf, hT⟩ := TL_c hT hf
        refine mc_X2_119 (fE := fE) (lE := lE) S hS hB hv57 hl.1 ⟨(by show _ ≤ (fE + 4); omega), (by show _ ≤ (lE + 3120); omega)⟩ (Nat.le_of_ble_eq_true rfl) ⟨(TL_m hT).1, (TL_m hT).2⟩ dX2_init_344 (fun H locs _ hB => ?_)
        obtain ⟨g59, hf⟩ := gd_t hf
        obtain ⟨h60, hh60, hf⟩ := ob_s hf
        refine b_aast S hS hB 6 rfl g59 hh60 dX2_init_347 (fun H locs hB => ?_)
        refine lv_dup hx hb dX2_init_348 rfl ?_
        refine lv_iconst hx hb dX2_init_349 kc_i2 ?_
        refine lv_aload_n hx hb dX2_init_350 rfl (lv_at hl 0 rfl) ?_
        obtain ⟨v61, hv61, hf⟩ := ob_s hf
        refine bg_X2_114 S hS hB (vR_s hv61) dX2_init_351 ?_
        obtain ⟨g62, hf⟩ := gd_t hf
        obtain ⟨h63, hh63, hf⟩ := ob_s hf
        refine b_aast S hS hB 6 rfl g62 hh63 dX2_init_354 (fun H locs hB => ?_)
        obtain ⟨v64, hv64, hf⟩ := ob_s hf
        obtain ⟨o65, hf, hT⟩ := TL_c hT hf
        refine mc_X2_110 (fE := fE) (lE := lE) S hS hB hv64 hl.1 ⟨(by show _ ≤ (fE + 4); omega), (by show _ ≤ (lE + 3120); omega)⟩ (Nat.le_of_ble_eq_true rfl) ⟨(TL_m hT).1, (TL_m hT).2⟩ dX2_init_355 (fun H locs _ hB => ?_)
        obtain ⟨h66, hh66, hf⟩ := ob_s hf
        refine bp_X2_124 S hS hB hin hh66 dX2_init_358 (fun H locs hB => ?_)
        have hE9 := TL_e hT hf
        subst hE9
        exact bt_v S hr hlocks hB (by omega) trivial dX2_init_361
      · replace hf := it_f c1 hf
        refine lv_aload_n hx hb dX2_init_196 rfl (lv_at hl 0 rfl) ?_
        obtain ⟨v67, hv67, hf⟩ := ob_s hf
        refine bg_X2_43 S hS hB (vR_s hv67) dX2_init_197 ?_
        refine lv_iload_n hx hb dX2_init_200 rfl (lv_at hl 1 rfl) ?_
        refine lv_iconst hx hb dX2_init_201 kc_im1 ?_
        obtain ⟨h68, hh68, hf⟩ := ob_s hf
        refine b_iast S hS.1 hB hh68 dX2_init_202 (fun H locs hB => ?_)
        refine lv_iinc (v := (x2 + 1)) (lv' := [(2, .int (x2 + 1)), (0, .ref x0)]) hx hb dX2_init_203 hl (k := 1) rfl rfl (by decide) rfl (fun ls hl => ?_)
        refine lv_goto (tgt := 190) hx hb dX2_init_206 (by decide) ?_
        exact (ih) x0 (x2 + 1) h68 nc ls H locs ce sl o1 hB (by omega) hT (lv_sub (l' := [(0, .ref x0), (2, .int (x2 + 1))]) hl [1, 0] rfl) hf
  have w169 : ∀ (n : Nat) , ∀ (x0 : Nat) (x2 : Int32) (hc : AH) (nc : Nat) (ls : Array Slot) (H : Heap) (locs : List Loc) (ce sl : Nat) (o1 : Unit × AH × Nat × Nat), BI G (AA h nx) s.heap hc nc H locs → nc = nx + ce → TL out o1 ce sl → lv_has ls 3 [(0, .ref x0), (2, .int x2)] → f_X2_init_169 n E x0 x2 hc nc = some o1 → W p l e (rC (fE + 4) (lE + 3120) out.2.2.1 out.2.2.2) s m ([.ref o, .ref a0] : List Value).toArray below meth c H locs ce sl (MQ below (bQ G none True out.2.1 (nx + out.2.2.1) (AA h nx)) ([.ref o, .ref a0] : List Value).toArray s out.2.2.1 out.2.2.2 (AA h nx)) (F0 m 169 ls []) := by
    intro n
    induction n with
    | zero =>
      intro x0 x2 hc nc ls H locs ce sl o1 hB hn hT hl hf
      exact absurd hf (by rw [f_X2_init_169]; exact nofun)
    | succ n ih =>
      intro x0 x2 hc nc ls H locs ce sl o1 hB hn hT hl hf
      rw [f_X2_init_169] at hf
      refine lv_iload_n hx hb dX2_init_169 rfl (lv_at hl 1 rfl) ?_
      refine lv_bipush hx hb dX2_init_170 kc_b8 ?_
      refine lv_icmp_ge (tgt := 188) hx hb dX2_init_172 (by decide) (fun c1 => ?_) (fun c1 => ?_)
      · replace hf := it_t c1 hf
        refine lv_iconst hx hb dX2_init_188 kc_i0 ?_
        refine lv_istore_n (i := 2) (lv' := [(2, .int 0), (0, .ref x0)]) hx hb dX2_init_189 rfl hl (by decide) rfl (fun ls hl => ?_)
        exact (w190 FU) x0 0 hc nc ls H locs ce sl o1 hB (by omega) hT (lv_sub (l' := [(0, .ref x0), (2, .int 0)]) hl [1, 0] rfl) hf
      · replace hf := it_f c1 hf
        refine lv_aload_n hx hb dX2_init_175 rfl (lv_at hl 0 rfl) ?_
        obtain ⟨v2, hv2, hf⟩ := ob_s hf
        refine bg_X2_19 S hS hB (vR_s hv2) dX2_init_176 ?_
        refine lv_iload_n hx hb dX2_init_179 rfl (lv_at hl 1 rfl) ?_
        refine lv_iconst hx hb dX2_init_180 kc_im1 ?_
        obtain ⟨h3, hh3, hf⟩ := ob_s hf
        refine b_iast S hS.1 hB hh3 dX2_init_181 (fun H locs hB => ?_)
        refine lv_iinc (v := (x2 + 1)) (lv' := [(2, .int (x2 + 1)), (0, .ref x0)]) hx hb dX2_init_182 hl (k := 1) rfl rfl (by decide) rfl (fun ls hl => ?_)
        refine lv_goto (tgt := 169) hx hb dX2_init_185 (by decide) ?_
        exact (ih) x0 (x2 + 1) h3 nc ls H locs ce sl o1 hB (by omega) hT (lv_sub (l' := [(0, .ref x0), (2, .int (x2 + 1))]) hl [1, 0] rfl) hf
  have hT : TL out out 0 0 := TL_0
  rw [f_X2_init] at hf
  refine lv_aload_n hx hb dX2_init_0 rfl (lv_at hl 0 rfl) ?_
  refine lv_aload_n hx hb dX2_init_1 rfl (lv_at hl 1 rfl) ?_
  obtain ⟨h1, hh1, hf⟩ := ob_s hf
  refine bp_X2_3 S hS hB hin hh1 dX2_init_2 (fun H locs hB => ?_)
  refine lv_aload_n hx hb dX2_init_5 rfl (lv_at hl 0 rfl) ?_
  refine W.objInit hx hb hown (hts _ q250) (hts _ q212) (hts _ q213) rfl (by rw [hml]; exact hl.1) rfl dX2_init_6 (by show _ ≤ (fE + 4); omega) (by show _ ≤ (lE + 3120); simp only [F0, JFrame.monitorRoom, List.map, List.sum_cons, List.sum_nil, Value.category]; omega) ?_
  refine W.eq (g2 := F0 m 9 ls []) rfl ?_
  refine lv_aload_n hx hb dX2_init_9 rfl (lv_at hl 0 rfl) ?_
  refine lv_bipush hx hb dX2_init_10 kc_b6 ?_
  obtain ⟨o2, hf, hT⟩ := TL_c hT hf
  refine b_newI S hS hB kn_6 kna_6 (TL_m hT).1 (TL_m hT).2 dX2_init_12 (fun H hB => ?_)
  obtain ⟨h3, hh3, hf⟩ := ob_s hf
  refine bp_X2_15 S hS hB hin hh3 dX2_init_14 (fun H locs hB => ?_)
  refine lv_aload_n hx hb dX2_init_17 rfl (lv_at hl 0 rfl) ?_
  refine lv_bipush hx hb dX2_init_18 kc_b8 ?_
  obtain ⟨o4, hf, hT⟩ := TL_c hT hf
  refine b_newI S hS hB kn_8 kna_8 (TL_m hT).1 (TL_m hT).2 dX2_init_20 (fun H hB => ?_)
  obtain ⟨h5, hh5, hf⟩ := ob_s hf
  refine bp_X2_19 S hS hB hin hh5 dX2_init_22 (fun H locs hB => ?_)
  refine lv_aload_n hx hb dX2_init_25 rfl (lv_at hl 0 rfl) ?_
  refine lv_bipush hx hb dX2_init_26 kc_b8 ?_
  obtain ⟨o6, hf, hT⟩ := TL_c hT hf
  refine b_newI S hS hB kn_8 kna_8 (TL_m hT).1 (TL_m hT).2 dX2_init_28 (fun H hB => ?_)
  obtain ⟨h7, hh7, hf⟩ := ob_s hf
  refine bp_X2_22 S hS hB hin hh7 dX2_init_30 (fun H locs hB => ?_)
  refine lv_aload_n hx hb dX2_init_33 rfl (lv_at hl 0 rfl) ?_
  refine lv_bipush hx hb dX2_init_34 kc_b8 ?_
  obtain ⟨o8, hf, hT⟩ := TL_c hT hf
  refine b_newI S hS hB kn_8 kna_8 (TL_m hT).1 (TL_m hT).2 dX2_init_36 (fun H hB => ?_)
  obtain ⟨h9, hh9, hf⟩ := ob_s hf
  refine bp_X2_25 S hS hB hin hh9 dX2_init_38 (fun H locs hB => ?_)
  refine lv_aload_n hx hb dX2_init_41 rfl (lv_at hl 0 rfl) ?_
  refine lv_bipush hx hb dX2_init_42 kc_b8 ?_
  obtain ⟨o10, hf, hT⟩ := TL_c hT hf
  refine b_newI S hS hB kn_8 kna_8 (TL_m hT).1 (TL_m hT).2 dX2_init_44 (fun H hB => ?_)
  obtain ⟨h11, hh11, hf⟩ := ob_s hf
  refine bp_X2_28 S hS hB hin hh11 dX2_init_46 (fun H locs hB => ?_)
  refine lv_aload_n hx hb dX2_init_49 rfl (lv_at hl 0 rfl) ?_
  refine lv_bipush hx hb dX2_init_50 kc_b8 ?_
  obtain ⟨o12, hf, hT⟩ := TL_c hT hf
  refine b_newI S hS hB kn_8 kna_8 (TL_m hT).1 (TL_m hT).2 dX2_init_52 (fun H hB => ?_)
  obtain ⟨h13, eh13⟩ : ∃ z, z = (hu h11 (((((nx + 1) + 1) + 1) + 1) + 1) (.inl (0, 8, .inl (fun _ => 0)))) := ⟨_, rfl⟩
  replace hf := bd_e eh13 hf
  rw [← eh13] at hB
  obtain ⟨h14, hh14, hf⟩ := ob_s hf
  refine bp_X2_31 S hS hB hin hh14 dX2_init_54 (fun H locs hB => ?_)
  refine lv_aload_n hx hb dX2_init_57 rfl (lv_at hl 0 rfl) ?_
  refine lv_bipush hx hb dX2_init_58 kc_b8 ?_
  obtain ⟨o15, hf, hT⟩ := TL_c hT hf
  refine b_newI S hS hB kn_8 kna_8 (TL_m hT).1 (TL_m hT).2 dX2_init_60 (fun H hB => ?_)
  obtain ⟨h16, eh16⟩ : ∃ z, z = (hu h14 ((((((nx + 1) + 1) + 1) + 1) + 1) + 1) (.inl (0, 8, .inl (fun _ => 0)))) := ⟨_, rfl⟩
  replace hf := bd_e eh16 hf
  rw [← eh16] at hB
  obtain ⟨h17, hh17, hf⟩ := ob_s hf
  refine bp_X2_34 S hS hB hin hh17 dX2_init_62 (fun H locs hB => ?_)
  refine lv_aload_n hx hb dX2_init_65 rfl (lv_at hl 0 rfl) ?_
  refine lv_bipush hx hb dX2_init_66 kc_b48 ?_
  obtain ⟨o18, hf, hT⟩ := TL_c hT hf
  refine b_newI S hS hB kn_48 kna_48 (TL_m hT).1 (TL_m hT).2 dX2_init_68 (fun H hB => ?_)
  obtain ⟨h19, eh19⟩ : ∃ z, z = (hu h17 (((((((nx + 1) + 1) + 1) + 1) + 1) + 1) + 1) (.inl (0, 48, .inl (fun _ => 0)))) := ⟨_, rfl⟩
  replace hf := bd_e eh19 hf
  rw [← eh19] at hB
  obtain ⟨h20, hh20, hf⟩ := ob_s hf
  refine bp_X2_37 S hS hB hin hh20 dX2_init_70 (fun H locs hB => ?_)
  refine lv_aload_n hx hb dX2_init_73 rfl (lv_at hl 0 rfl) ?_
  refine lv_bipush hx hb dX2_init_74 kc_b10 ?_
  obtain ⟨o21, hf, hT⟩ := TL_c hT hf
  refine b_newI S hS hB kn_10 kna_10 (TL_m hT).1 (TL_m hT).2 dX2_init_76 (fun H hB => ?_)
  obtain ⟨h22, eh22⟩ : ∃ z, z = (hu h20 ((((((((nx + 1) + 1) + 1) + 1) + 1) + 1) + 1) + 1) (.inl (0, 10, .inl (fun _ => 0)))) := ⟨_, rfl⟩
  replace hf := bd_e eh22 hf
  rw [← eh22] at hB
  obtain ⟨h23, hh23, hf⟩ := ob_s hf
  refine bp_X2_40 S hS hB hin hh23 dX2_init_78 (fun H locs hB => ?_)
  refine lv_aload_n hx hb dX2_init_81 rfl (lv_at hl 0 rfl) ?_
  refine lv_bipush hx hb dX2_init_82 kc_b10 ?_
  obtain ⟨o24, hf, hT⟩ := TL_c hT hf
  refine b_newI S hS hB kn_10 kna_10 (TL_m hT).1 (TL_m hT).2 dX2_init_84 (fun H hB => ?_)
  obtain ⟨h25, eh25⟩ : ∃ z, z = (hu h23 (((((((((nx + 1) + 1) + 1) + 1) + 1) + 1) + 1) + 1) + 1) (.inl (0, 10, .inl (fun _ => 0)))) := ⟨_, rfl⟩
  replace hf := bd_e eh25 hf
  rw [← eh25] at hB
  obtain ⟨h26, hh26, hf⟩ := ob_s hf
  refine bp_X2_43 S hS hB hin hh26 dX2_init_86 (fun H locs hB => ?_)
  refine lv_aload_n hx hb dX2_init_89 rfl (lv_at hl 0 rfl) ?_
  refine lv_bipush hx hb dX2_init_90 kc_b8 ?_
  obtain ⟨o27, hf, hT⟩ := TL_c hT hf
  refine b_newI S hS hB kn_8 kna_8 (TL_m hT).1 (TL_m hT).2 dX2_init_92 (fun H hB => ?_)
  obtain ⟨h28, eh28⟩ : ∃ z, z = (hu h26 ((((((((((nx + 1) + 1) + 1) + 1) + 1) + 1) + 1) + 1) + 1) + 1) (.inl (0, 8, .inl (fun _ => 0)))) := ⟨_, rfl⟩
  replace hf := bd_e eh28 hf
  rw [← eh28] at hB
  obtain ⟨h29, hh29, hf⟩ := ob_s hf
  refine bp_X2_46 S hS hB hin hh29 dX2_init_94 (fun H locs hB => ?_)
  refine lv_aload_n hx hb dX2_init_97 rfl (lv_at hl 0 rfl) ?_
  refine lv_bipush hx hb dX2_init_98 kc_b10 ?_
  obtain ⟨o30, hf, hT⟩ := TL_c hT hf
  refine b_newI S hS hB kn_10 kna_10 (TL_m hT).1 (TL_m hT).2 dX2_init_100 (fun H hB => ?_)
  obtain ⟨h31, eh31⟩ : ∃ z, z = (hu h29 (((((((((((nx + 1) + 1) + 1) + 1) + 1) + 1) + 1) + 1) + 1) + 1) + 1) (.inl (0, 10, .inl (fun _ => 0)))) := ⟨_, rfl⟩
  replace hf := bd_e eh31 hf
  rw [← eh31] at hB
  obtain ⟨h32, hh32, hf⟩ := ob_s hf
  refine bp_X2_49 S hS hB hin hh32 dX2_init_102 (fun H locs hB => ?_)
  refine lv_aload_n hx hb dX2_init_105 rfl (lv_at hl 0 rfl) ?_
  refine lv_bipush hx hb dX2_init_106 kc_b10 ?_
  obtain ⟨o33, hf, hT⟩ := TL_c hT hf
  refine b_newZ S hS hB kn_10 kna_10 (TL_m hT).1 (TL_m hT).2 dX2_init_108 (fun H hB => ?_)
  obtain ⟨h34, eh34⟩ : ∃ z, z = (hu h32 ((((((((((((nx + 1) + 1) + 1) + 1) + 1) + 1) + 1) + 1) + 1) + 1) + 1) + 1) (.inl (3, 10, .inl (fun _ => 0)))) := ⟨_, rfl⟩
  replace hf := bd_e eh34 hf
  rw [← eh34] at hB
  obtain ⟨h35, hh35, hf⟩ := ob_s hf
  refine bp_X2_52 S hS hB hin hh35 dX2_init_110 (fun H locs hB => ?_)
  refine lv_aload_n hx hb dX2_init_113 rfl (lv_at hl 0 rfl) ?_
  refine lv_bipush hx hb dX2_init_114 kc_b8 ?_
  obtain ⟨o36, hf, hT⟩ := TL_c hT hf
  refine b_newZ S hS hB kn_8 kna_8 (TL_m hT).1 (TL_m hT).2 dX2_init_116 (fun H hB => ?_)
  obtain ⟨h37, eh37⟩ : ∃ z, z = (hu h35 (((((((((((((nx + 1) + 1) + 1) + 1) + 1) + 1) + 1) + 1) + 1) + 1) + 1) + 1) + 1) (.inl (3, 8, .inl (fun _ => 0)))) := ⟨_, rfl⟩
  replace hf := bd_e eh37 hf
  rw [← eh37] at hB
  obtain ⟨h38, hh38, hf⟩ := ob_s hf
  refine bp_X2_56 S hS hB hin hh38 dX2_init_118 (fun H locs hB => ?_)
  refine lv_aload_n hx hb dX2_init_121 rfl (lv_at hl 0 rfl) ?_
  refine lv_bipush hx hb dX2_init_122 kc_b8 ?_
  obtain ⟨o39, hf, hT⟩ := TL_c hT hf
  refine b_newZ S hS hB kn_8 kna_8 (TL_m hT).1 (TL_m hT).2 dX2_init_124 (fun H hB => ?_)
  obtain ⟨h40, eh40⟩ : ∃ z, z = (hu h38 ((((((((((((((nx + 1) + 1) + 1) + 1) + 1) + 1) + 1) + 1) + 1) + 1) + 1) + 1) + 1) + 1) (.inl (3, 8, .inl (fun _ => 0)))) := ⟨_, rfl⟩
  replace hf := bd_e eh40 hf
  rw [← eh40] at hB
  obtain ⟨h41, hh41, hf⟩ := ob_s hf
  refine bp_X2_59 S hS hB hin hh41 dX2_init_126 (fun H locs hB => ?_)
  refine lv_aload_n hx hb dX2_init_129 rfl (lv_at hl 0 rfl) ?_
  obtain ⟨o42, hf, hT⟩ := TL_c hT hf
  refine bn_X2_62 S hS hB (TL_m hT).1 (TL_m hT).2 dX2_init_130 (fun H hB => ?_)
  obtain ⟨h43, eh43⟩ : ∃ z, z = (hu h41 (((((((((((((((nx + 1) + 1) + 1) + 1) + 1) + 1) + 1) + 1) + 1) + 1) + 1) + 1) + 1) + 1) + 1) (.inr (.inl (11, df_J2)))) := ⟨_, rfl⟩
  replace hf := bd_e eh43 hf
  rw [← eh43] at hB
  refine lv_dup hx hb dX2_init_133 rfl ?_
  refine lv_iconst hx hb dX2_init_134 kc_i2 ?_
  obtain ⟨v44, hv44, hf⟩ := ob_s hf
  obtain ⟨o45, hf, hT⟩ := TL_c hT hf
  refine mc_X2_64 (fE := fE) (lE := lE) S hS hB hv44 hl.1 ⟨(by show _ ≤ (fE + 4); omega), (by show _ ≤ (lE + 3120); omega)⟩ (Nat.le_of_ble_eq_true rfl) ⟨(TL_m hT).1, (TL_m hT).2⟩ dX2_init_135 (fun H locs _ hB => ?_)
  obtain ⟨h46, hh46, hf⟩ := ob_s hf
  refine bp_X2_67 S hS hB hin hh46 dX2_init_138 (fun H locs hB => ?_)
  refine lv_aload_n hx hb dX2_init_141 rfl (lv_at hl 0 rfl) ?_
  obtain ⟨o47, hf, hT⟩ := TL_c hT hf
  refine bn_X2_62 S hS hB (TL_m hT).1 (TL_m hT).2 dX2_init_142 (fun H hB => ?_)
  obtain ⟨h48, eh48⟩ : ∃ z, z = (hu h46 (((((((((((((((((nx + 1) + 1) + 1) + 1) + 1) + 1) + 1) + 1) + 1) + 1) + 1) + 1) + 1) + 1) + 1) + 1) + v44.2.2.1) (.inr (.inl (11, df_J2)))) := ⟨_, rfl⟩
  replace hf := bd_e eh48 hf
  rw [← eh48] at hB
  refine lv_dup hx hb dX2_init_145 rfl ?_
  refine lv_iconst hx hb dX2_init_146 kc_i2 ?_
  obtain ⟨v49, hv49, hf⟩ := ob_s hf
  obtain ⟨o50, hf, hT⟩ := TL_c hT hf
  refine mc_X2_64 (fE := fE) (lE := lE) S hS hB hv49 hl.1 ⟨(by show _ ≤ (fE + 4); omega), (by show _ ≤ (lE + 3120); omega)⟩ (Nat.le_of_ble_eq_true rfl) ⟨(TL_m hT).1, (TL_m hT).2⟩ dX2_init_147 (fun H locs _ hB => ?_)
  obtain ⟨h51, hh51, hf⟩ := ob_s hf
  refine bp_X2_71 S hS hB hin hh51 dX2_init_150 (fun H locs hB => ?_)
  refine b_getsN S hS hB 2 rfl (va_Nw.use rfl (hS.2.1 _ q253 rfl)) dX2_init_153 ?_
  refine lv_iconst hx hb dX2_init_156 kc_i0 ?_
  refine lv_aload_n hx hb dX2_init_157 rfl (lv_at hl 0 rfl) ?_
  obtain ⟨v52, hv52, hf⟩ := ob_s hf
  refine bg_X2_15 S hS hB (vR_s hv52) dX2_init_158 ?_
  refine lv_iconst hx hb dX2_init_161 kc_i0 ?_
  refine lv_bipush hx hb dX2_init_162 kc_b6 ?_
  obtain ⟨h53, hh53, hf⟩ := ob_s hf
  refine b_copyI S hS.1 hB (by rw [hml]; exact hl.1.symm) (hts _ q255) (hts _ q257) (hts _ q256) (hts _ q179) 0 rfl rfl hh53 (by show _ ≤ (fE + 4); omega) (by show _ ≤ (lE + 3120); simp only [List.map, List.sum_cons, List.sum_nil, Value.category]; exact Nat.le_trans (Nat.le_of_ble_eq_true rfl : _ ≤ 120) (by omega)) dX2_init_164 (fun H locs hB => ?_)
  refine lv_iconst hx hb dX2_init_167 kc_i0 ?_
  refine lv_istore_n (i := 2) (lv' := [(2, .int 0), (0, .ref o), (1, .ref a0)]) hx hb dX2_init_168 rfl hl (by decide) rfl (fun ls hl => ?_)
  exact (w169 FU) o 0 h53 (((((((((((((((((((nx + 1) + 1) + 1) + 1) + 1) + 1) + 1) + 1) + 1) + 1) + 1) + 1) + 1) + 1) + 1) + 1) + v44.2.2.1) + 1) + v49.2.2.1) ls H locs (((((((((((((((((((0 + 1) + 1) + 1) + 1) + 1) + 1) + 1) + 1) + 1) + 1) + 1) + 1) + 1) + 1) + 1) + 1) + v44.2.2.1) + 1) + v49.2.2.1) (((((((((((((((((((0 + 6) + 8) + 8) + 8) + 8) + 8) + 8) + 48) + 10) + 10) + 8) + 10) + 10) + 8) + 8) + 3) + v44.2.2.2) + 3) + v49.2.2.2) o50 hB (by omega) hT (lv_sub (l' := [(0, .ref o), (2, .int 0)]) hl [1, 0] rfl) hf
set_option maxRecDepth 100000 in
theorem mc_X1_67 {o : Nat} {a0 : Nat} {out : Unit × AH × Nat × Nat} (S : CallFix p m c cc nL s args lw_all RX1) (hS : SK G E.1 hSites A s) (hB : BI G A s.heap h nx H locs) (hf : f_X2_init E h nx o a0 = some out) (hsz : ls.size = nL) (hR : (fE + 4) + 1 ≤ R.frames ∧ 8 + (3 + 11) + (lE + 3120) ≤ R.locals) (hW : (rest.map fun v => v.category).sum ≤ 8) (hcs : cells + out.2.2.1 ≤ R.cells ∧ slots + out.2.2.2 ≤ R.slots) (hdg : decode cc pc = .ok (.invokespecial 67, 3))  (kk : ∀ (H1 : Heap) (locs1 : List Loc), True → BI G A s.heap out.2.1 (nx + out.2.2.1) H1 locs1 → W p l e R s m args below meth c H1 locs1 (cells + out.2.2.1) (slots + out.2.2.2) Q (F0 m (pc + 3) ls (rest))) : W p l e R s m args below meth c H locs cells slots Q (F0 m pc ls (.ref a0 :: .ref o :: rest)) := by
  have hN := hS.2.1
  exact br_v (va_runIN (As := [.ref a0]) S (mm_X2_init (l := l) (G := G) (fE := fE) (lE := lE) hf) (⟨va_cnB 1 S.2.2.2.2 (lw_meth q249) rfl rfl rfl (hN _ q247 rfl) (S.2.2.2.2 _ q178) hd_X2_init hR, rfl, S.2.2.2.2 _ q248⟩) (bPreS hS hB) rfl rfl hsz rfl (lv_room hW) hdg hcs) hB kk
set_option maxRecDepth 100000 in
theorem mc_X4_35 {o : Nat} {a0 : Nat} {out : Unit × AH × Nat × Nat} (S : CallFix p m c cc nL s args lw_all RX4) (hS : SK G E.1 hSites A s) (hB : BI G A s.heap h nx H locs) (hf : f_X2_init E h nx o a0 = some out) (hsz : ls.size = nL) (hR : (fE + 4) + 1 ≤ R.frames ∧ 8 + (3 + 11) + (lE + 3120) ≤ R.locals) (hW : (rest.map fun v => v.category).sum ≤ 8) (hcs : cells + out.2.2.1 ≤ R.cells ∧ slots + out.2.2.2 ≤ R.slots) (hdg : decode cc pc = .ok (.invokespecial 35, 3))  (kk : ∀ (H1 : Heap) (locs1 : List Loc), True → BI G A s.heap out.2.1 (nx + out.2.2.1) H1 locs1 → W p l e R s m args below meth c H1 locs1 (cells + out.2.2.1) (slots + out.2.2.2) Q (F0 m (pc + 3) ls (rest))) : W p l e R s m args below meth c H locs cells slots Q (F0 m pc ls (.ref a0 :: .ref o :: rest)) := by
  have hN := hS.2.1
  exact br_v (va_runIN (As := [.ref a0]) S (mm_X2_init (l := l) (G := G) (fE := fE) (lE := lE) hf) (⟨va_cnB 1 S.2.2.2.2 (lw_meth q249) rfl rfl rfl (hN _ q667 rfl) (S.2.2.2.2 _ q178) hd_X2_init hR, rfl, S.2.2.2.2 _ q248⟩) (bPreS hS hB) rfl rfl hsz rfl (lv_room hW) hdg hcs) hB kk
theorem hd_X2_lambda_new_0 : yX2_lambda_new_0.cls = RX2 ∧ yX2_lambda_new_0.cls ≠ "java/lang/invoke/MethodHandle" ∧ yX2_lambda_new_0.cls ≠ "java/lang/invoke/VarHandle" ∧ (parseMethodDescriptor yX2_lambda_new_0.desc).map (fun d => d.parameters.length) = some 1 := by decide +kernel
set_option maxHeartbeats 4000000 in
set_option maxRecDepth 100000 in
theorem mm_X2_lambda_new_0 {o : Nat} {a0 : Int32} {out : Int32} (hf : f_X2_lambda_new_0 E h o a0 = some out) : Met l yX2_lambda_new_0 (ws_ yX2_lambda_new_0 cX2_lambda_new_0 2 (some .boolean)) (rM (fE + 0) (lE + 0)) (bPc G E.1 hSites h nx [.ref o, .int a0]) (gR (some (.int out)) (narrow .boolean (.int out) = .int out)) 0 0 (fun _ => False) := by
  refine bGo (by decide +kernel) (Nat.le_of_ble_eq_true rfl) (fun p e s m below meth c ls S hr hlocks hin hnm hS hB hl => ?_)
  have S : CallFix p m c cX2_lambda_new_0 2 s _ lw_all RX2 := S
  obtain ⟨hx, hb, hml, hown, hts⟩ := id S
  have hl : lv_has ls 2 [(0, .ref o), (1, .int a0)] := hl
  rw [f_X2_lambda_new_0] at hf
  refine lv_aload_n hx hb dX2_lambda_new_0_0 rfl (lv_at hl 0 rfl) ?_
  obtain ⟨v1, hv1, hf⟩ := ob_s hf
  refine bg_X2_56 S hS hB (vR_s hv1) dX2_lambda_new_0_1 ?_
  refine lv_aload_n hx hb dX2_lambda_new_0_4 rfl (lv_at hl 0 rfl) ?_
  obtain ⟨v2, hv2, hf⟩ := ob_s hf
  refine bg_X2_281 S hS hB (vI_s hv2) dX2_lambda_new_0_5 ?_
  obtain ⟨v3, hv3, hf⟩ := ob_s hf
  refine b_zald S hS.1 hB hv3 dX2_lambda_new_0_8 ?_
  obtain ⟨g4, hf⟩ := gd_t hf
  have hE9 := Option.some.inj hf
  subst hE9
  exact gt_rz S hr hlocks (isB_n g4) dX2_lambda_new_0_9
theorem hd_X2_lambda_new_1 : yX2_lambda_new_1.cls = RX2 ∧ yX2_lambda_new_1.cls ≠ "java/lang/invoke/MethodHandle" ∧ yX2_lambda_new_1.cls ≠ "java/lang/invoke/VarHandle" ∧ (parseMethodDescriptor yX2_lambda_new_1.desc).map (fun d => d.parameters.length) = some 1 := by decide +kernel
set_option maxHeartbeats 4000000 in
set_option maxRecDepth 100000 in
theorem mm_X2_lambda_new_1 {o : Nat} {a0 : Int32} {out : Int32} (hf : f_X2_lambda_new_1 E h o a0 = some out) : Met l yX2_lambda_new_1 (ws_ yX2_lambda_new_1 cX2_lambda_new_1 2 (some .boolean)) (rM (fE + 0) (lE + 0)) (bPc G E.1 hSites h nx [.ref o, .int a0]) (gR (some (.int out)) (narrow .boolean (.int out) = .int out)) 0 0 (fun _ => False) := by
  refine bGo (by decide +kernel) (Nat.le_of_ble_eq_true rfl) (fun p e s m below meth c ls S hr hlocks hin hnm hS hB hl => ?_)
  have S : CallFix p m c cX2_lambda_new_1 2 s _ lw_all RX2 := S
  obtain ⟨hx, hb, hml, hown, hts⟩ := id S
  have hl : lv_has ls 2 [(0, .ref o), (1, .int a0)] := hl
  rw [f_X2_lambda_new_1] at hf
  refine lv_aload_n hx hb dX2_lambda_new_1_0 rfl (lv_at hl 0 rfl) ?_
  obtain ⟨v1, hv1, hf⟩ := ob_s hf
  refine bg_X2_25 S hS hB (vR_s hv1) dX2_lambda_new_1_1 ?_
  refine lv_aload_n hx hb dX2_lambda_new_1_4 rfl (lv_at hl 0 rfl) ?_
  obtain ⟨v2, hv2, hf⟩ := ob_s hf
  refine bg_X2_281 S hS hB (vI_s hv2) dX2_lambda_new_1_5 ?_
  obtain ⟨v3, hv3, hf⟩ := ob_s hf
  refine b_iald S hS.1 hB hv3 dX2_lambda_new_1_8 ?_
  refine lv_if_le (tgt := 16) hx hb dX2_lambda_new_1_9 (by decide) (fun c4 => ?_) (fun c4 => ?_)
  · replace hf := it_t c4 hf
    refine lv_iconst hx hb dX2_lambda_new_1_16 kc_i0 ?_
    have hE9 := Option.some.inj hf
    subst hE9
    exact gt_rz S hr hlocks nb0 dX2_lambda_new_1_17
  · replace hf := it_f c4 hf
    refine lv_iconst hx hb dX2_lambda_new_1_12 kc_i1 ?_
    refine lv_goto (tgt := 17) hx hb dX2_lambda_new_1_13 (by decide) ?_
    have hE9 := Option.some.inj hf
    subst hE9
    exact gt_rz S hr hlocks nb1 dX2_lambda_new_1_17
end
