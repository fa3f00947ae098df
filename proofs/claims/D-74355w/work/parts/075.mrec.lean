section
variable {l : Launch} {D : va_G} {cl : List vw_C} {tys : List (ClassId × FieldType)} {mi : Nat} {cI cJ cB : ClassId} {o : Nat} {ad : Nat → Nat} {th : Int32} {tp : Int32} {st : Int32} {fk : Int32} {fp : Int32} {ac : Int32} {si : Int32} {fr : Int32} {tt : Int32} {kd : Int32} {nu : Int32} {fa : Int32} {pl : Int32} {fo : Int32} {wd : Int64} {ci : Int32} {gr : Int32} {lm : Int32} {om : Int32} {nw : (Nat → Int32)} {rd : (Nat → Int32)} {aa : (Nat → Int32)} {kp : (Nat → Int32)} {ta : (Nat → Int32)} {nm : (Nat → Int64)} {rn : (Nat → Int64)} {gv : (Nat → Int32)} {gt : (Nat → Int32)} {rw : (Nat → Int32)} {rh : (Nat → Int32)} {lg : (Nat → Int32)} {lh : (Nat → Int32)} {ou : (Nat → Int32)}
variable {p : Program} {e : Env} {R : Room} {s : State} {m : MethodId} {args : Array Value} {below : List Frame} {meth : Method} {c : Code} {H H0 : Heap} {locs : List Loc} {cells slots : Nat} {Q : State → Prop} {cc : ByteArray} {nL pc : Nat} {ls : Array Slot} {rest : List Value}
theorem hd_X3_movesOn : yX3_movesOn.cls = RX3 ∧ yX3_movesOn.cls ≠ "java/lang/invoke/MethodHandle" ∧ yX3_movesOn.cls ≠ "java/lang/invoke/VarHandle" ∧ (parseMethodDescriptor yX3_movesOn.desc).map (fun d => d.parameters.length) = some 3 := by decide +kernel
theorem mm_X3_movesOn_0 {a0 : Int32} {a1 : Int32} {a2 : Int32} {out : Int32 × (Nat → Int32) × (Nat → Int32) × (Nat → Int32) × (Nat → Int32)} (hC : mC cl tys mi cI cJ cB) (hD : mD o ad) (hf : f_X3_movesOn 0 nw lm rw rh lg lh a0 a1 a2 = some out) : Met l yX3_movesOn (ws_ yX3_movesOn cX3_movesOn 6 none) (rM 0 0) (gPc D cl tys [.ref o, .int a0, .int a1, .int a2] (mW mi cI cJ cB o ad th tp st fk fp ac si fr tt kd nu fa pl fo wd ci gr lm om nw rd aa kp ta nm rn gv gt rw rh lg lh ou)) (gQ D cl none True (mW mi cI cJ cB o ad th tp st fk fp ac si fr tt kd nu fa pl fo wd ci gr out.1 om nw rd aa kp ta nm rn gv gt out.2.1 out.2.2.1 out.2.2.2.1 out.2.2.2.2 ou) (mA o ad)) 0 0 (mA o ad) := by
  exact absurd hf (by rw [f_X3_movesOn]; exact nofun)
set_option maxRecDepth 100000 in
theorem mc_X3_X3_movesOn_0 {a0 : Int32} {a1 : Int32} {a2 : Int32} {out : Int32 × (Nat → Int32) × (Nat → Int32) × (Nat → Int32) × (Nat → Int32)} (S : CallFix p m c cc nL s args lw_all RX3) (hC : mC cl tys mi cI cJ cB) (hD : mD o ad) (hK : va_K D cl tys s) (hP : va_P D cl (mW mi cI cJ cB o ad th tp st fk fp ac si fr tt kd nu fa pl fo wd ci gr lm om nw rd aa kp ta nm rn gv gt rw rh lg lh ou) H) (hS : va_S (mA o ad) H0 H locs) (hf : f_X3_movesOn 0 nw lm rw rh lg lh a0 a1 a2 = some out) (hsz : ls.size = nL) (hR : 0 + 1 ≤ R.frames ∧ 8 + (6 + 11) + 0 ≤ R.locals) (hW : (rest.map fun v => v.category).sum ≤ 8) (hcs : cells ≤ R.cells ∧ slots ≤ R.slots) (hdg : decode cc pc = .ok (.invokevirtual 386, 3)) (kk : ∀ (H1 : Heap) (locs1 : List Loc), True → va_P D cl (mW mi cI cJ cB o ad th tp st fk fp ac si fr tt kd nu fa pl fo wd ci gr out.1 om nw rd aa kp ta nm rn gv gt out.2.1 out.2.2.1 out.2.2.2.1 out.2.2.2.2 ou) H1 → va_S (mA o ad) H0 H1 locs1 → W p l e R s m args below meth c H1 locs1 cells slots Q (F0 m (pc + 3) ls (rest))) : W p l e R s m args below meth c H locs cells slots Q (F0 m pc ls (.int a2 :: .int a1 :: .int a0 :: .ref o :: rest)) :=
  gc_Vv (As := [.int a0, .int a1, .int a2]) S (mm_X3_movesOn_0 hC hD hf) (cwV 3 S.2.2.2.2 (lw_V q2558 q2560 qs164 q189 q2561) rfl rfl rfl hd_X3_movesOn hR) (gPreV hK hP hC.1 (q0 := 0) rfl) rfl hsz rfl hW hdg hcs hS kk
set_option maxHeartbeats 4000000 in
set_option maxRecDepth 100000 in
theorem mm_X3_movesOn_1 {a0 : Int32} {a1 : Int32} {a2 : Int32} {out : Int32 × (Nat → Int32) × (Nat → Int32) × (Nat → Int32) × (Nat → Int32)} (hC : mC cl tys mi cI cJ cB) (hD : mD o ad) (hf : f_X3_movesOn 1 nw lm rw rh lg lh a0 a1 a2 = some out) : Met l yX3_movesOn (ws_ yX3_movesOn cX3_movesOn 6 none) (rM 5 110) (gPc D cl tys [.ref o, .int a0, .int a1, .int a2] (mW mi cI cJ cB o ad th tp st fk fp ac si fr tt kd nu fa pl fo wd ci gr lm om nw rd aa kp ta nm rn gv gt rw rh lg lh ou)) (gQ D cl none True (mW mi cI cJ cB o ad th tp st fk fp ac si fr tt kd nu fa pl fo wd ci gr out.1 om nw rd aa kp ta nm rn gv gt out.2.1 out.2.2.1 out.2.2.2.1 out.2.2.2.2 ou) (mA o ad)) 0 0 (mA o ad) := by
  refine gGo (by decide +kernel) (Nat.le_of_ble_eq_true rfl) (fun p e s m below meth c ls S hr hlocks hK hP hl => ?_)
  have S : CallFix p m c cX3_movesOn 6 s _ lw_all RX3 := S
  obtain ⟨hx, hb, hml, hown, hts⟩ := id S
  have hl : lv_has ls 6 [(0, .ref o), (1, .int a0), (2, .int a1), (3, .int a2)] := hl
  have w74 : ∀ (n : Nat) (k114 : Int32 → Int32 → Int32 → Int32 → Int32 → (Nat → Int32) → (Nat → Int32) → (Nat → Int32) → (Nat → Int32) → Option (Int32 × (Nat → Int32) × (Nat → Int32) × (Nat → Int32) × (Nat → Int32))), (∀ (b0 : Int32) (b1 : Int32) (b2 : Int32) (b3 : Int32) (b4 : Int32) (b5 : (Nat → Int32)) (b6 : (Nat → Int32)) (b7 : (Nat → Int32)) (b8 : (Nat → Int32)) (ls : Array Slot) (H : Heap) (locs : List Loc), va_P D cl (mW mi cI cJ cB o ad th tp st fk fp ac si fr tt kd nu fa pl fo wd ci gr b4 om nw rd aa kp ta nm rn gv gt b5 b6 b7 b8 ou) H → va_S (mA o ad) s.heap H locs → lv_has ls 6 [(0, .ref o), (1, .int b0), (2, .int b1), (3, .int b2), (4, .int b3)] → k114 b0 b1 b2 b3 b4 b5 b6 b7 b8 = some out → W p l e (rM 5 110) s m ([.ref o, .int a0, .int a1, .int a2] : List Value).toArray below meth c H locs 0 0 (MQ below (gQ D cl none True (mW mi cI cJ cB o ad th tp st fk fp ac si fr tt kd nu fa pl fo wd ci gr out.1 om nw rd aa kp ta nm rn gv gt out.2.1 out.2.2.1 out.2.2.2.1 out.2.2.2.2 ou) (mA o ad)) ([.ref o, .int a0, .int a1, .int a2] : List Value).toArray s 0 0 (mA o ad)) (F0 m 114 ls [])) → ∀ (x1 : Int32) (x2 : Int32) (x3 : Int32) (x4 : Int32) (x5 : Int32) (lm : Int32) (rw : (Nat → Int32)) (rh : (Nat → Int32)) (lg : (Nat → Int32)) (lh : (Nat → Int32)) (ls : Array Slot) (H : Heap) (locs : List Loc), va_P D cl (mW mi cI cJ cB o ad th tp st fk fp ac si fr tt kd nu fa pl fo wd ci gr lm om nw rd aa kp ta nm rn gv gt rw rh lg lh ou) H → va_S (mA o ad) s.heap H locs → lv_has ls 6 [(0, .ref o), (1, .int x1), (2, .int x2), (3, .int x3), (4, .int x4), (5, .int x5)] → f_X3_movesOn_74 n k114 (f_X3_movesOn 0 nw) nw x1 x2 x3 x4 x5 lm rw rh lg lh = some out → W p l e (rM 5 110) s m ([.ref o, .int a0, .int a1, .int a2] : List Value).toArray below meth c H locs 0 0 (MQ below (gQ D cl none True (mW mi cI cJ cB o ad th tp st fk fp ac si fr tt kd nu fa pl fo wd ci gr out.1 om nw rd aa kp ta nm rn gv gt out.2.1 out.2.2.1 out.2.2.2.1 out.2.2.2.2 ou) (mA o ad)) ([.ref o, .int a0, .int a1, .int a2] : List Value).toArray s 0 0 (mA o ad)) (F0 m 74 ls []) := by
    intro n
    induction n with
    | zero =>
      intro k114 hk114 x1 x2 x3 x4 x5 lm rw rh lg lh ls H locs hP hS hl hf
      exact absurd hf (by rw [f_X3_movesOn_74]; exact nofun)
    | succ n ih =>
      intro k114 hk114 x1 x2 x3 x4 x5 lm rw rh lg lh ls H locs hP hS hl hf
      rw [f_X3_movesOn_74] at hf
      refine lv_iload hx hb dX3_movesOn_74 (lv_at hl 5 rfl) ?_
      refine lv_iload_n hx hb dX3_movesOn_76 rfl (lv_at hl 2 rfl) ?_
      refine lv_icmp_gt (tgt := 114) hx hb dX3_movesOn_77 (by decide) (fun c1 => ?_) (fun c1 => ?_)
      · replace hf := it_t c1 hf
        exact hk114 x1 x2 x3 x4 lm rw rh lg lh ls H locs hP hS (lv_sub (l' := [(0, .ref o), (1, .int x1), (2, .int x2), (3, .int x3), (4, .int x4)]) hl [0, 1, 2, 3, 4] rfl) hf
      · replace hf := it_f c1 hf
        refine lv_aload_n hx hb dX3_movesOn_80 rfl (lv_at hl 0 rfl) ?_
        refine mg_28 S hC hK hP dX3_movesOn_81 ?_
        refine lv_iload hx hb dX3_movesOn_84 (lv_at hl 5 rfl) ?_
        refine lv_aload_n hx hb dX3_movesOn_86 rfl (lv_at hl 0 rfl) ?_
        refine mg_26 S hC hK hP dX3_movesOn_87 ?_
        refine lv_iload hx hb dX3_movesOn_90 (lv_at hl 5 rfl) ?_
        obtain ⟨g2, hf⟩ := gd_t hf
        refine ma_26 S hC hK hP (inR_vp g2) rfl dX3_movesOn_92 ?_
        obtain ⟨g3, hf⟩ := gd_t hf
        refine ms_28 S hC hD hK hP hS (inR_vp g3) rfl dX3_movesOn_93 (fun H locs hP hS => ?_)
        refine lv_aload_n hx hb dX3_movesOn_94 rfl (lv_at hl 0 rfl) ?_
        refine mg_29 S hC hK hP dX3_movesOn_95 ?_
        refine lv_iload hx hb dX3_movesOn_98 (lv_at hl 5 rfl) ?_
        refine lv_aload_n hx hb dX3_movesOn_100 rfl (lv_at hl 0 rfl) ?_
        refine mg_27 S hC hK hP dX3_movesOn_101 ?_
        refine lv_iload hx hb dX3_movesOn_104 (lv_at hl 5 rfl) ?_
        obtain ⟨g4, hf⟩ := gd_t hf
        refine ma_27 S hC hK hP (inR_vp g4) rfl dX3_movesOn_106 ?_
        obtain ⟨g5, hf⟩ := gd_t hf
        refine ms_29 S hC hD hK hP hS (inR_vp g5) rfl dX3_movesOn_107 (fun H locs hP hS => ?_)
        refine lv_iinc (v := (x5 + 1)) (lv' := [(5, .int (x5 + 1)), (0, .ref o), (1, .int x1), (2, .int x2), (3, .int x3), (4, .int x4)]) hx hb dX3_movesOn_108 hl (k := 5) rfl rfl (by decide) rfl (fun ls hl => ?_)
        refine lv_goto (tgt := 74) hx hb dX3_movesOn_111 (by decide) ?_
        exact (ih k114 hk114) x1 x2 x3 x4 (x5 + 1) lm rw rh (upd lg x5.toNatClampNeg (rw x5.toNatClampNeg)) (upd lh x5.toNatClampNeg (rh x5.toNatClampNeg)) ls H locs hP hS (lv_sub (l' := [(0, .ref o), (1, .int x1), (2, .int x2), (3, .int x3), (4, .int x4), (5, .int (x5 + 1))]) hl [1, 2, 3, 4, 5, 0] rfl) hf
  have w114 : ∀ (k3 : Int32 → Int32 → Int32 → Int32 → Int32 → (Nat → Int32) → (Nat → Int32) → (Nat → Int32) → (Nat → Int32) → Option (Int32 × (Nat → Int32) × (Nat → Int32) × (Nat → Int32) × (Nat → Int32))), (∀ (b0 : Int32) (b1 : Int32) (b2 : Int32) (b3 : Int32) (b4 : Int32) (b5 : (Nat → Int32)) (b6 : (Nat → Int32)) (b7 : (Nat → Int32)) (b8 : (Nat → Int32)) (ls : Array Slot) (H : Heap) (locs : List Loc), va_P D cl (mW mi cI cJ cB o ad th tp st fk fp ac si fr tt kd nu fa pl fo wd ci gr b4 om nw rd aa kp ta nm rn gv gt b5 b6 b7 b8 ou) H → va_S (mA o ad) s.heap H locs → lv_has ls 6 [(0, .ref o), (1, .int b0), (2, .int b1), (3, .int b2), (4, .int b3)] → k3 b0 b1 b2 b3 b4 b5 b6 b7 b8 = some out → W p l e (rM 5 110) s m ([.ref o, .int a0, .int a1, .int a2] : List Value).toArray below meth c H locs 0 0 (MQ below (gQ D cl none True (mW mi cI cJ cB o ad th tp st fk fp ac si fr tt kd nu fa pl fo wd ci gr out.1 om nw rd aa kp ta nm rn gv gt out.2.1 out.2.2.1 out.2.2.2.1 out.2.2.2.2 ou) (mA o ad)) ([.ref o, .int a0, .int a1, .int a2] : List Value).toArray s 0 0 (mA o ad)) (F0 m 3 ls [])) → ∀ (x1 : Int32) (x2 : Int32) (x3 : Int32) (x4 : Int32) (lm : Int32) (rw : (Nat → Int32)) (rh : (Nat → Int32)) (lg : (Nat → Int32)) (lh : (Nat → Int32)) (ls : Array Slot) (H : Heap) (locs : List Loc), va_P D cl (mW mi cI cJ cB o ad th tp st fk fp ac si fr tt kd nu fa pl fo wd ci gr lm om nw rd aa kp ta nm rn gv gt rw rh lg lh ou) H → va_S (mA o ad) s.heap H locs → lv_has ls 6 [(0, .ref o), (1, .int x1), (2, .int x2), (3, .int x3), (4, .int x4)] → f_X3_movesOn_114 k3 (f_X3_movesOn 0 nw) nw x1 x2 x3 x4 lm rw rh lg lh = some out → W p l e (rM 5 110) s m ([.ref o, .int a0, .int a1, .int a2] : List Value).toArray below meth c H locs 0 0 (MQ below (gQ D cl none True (mW mi cI cJ cB o ad th tp st fk fp ac si fr tt kd nu fa pl fo wd ci gr out.1 om nw rd aa kp ta nm rn gv gt out.2.1 out.2.2.1 out.2.2.2.1 out.2.2.2.2 ou) (mA o ad)) ([.ref o, .int a0, .int a1, .int a2] : List Value).toArray s 0 0 (mA o ad)) (F0 m 114 ls []) := by
    intro k3 hk3 x1 x2 x3 x4 lm rw rh lg lh ls H locs hP hS hl hf
    rw [f_X3_movesOn_114] at hf
    refine lv_aload_n hx hb dX3_movesOn_114 rfl (lv_at hl 0 rfl) ?_
    refine lv_iload hx hb dX3_movesOn_115 (lv_at hl 4 rfl) ?_
    refine lv_iconst hx hb dX3_movesOn_117 kc_i4 ?_
    obtain ⟨v1, hv1, hf⟩ := ob_s hf
    refine mc_X3_X3_of S hC hK hP hv1 hl.1 ⟨Nat.le_of_ble_eq_true rfl, Nat.le_of_ble_eq_true rfl⟩ (Nat.le_of_ble_eq_true rfl) ⟨Nat.zero_le _, Nat.zero_le _⟩ dX3_movesOn_118 (fun _ => ?_)
    refine lv_iconst hx hb dX3_movesOn_121 kc_im1 ?_
    refine lv_icmp_eq (tgt := 145) hx hb dX3_movesOn_122 (by decide) (fun c2 => ?_) (fun c2 => ?_)
    · replace hf := it_t c2 hf
      refine lv_iinc (v := (x4 + 1)) (lv' := [(4, .int (x4 + 1)), (0, .ref o), (1, .int x1), (2, .int x2), (3, .int x3)]) hx hb dX3_movesOn_145 hl (k := 4) rfl rfl (by decide) rfl (fun ls hl => ?_)
      refine lv_goto (tgt := 3) hx hb dX3_movesOn_148 (by decide) ?_
      exact hk3 x1 x2 x3 (x4 + 1) lm rw rh lg lh ls H locs hP hS (lv_sub (l' := [(0, .ref o), (1, .int x1), (2, .int x2), (3, .int x3), (4, .int (x4 + 1))]) hl [1, 2, 3, 4, 0] rfl) hf
    · replace hf := it_f c2 hf
      refine lv_aload_n hx hb dX3_movesOn_125 rfl (lv_at hl 0 rfl) ?_
      refine lv_aload_n hx hb dX3_movesOn_126 rfl (lv_at hl 0 rfl) ?_
      refine lv_iload hx hb dX3_movesOn_127 (lv_at hl 4 rfl) ?_
      refine lv_iconst hx hb dX3_movesOn_129 kc_i4 ?_
      obtain ⟨v3, hv3, hf⟩ := ob_s hf
      refine mc_X3_X3_of S hC hK hP hv3 hl.1 ⟨Nat.le_of_ble_eq_true rfl, Nat.le_of_ble_eq_true rfl⟩ (Nat.le_of_ble_eq_true rfl) ⟨Nat.zero_le _, Nat.zero_le _⟩ dX3_movesOn_130 (fun _ => ?_)
      refine lv_iload_n hx hb dX3_movesOn_133 rfl (lv_at hl 2 rfl) ?_
      refine lv_iconst hx hb dX3_movesOn_134 kc_i1 ?_
      refine lv_iadd hx hb dX3_movesOn_135 ?_
      refine lv_iload_n hx hb dX3_movesOn_136 rfl (lv_at hl 3 rfl) ?_
      refine lv_iconst hx hb dX3_movesOn_137 kc_i1 ?_
      refine lv_iload hx hb dX3_movesOn_138 (lv_at hl 4 rfl) ?_
      refine lv_ishl hx hb dX3_movesOn_140 ?_
      refine lv_ior hx hb dX3_movesOn_141 ?_
      obtain ⟨v4, hv4, hf⟩ := ob_s hf
      refine mc_X3_X3_movesOn_0 S hC hD hK hP hS hv4 hl.1 ⟨Nat.le_of_ble_eq_true rfl, Nat.le_of_ble_eq_true rfl⟩ (Nat.le_of_ble_eq_true rfl) ⟨Nat.zero_le _, Nat.zero_le _⟩ dX3_movesOn_142 (fun H locs _ hP hS => ?_)
      refine lv_iinc (v := (x4 + 1)) (lv' := [(4, .int (x4 + 1)), (0, .ref o), (1, .int x1), (2, .int x2), (3, .int x3)]) hx hb dX3_movesOn_145 hl (k := 4) rfl rfl (by decide) rfl (fun ls hl => ?_)
      refine lv_goto (tgt := 3) hx hb dX3_movesOn_148 (by decide) ?_
      exact hk3 x1 x2 x3 (x4 + 1) v4.1 v4.2.1 v4.2.2.1 v4.2.2.2.1 v4.2.2.2.2 ls H locs hP hS (lv_sub (l' := [(0, .ref o), (1, .int x1), (2, .int x2), (3, .int x3), (4, .int (x4 + 1))]) hl [1, 2, 3, 4, 0] rfl) hf
  have w3 : ∀ (n : Nat) , ∀ (x1 : Int32) (x2 : Int32) (x3 : Int32) (x4 : Int32) (lm : Int32) (rw : (Nat → Int32)) (rh : (Nat → Int32)) (lg : (Nat → Int32)) (lh : (Nat → Int32)) (ls : Array Slot) (H : Heap) (locs : List Loc), va_P D cl (mW mi cI cJ cB o ad th tp st fk fp ac si fr tt kd nu fa pl fo wd ci gr lm om nw rd aa kp ta nm rn gv gt rw rh lg lh ou) H → va_S (mA o ad) s.heap H locs → lv_has ls 6 [(0, .ref o), (1, .int x1), (2, .int x2), (3, .int x3), (4, .int x4)] → f_X3_movesOn_3 n (f_X3_movesOn 0 nw) nw x1 x2 x3 x4 lm rw rh lg lh = some out → W p l e (rM 5 110) s m ([.ref o, .int a0, .int a1, .int a2] : List Value).toArray below meth c H locs 0 0 (MQ below (gQ D cl none True (mW mi cI cJ cB o ad th tp st fk fp ac si fr tt kd nu fa pl fo wd ci gr out.1 om nw rd aa kp ta nm rn gv gt out.2.1 out.2.2.1 out.2.2.2.1 out.2.2.2.2 ou) (mA o ad)) ([.ref o, .int a0, .int a1, .int a2] : List Value).toArray s 0 0 (mA o ad)) (F0 m 3 ls []) := by
    intro n
    induction n with
    | zero =>
      intro x1 x2 x3 x4 lm rw rh lg lh ls H locs hP hS hl hf
      exact absurd hf (by rw [f_X3_movesOn_3]; exact nofun)
    | succ n ih =>
      intro x1 x2 x3 x4 lm rw rh lg lh ls H locs hP hS hl hf
      rw [f_X3_movesOn_3] at hf
      refine lv_iload hx hb dX3_movesOn_3 (lv_at hl 4 rfl) ?_
      refine lv_aload_n hx hb dX3_movesOn_5 rfl (lv_at hl 0 rfl) ?_
      refine mg_1 S hC hK hP dX3_movesOn_6 ?_
      refine lv_sipush hx hb dX3_movesOn_9 kc_s231 ?_
      refine ma_1 S hC hK hP kv_231_390 kn_231 dX3_movesOn_12 ?_
      refine lv_icmp_ge (tgt := 151) hx hb dX3_movesOn_13 (by decide) (fun c1 => ?_) (fun c1 => ?_)
      · replace hf := it_t c1 hf
        have hE := Option.some.inj hf
        subst hE
        exact gt_wv S hr hlocks trivial hP hS dX3_movesOn_151
      · replace hf := it_f c1 hf
        refine lv_iload_n hx hb dX3_movesOn_16 rfl (lv_at hl 3 rfl) ?_
        refine lv_iload hx hb dX3_movesOn_17 (lv_at hl 4 rfl) ?_
        refine lv_ishr hx hb dX3_movesOn_19 ?_
        refine lv_iconst hx hb dX3_movesOn_20 kc_i1 ?_
        refine lv_iand hx hb dX3_movesOn_21 ?_
        refine lv_iconst hx hb dX3_movesOn_22 kc_i1 ?_
        refine lv_icmp_eq (tgt := 145) hx hb dX3_movesOn_23 (by decide) (fun c2 => ?_) (fun c2 => ?_)
        · replace hf := it_t c2 hf
          refine lv_iinc (v := (x4 + 1)) (lv' := [(4, .int (x4 + 1)), (0, .ref o), (1, .int x1), (2, .int x2), (3, .int x3)]) hx hb dX3_movesOn_145 hl (k := 4) rfl rfl (by decide) rfl (fun ls hl => ?_)
          refine lv_goto (tgt := 3) hx hb dX3_movesOn_148 (by decide) ?_
          exact (ih) x1 x2 x3 (x4 + 1) lm rw rh lg lh ls H locs hP hS (lv_sub (l' := [(0, .ref o), (1, .int x1), (2, .int x2), (3, .int x3), (4, .int (x4 + 1))]) hl [1, 2, 3, 4, 0] rfl) hf
        · replace hf := it_f c2 hf
          refine lv_aload_n hx hb dX3_movesOn_26 rfl (lv_at hl 0 rfl) ?_
          refine lv_iload hx hb dX3_movesOn_27 (lv_at hl 4 rfl) ?_
          refine lv_iload_n hx hb dX3_movesOn_29 rfl (lv_at hl 1 rfl) ?_
          obtain ⟨v3, hv3, hf⟩ := ob_s hf
          refine mc_X3_X3_couldHave S hC hK hP hv3 hl.1 ⟨Nat.le_of_ble_eq_true rfl, Nat.le_of_ble_eq_true rfl⟩ (Nat.le_of_ble_eq_true rfl) ⟨Nat.zero_le _, Nat.zero_le _⟩ dX3_movesOn_30 (fun hnv3 => ?_)
          refine lv_if_ne (tgt := 39) hx hb dX3_movesOn_33 (by decide) (fun c4 => ?_) (fun c4 => ?_)
          · replace hf := it_f c4 hf
            refine lv_aload_n hx hb dX3_movesOn_39 rfl (lv_at hl 0 rfl) ?_
            refine mg_26 S hC hK hP dX3_movesOn_40 ?_
            refine lv_iload_n hx hb dX3_movesOn_43 rfl (lv_at hl 2 rfl) ?_
            refine lv_iload hx hb dX3_movesOn_44 (lv_at hl 4 rfl) ?_
            obtain ⟨g5, hf⟩ := gd_t hf
            refine ms_26 S hC hD hK hP hS (inR_vp g5) rfl dX3_movesOn_46 (fun H locs hP hS => ?_)
            refine lv_aload_n hx hb dX3_movesOn_47 rfl (lv_at hl 0 rfl) ?_
            refine mg_27 S hC hK hP dX3_movesOn_48 ?_
            refine lv_iload_n hx hb dX3_movesOn_51 rfl (lv_at hl 2 rfl) ?_
            refine lv_iload_n hx hb dX3_movesOn_52 rfl (lv_at hl 1 rfl) ?_
            obtain ⟨g6, hf⟩ := gd_t hf
            refine ms_27 S hC hD hK hP hS (inR_vp g6) rfl dX3_movesOn_53 (fun H locs hP hS => ?_)
            refine lv_iload_n hx hb dX3_movesOn_54 rfl (lv_at hl 2 rfl) ?_
            refine lv_iconst hx hb dX3_movesOn_55 kc_i1 ?_
            refine lv_iadd hx hb dX3_movesOn_56 ?_
            refine lv_aload_n hx hb dX3_movesOn_57 rfl (lv_at hl 0 rfl) ?_
            refine mg_30 S hC hK hP dX3_movesOn_58 ?_
            refine lv_icmp_le (tgt := 114) hx hb dX3_movesOn_61 (by decide) (fun c7 => ?_) (fun c7 => ?_)
            · replace hf := it_t c7 hf
              exact (w114 (f_X3_movesOn_3 n (f_X3_movesOn 0 nw) nw) (ih)) x1 x2 x3 x4 lm (upd rw x2.toNatClampNeg x4) (upd rh x2.toNatClampNeg x1) lg lh ls H locs hP hS hl hf
            · replace hf := it_f c7 hf
              refine lv_aload_n hx hb dX3_movesOn_64 rfl (lv_at hl 0 rfl) ?_
              refine lv_iload_n hx hb dX3_movesOn_65 rfl (lv_at hl 2 rfl) ?_
              refine lv_iconst hx hb dX3_movesOn_66 kc_i1 ?_
              refine lv_iadd hx hb dX3_movesOn_67 ?_
              refine mp_30 S hC hD hK hP hS dX3_movesOn_68 (fun H locs hP hS => ?_)
              refine lv_iconst hx hb dX3_movesOn_71 kc_i0 ?_
              refine lv_istore (lv' := [(5, .int 0), (0, .ref o), (1, .int x1), (2, .int x2), (3, .int x3), (4, .int x4)]) hx hb dX3_movesOn_72 hl (by decide) rfl (fun ls hl => ?_)
              exact (w74 FU (f_X3_movesOn_114 (f_X3_movesOn_3 n (f_X3_movesOn 0 nw) nw) (f_X3_movesOn 0 nw) nw) (w114 (f_X3_movesOn_3 n (f_X3_movesOn 0 nw) nw) (ih))) x1 x2 x3 x4 0 (x2 + 1) (upd rw x2.toNatClampNeg x4) (upd rh x2.toNatClampNeg x1) lg lh ls H locs hP hS (lv_sub (l' := [(0, .ref o), (1, .int x1), (2, .int x2), (3, .int x3), (4, .int x4), (5, .int 0)]) hl [1, 2, 3, 4, 5, 0] rfl) hf
          · replace hf := it_t c4 hf
            refine lv_goto (tgt := 145) hx hb dX3_movesOn_36 (by decide) ?_
            refine lv_iinc (v := (x4 + 1)) (lv' := [(4, .int (x4 + 1)), (0, .ref o), (1, .int x1), (2, .int x2), (3, .int x3)]) hx hb dX3_movesOn_145 hl (k := 4) rfl rfl (by decide) rfl (fun ls hl => ?_)
            refine lv_goto (tgt := 3) hx hb dX3_movesOn_148 (by decide) ?_
            exact (ih) x1 x2 x3 (x4 + 1) lm rw rh lg lh ls H locs hP hS (lv_sub (l' := [(0, .ref o), (1, .int x1), (2, .int x2), (3, .int x3), (4, .int (x4 + 1))]) hl [1, 2, 3, 4, 0] rfl) hf
  suffices hg : ∀ (H : Heap) (locs : List Loc), va_P D cl (mW mi cI cJ cB o ad th tp st fk fp ac si fr tt kd nu fa pl fo wd ci gr lm om nw rd aa kp ta nm rn gv gt rw rh lg lh ou) H → va_S (mA o ad) s.heap H locs → W p l e (rM 5 110) s m ([.ref o, .int a0, .int a1, .int a2] : List Value).toArray below meth c H locs 0 0 (MQ below (gQ D cl none True (mW mi cI cJ cB o ad th tp st fk fp ac si fr tt kd nu fa pl fo wd ci gr out.1 om nw rd aa kp ta nm rn gv gt out.2.1 out.2.2.1 out.2.2.2.1 out.2.2.2.2 ou) (mA o ad)) ([.ref o, .int a0, .int a1, .int a2] : List Value).toArray s 0 0 (mA o ad)) (F0 m 0 ls []) from hg s.heap [] hP va_S.rf
  clear hP
  intro H locs hP hS
  have hf : f_X3_movesOn (0 + 1) nw lm rw rh lg lh a0 a1 a2 = some out := hf
  rw [f_X3_movesOn] at hf
  refine lv_iconst hx hb dX3_movesOn_0 kc_i0 ?_
  refine lv_istore (lv' := [(4, .int 0), (0, .ref o), (1, .int a0), (2, .int a1), (3, .int a2)]) hx hb dX3_movesOn_1 hl (by decide) rfl (fun ls hl => ?_)
  exact (w3 FU) a0 a1 a2 0 lm rw rh lg lh ls H locs hP hS (lv_sub (l' := [(0, .ref o), (1, .int a0), (2, .int a1), (3, .int a2), (4, .int 0)]) hl [1, 2, 3, 4, 0] rfl) hf
set_option maxRecDepth 100000 in
theorem mc_X3_X3_movesOn_1 {a0 : Int32} {a1 : Int32} {a2 : Int32} {out : Int32 × (Nat → Int32) × (Nat → Int32) × (Nat → Int32) × (Nat → Int32)} (S : CallFix p m c cc nL s args lw_all RX3) (hC : mC cl tys mi cI cJ cB) (hD : mD o ad) (hK : va_K D cl tys s) (hP : va_P D cl (mW mi cI cJ cB o ad th tp st fk fp ac si fr tt kd nu fa pl fo wd ci gr lm om nw rd aa kp ta nm rn gv gt rw rh lg lh ou) H) (hS : va_S (mA o ad) H0 H locs) (hf : f_X3_movesOn 1 nw lm rw rh lg lh a0 a1 a2 = some out) (hsz : ls.size = nL) (hR : 5 + 1 ≤ R.frames ∧ 8 + (6 + 11) + 110 ≤ R.locals) (hW : (rest.map fun v => v.category).sum ≤ 8) (hcs : cells ≤ R.cells ∧ slots ≤ R.slots) (hdg : decode cc pc = .ok (.invokevirtual 386, 3)) (kk : ∀ (H1 : Heap) (locs1 : List Loc), True → va_P D cl (mW mi cI cJ cB o ad th tp st fk fp ac si fr tt kd nu fa pl fo wd ci gr out.1 om nw rd aa kp ta nm rn gv gt out.2.1 out.2.2.1 out.2.2.2.1 out.2.2.2.2 ou) H1 → va_S (mA o ad) H0 H1 locs1 → W p l e R s m args below meth c H1 locs1 cells slots Q (F0 m (pc + 3) ls (rest))) : W p l e R s m args below meth c H locs cells slots Q (F0 m pc ls (.int a2 :: .int a1 :: .int a0 :: .ref o :: rest)) :=
  gc_Vv (As := [.int a0, .int a1, .int a2]) S (mm_X3_movesOn_1 hC hD hf) (cwV 3 S.2.2.2.2 (lw_V q2558 q2560 qs164 q189 q2561) rfl rfl rfl hd_X3_movesOn hR) (gPreV hK hP hC.1 (q0 := 0) rfl) rfl hsz rfl hW hdg hcs hS kk
set_option maxHeartbeats 4000000 in
set_option maxRecDepth 100000 in
theorem mm_X3_movesOn_2 {a0 : Int32} {a1 : Int32} {a2 : Int32} {out : Int32 × (Nat → Int32) × (Nat → Int32) × (Nat → Int32) × (Nat → Int32)} (hC : mC cl tys mi cI cJ cB) (hD : mD o ad) (hf : f_X3_movesOn 2 nw lm rw rh lg lh a0 a1 a2 = some out) : Met l yX3_movesOn (ws_ yX3_movesOn cX3_movesOn 6 none) (rM 6 135) (gPc D cl tys [.ref o, .int a0, .int a1, .int a2] (mW mi cI cJ cB o ad th tp st fk fp ac si fr tt kd nu fa pl fo wd ci gr lm om nw rd aa kp ta nm rn gv gt rw rh lg lh ou)) (gQ D cl none True (mW mi cI cJ cB o ad th tp st fk fp ac si fr tt kd nu fa pl fo wd ci gr out.1 om nw rd aa kp ta nm rn gv gt out.2.1 out.2.2.1 out.2.2.2.1 out.2.2.2.2 ou) (mA o ad)) 0 0 (mA o ad) := by
  refine gGo (by decide +kernel) (Nat.le_of_ble_eq_true rfl) (fun p e s m below meth c ls S hr hlocks hK hP hl => ?_)
  have S : CallFix p m c cX3_movesOn 6 s _ lw_all RX3 := S
  obtain ⟨hx, hb, hml, hown, hts⟩ := id S
  have hl : lv_has ls 6 [(0, .ref o), (1, .int a0), (2, .int a1), (3, .int a2)] := hl
  have w74 : ∀ (n : Nat) (k114 : Int32 → Int32 → Int32 → Int32 → Int32 → (Nat → Int32) → (Nat → Int32) → (Nat → Int32) → (Nat → Int32) → Option (Int32 × (Nat → Int32) × (Nat → Int32) × (Nat → Int32) × (Nat → Int32))), (∀ (b0 : Int32) (b1 : Int32) (b2 : Int32) (b3 : Int32) (b4 : Int32) (b5 : (Nat → Int32)) (b6 : (Nat → Int32)) (b7 : (Nat → Int32)) (b8 : (Nat → Int32)) (ls : Array Slot) (H : Heap) (locs : List Loc), va_P D cl (mW mi cI cJ cB o ad th tp st fk fp ac si fr tt kd nu fa pl fo wd ci gr b4 om nw rd aa kp ta nm rn gv gt b5 b6 b7 b8 ou) H → va_S (mA o ad) s.heap H locs → lv_has ls 6 [(0, .ref o), (1, .int b0), (2, .int b1), (3, .int b2), (4, .int b3)] → k114 b0 b1 b2 b3 b4 b5 b6 b7 b8 = some out → W p l e (rM 6 135) s m ([.ref o, .int a0, .int a1, .int a2] : List Value).toArray below meth c H locs 0 0 (MQ below (gQ D cl none True (mW mi cI cJ cB o ad th tp st fk fp ac si fr tt kd nu fa pl fo wd ci gr out.1 om nw rd aa kp ta nm rn gv gt out.2.1 out.2.2.1 out.2.2.2.1 out.2.2.2.2 ou) (mA o ad)) ([.ref o, .int a0, .int a1, .int a2] : List Value).toArray s 0 0 (mA o ad)) (F0 m 114 ls [])) → ∀ (x1 : Int32) (x2 : Int32) (x3 : Int32) (x4 : Int32) (x5 : Int32) (lm : Int32) (rw : (Nat → Int32)) (rh : (Nat → Int32)) (lg : (Nat → Int32)) (lh : (Nat → Int32)) (ls : Array Slot) (H : Heap) (locs : List Loc), va_P D cl (mW mi cI cJ cB o ad th tp st fk fp ac si fr tt kd nu fa pl fo wd ci gr lm om nw rd aa kp ta nm rn gv gt rw rh lg lh ou) H → va_S (mA o ad) s.heap H locs → lv_has ls 6 [(0, .ref o), (1, .int x1), (2, .int x2), (3, .int x3), (4, .int x4), (5, .int x5)] → f_X3_movesOn_74 n k114 (f_X3_movesOn 1 nw) nw x1 x2 x3 x4 x5 lm rw rh lg lh = some out → W p l e (rM 6 135) s m ([.ref o, .int a0, .int a1, .int a2] : List Value).toArray below meth c H locs 0 0 (MQ below (gQ D cl none True (mW mi cI cJ cB o ad th tp st fk fp ac si fr tt kd nu fa pl fo wd ci gr out.1 om nw rd aa kp ta nm rn gv gt out.2.1 out.2.2.1 out.2.2.2.1 out.2.2.2.2 ou) (mA o ad)) ([.ref o, .int a0, .int a1, .int a2] : List Value).toArray s 0 0 (mA o ad)) (F0 m 74 ls []) := by
    intro n
    induction n with
    | zero =>
      intro k114 hk114 x1 x2 x3 x4 x5 lm rw rh lg lh ls H locs hP hS hl hf
      exact absurd hf (by rw [f_X3_movesOn_74]; exact nofun)
    | succ n ih =>
      intro k114 hk114 x1 x2 x3 x4 x5 lm rw rh lg lh ls H locs hP hS hl hf
      rw [f_X3_movesOn_74] at hf
      refine lv_iload hx hb dX3_movesOn_74 (lv_at hl 5 rfl) ?_
      refine lv_iload_n hx hb dX3_movesOn_76 rfl (lv_at hl 2 rfl) ?_
      refine lv_icmp_gt (tgt := 114) hx hb dX3_movesOn_77 (by decide) (fun c1 => ?_) (fun c1 => ?_)
      · replace hf := it_t c1 hf
        exact hk114 x1 x2 x3 x4 lm rw rh lg lh ls H locs hP hS (lv_sub (l' := [(0, .ref o), (1, .int x1), (2, .int x2), (3, .int x3), (4, .int x4)]) hl [0, 1, 2, 3, 4] rfl) hf
      · replace hf := it_f c1 hf
        refine lv_aload_n hx hb dX3_movesOn_80 rfl (lv_at hl 0 rfl) ?_
        refine mg_28 S hC hK hP dX3_movesOn_81 ?_
        refine lv_iload hx hb dX3_movesOn_84 (lv_at hl 5 rfl) ?_
        refine lv_aload_n hx hb dX3_movesOn_86 rfl (lv_at hl 0 rfl) ?_
        refine mg_26 S hC hK hP dX3_movesOn_87 ?_
        refine lv_iload hx hb dX3_movesOn_90 (lv_at hl 5 rfl) ?_
        obtain ⟨g2, hf⟩ := gd_t hf
        refine ma_26 S hC hK hP (inR_vp g2) rfl dX3_movesOn_92 ?_
        obtain ⟨g3, hf⟩ := gd_t hf
        refine ms_28 S hC hD hK hP hS (inR_vp g3) rfl dX3_movesOn_93 (fun H locs hP hS => ?_)
        refine lv_aload_n hx hb dX3_movesOn_94 rfl (lv_at hl 0 rfl) ?_
        refine mg_29 S hC hK hP dX3_movesOn_95 ?_
        refine lv_iload hx hb dX3_movesOn_98 (lv_at hl 5 rfl) ?_
        refine lv_aload_n hx hb dX3_movesOn_100 rfl (lv_at hl 0 rfl) ?_
        refine mg_27 S hC hK hP dX3_movesOn_101 ?_
        refine lv_iload hx hb dX3_movesOn_104 (lv_at hl 5 rfl) ?_
        obtain ⟨g4, hf⟩ := gd_t hf
        refine ma_27 S hC hK hP (inR_vp g4) rfl dX3_movesOn_106 ?_
        obtain ⟨g5, hf⟩ := gd_t hf
        refine ms_29 S hC hD hK hP hS (inR_vp g5) rfl dX3_movesOn_107 (fun H locs hP hS => ?_)
        refine lv_iinc (v := (x5 + 1)) (lv' := [(5, .int (x5 + 1)), (0, .ref o), (1, .int x1), (2, .int x2), (3, .int x3), (4, .int x4)]) hx hb dX3_movesOn_108 hl (k := 5) rfl rfl (by decide) rfl (fun ls hl => ?_)
        refine lv_goto (tgt := 74) hx hb dX3_movesOn_111 (by decide) ?_
        exact (ih k114 hk114) x1 x2 x3 x4 (x5 + 1) lm rw rh (upd lg x5.toNatClampNeg (rw x5.toNatClampNeg)) (upd lh x5.toNatClampNeg (rh x5.toNatClampNeg)) ls H locs hP hS (lv_sub (l' := [(0, .ref o), (1, .int x1), (2, .int x2), (3, .int x3), (4, .int x4), (5, .int (x5 + 1))]) hl [1, 2, 3, 4, 5, 0] rfl) hf
  have w114 : ∀ (k3 : Int32 → Int32 → Int32 → Int32 → Int32 → (Nat → Int32) → (Nat → Int32) → (Nat → Int32) → (Nat → Int32) → Option (Int32 × (Nat → Int32) × (Nat → Int32) × (Nat → Int32) × (Nat → Int32))), (∀ (b0 : Int32) (b1 : Int32) (b2 : Int32) (b3 : Int32) (b4 : Int32) (b5 : (Nat → Int32)) (b6 : (Nat → Int32)) (b7 : (Nat → Int32)) (b8 : (Nat → Int32)) (ls : Array Slot) (H : Heap) (locs : List Loc), va_P D cl (mW mi cI cJ cB o ad th tp st fk fp ac si fr tt kd nu fa pl fo wd ci gr b4 om nw rd aa kp ta nm rn gv gt b5 b6 b7 b8 ou) H → va_S (mA o ad) s.heap H locs → lv_has ls 6 [(0, .ref o), (1, .int b0), (2, .int b1), (3, .int b2), (4, .int b3)] → k3 b0 b1 b2 b3 b4 b5 b6 b7 b8 = some out → W p l e (rM 6 135) s m ([.ref o, .int a0, .int a1, .int a2] : List Value).toArray below meth c H locs 0 0 (MQ below (gQ D cl none True (mW mi cI cJ cB o ad th tp st fk fp ac si fr tt kd nu fa pl fo wd ci gr out.1 om nw rd aa kp ta nm rn gv gt out.2.1 out.2.2.1 out.2.2.2.1 out.2.2.2.2 ou) (mA o ad)) ([.ref o, .int a0, .int a1, .int a2] : List Value).toArray s 0 0 (mA o ad)) (F0 m 3 ls [])) → ∀ (x1 : Int32) (x2 : Int32) (x3 : Int32) (x4 : Int32) (lm : Int32) (rw : (Nat → Int32)) (rh : (Nat → Int32)) (lg : (Nat → Int32)) (lh : (Nat → Int32)) (ls : Array Slot) (H : Heap) (locs : List Loc), va_P D cl (mW mi cI cJ cB o ad th tp st fk fp ac si fr tt kd nu fa pl fo wd ci gr lm om nw rd aa kp ta nm rn gv gt rw rh lg lh ou) H → va_S (mA o ad) s.heap H locs → lv_has ls 6 [(0, .ref o), (1, .int x1), (2, .int x2), (3, .int x3), (4, .int x4)] → f_X3_movesOn_114 k3 (f_X3_movesOn 1 nw) nw x1 x2 x3 x4 lm rw rh lg lh = some out → W p l e (rM 6 135) s m ([.ref o, .int a0, .int a1, .int a2] : List Value).toArray below meth c H locs 0 0 (MQ below (gQ D cl none True (mW mi cI cJ cB o ad th tp st fk fp ac si fr tt kd nu fa pl fo wd ci gr out.1 om nw rd aa kp ta nm rn gv gt out.2.1 out.2.2.1 out.2.2.2.1 out.2.2.2.2 ou) (mA o ad)) ([.ref o, .int a0, .int a1, .int a2] : List Value).toArray s 0 0 (mA o ad)) (F0 m 114 ls []) := by
    intro k3 hk3 x1 x2 x3 x4 lm rw rh lg lh ls H locs hP hS hl hf
    rw [f_X3_movesOn_114] at hf
    refine lv_aload_n hx hb dX3_movesOn_114 rfl (lv_at hl 0 rfl) ?_
    refine lv_iload hx hb dX3_movesOn_115 (lv_at hl 4 rfl) ?_
    refine lv_iconst hx hb dX3_movesOn_117 kc_i4 ?_
    obtain ⟨v1, hv1, hf⟩ := ob_s hf
    refine mc_X3_X3_of S hC hK hP hv1 hl.1 ⟨Nat.le_of_ble_eq_true rfl, Nat.le_of_ble_eq_true rfl⟩ (Nat.le_of_ble_eq_true rfl) ⟨Nat.zero_le _, Nat.zero_le _⟩ dX3_movesOn_118 (fun _ => ?_)
    refine lv_iconst hx hb dX3_movesOn_121 kc_im1 ?_
    refine lv_icmp_eq (tgt := 145) hx hb dX3_movesOn_122 (by decide) (fun c2 => ?_) (fun c2 => ?_)
    · replace hf := it_t c2 hf
      refine lv_iinc (v := (x4 + 1)) (lv' := [(4, .int (x4 + 1)), (0, .ref o), (1, .int x1), (2, .int x2), (3, .int x3)]) hx hb dX3_movesOn_145 hl (k := 4) rfl rfl (by decide) rfl (fun ls hl => ?_)
      refine lv_goto (tgt := 3) hx hb dX3_movesOn_148 (by decide) ?_
      exact hk3 x1 x2 x3 (x4 + 1) lm rw rh lg lh ls H locs hP hS (lv_sub (l' := [(0, .ref o), (1, .int x1), (2, .int x2), (3, .int x3), (4, .int (x4 + 1))]) hl [1, 2, 3, 4, 0] rfl) hf
    · replace hf := it_f c2 hf
      refine lv_aload_n hx hb dX3_movesOn_125 rfl (lv_at hl 0 rfl) ?_
      refine lv_aload_n hx hb dX3_movesOn_126 rfl (lv_at hl 0 rfl) ?_
      refine lv_iload hx hb dX3_movesOn_127 (lv_at hl 4 rfl) ?_
      refine lv_iconst hx hb dX3_movesOn_129 kc_i4 ?_
      obtain ⟨v3, hv3, hf⟩ := ob_s hf
      refine mc_X3_X3_of S hC hK hP hv3 hl.1 ⟨Nat.le_of_ble_eq_true rfl, Nat.le_of_ble_eq_true rfl⟩ (Nat.le_of_ble_eq_true rfl) ⟨Nat.zero_le _, Nat.zero_le _⟩ dX3_movesOn_130 (fun _ => ?_)
      refine lv_iload_n hx hb dX3_movesOn_133 rfl (lv_at hl 2 rfl) ?_
      refine lv_iconst hx hb dX3_movesOn_134 kc_i1 ?_
      refine lv_iadd hx hb dX3_movesOn_135 ?_
      refine lv_iload_n hx hb dX3_movesOn_136 rfl (lv_at hl 3 rfl) ?_
      refine lv_iconst hx hb dX3_movesOn_137 kc_i1 ?_
      refine lv_iload hx hb dX3_movesOn_138 (lv_at hl 4 rfl) ?_
      refine lv_ishl hx hb dX3_movesOn_140 ?_
      refine lv_ior hx hb dX3_movesOn_141 ?_
      obtain ⟨v4, hv4, hf⟩ := ob_s hf
      refine mc_X3_X3_movesOn_1 S hC hD hK hP hS hv4 hl.1 ⟨Nat.le_of_ble_eq_true rfl, Nat.le_of_ble_eq_true rfl⟩ (Nat.le_of_ble_eq_true rfl) ⟨Nat.zero_le _, Nat.zero_le _⟩ dX3_movesOn_142 (fun H locs _ hP hS => ?_)
      refine lv_iinc (v := (x4 + 1)) (lv' := [(4, .int (x4 + 1)), (0, .ref o), (1, .int x1), (2, .int x2), (3, .int x3)]) hx hb dX3_movesOn_145 hl (k := 4) rfl rfl (by decide) rfl (fun ls hl => ?_)
      refine lv_goto (tgt := 3) hx hb dX3_movesOn_148 (by decide) ?_
      exact hk3 x1 x2 x3 (x4 + 1) v4.1 v4.2.1 v4.2.2.1 v4.2.2.2.1 v4.2.2.2.2 ls H locs hP hS (lv_sub (l' := [(0, .ref o), (1, .int x1), (2, .int x2), (3, .int x3), (4, .int (x4 + 1))]) hl [1, 2, 3, 4, 0] rfl) hf
  have w3 : ∀ (n : Nat) , ∀ (x1 : Int32) (x2 : Int32) (x3 : Int32) (x4 : Int32) (lm : Int32) (rw : (Nat → Int32)) (rh : (Nat → Int32)) (lg : (Nat → Int32)) (lh : (Nat → Int32)) (ls : Array Slot) (H : Heap) (locs : List Loc), va_P D cl (mW mi cI cJ cB o ad th tp st fk fp ac si fr tt kd nu fa pl fo wd ci gr lm om nw rd aa kp ta nm rn gv gt rw rh lg lh ou) H → va_S (mA o ad) s.heap H locs → lv_has ls 6 [(0, .ref o), (1, .int x1), (2, .int x2), (3, .int x3), (4, .int x4)] → f_X3_movesOn_3 n (f_X3_movesOn 1 nw) nw x1 x2 x3 x4 lm rw rh lg lh = some out → W p l e (rM 6 135) s m ([.ref o, .int a0, .int a1, .int a2] : List Value).toArray below meth c H locs 0 0 (MQ below (gQ D cl none True (mW mi cI cJ cB o ad th tp st fk fp ac si fr tt kd nu fa pl fo wd ci gr out.1 om nw rd aa kp ta nm rn gv gt out.2.1 out.2.2.1 out.2.2.2.1 out.2.2.2.2 ou) (mA o ad)) ([.ref o, .int a0, .int a1, .int a2] : List Value).toArray s 0 0 (mA o ad)) (F0 m 3 ls []) := by
    intro n
    induction n with
    | zero =>
      intro x1 x2 x3 x4 lm rw rh lg lh ls H locs hP hS hl hf
      exact absurd hf (by rw [f_X3_movesOn_3]; exact nofun)
    | succ n ih =>
      intro x1 x2 x3 x4 lm rw rh lg lh ls H locs hP hS hl hf
      rw [f_X3_movesOn_3] at hf
      refine lv_iload hx hb dX3_movesOn_3 (lv_at hl 4 rfl) ?_
      refine lv_aload_n hx hb dX3_movesOn_5 rfl (lv_at hl 0 rfl) ?_
      refine mg_1 S hC hK hP dX3_movesOn_6 ?_
      refine lv_sipush hx hb dX3_movesOn_9 kc_s231 ?_
      refine ma_1 S hC hK hP kv_231_390 kn_231 dX3_movesOn_12 ?_
      refine lv_icmp_ge (tgt := 151) hx hb dX3_movesOn_13 (by decide) (fun c1 => ?_) (fun c1 => ?_)
      · replace hf := it_t c1 hf
        have hE := Option.some.inj hf
        subst hE
        exact gt_wv S hr hlocks trivial hP hS dX3_movesOn_151
      · replace hf := it_f c1 hf
        refine lv_iload_n hx hb dX3_movesOn_16 rfl (lv_at hl 3 rfl) ?_
        refine lv_iload hx hb dX3_movesOn_17 (lv_at hl 4 rfl) ?_
        refine lv_ishr hx hb dX3_movesOn_19 ?_
        refine lv_iconst hx hb dX3_movesOn_20 kc_i1 ?_
        refine lv_iand hx hb dX3_movesOn_21 ?_
        refine lv_iconst hx hb dX3_movesOn_22 kc_i1 ?_
        refine lv_icmp_eq (tgt := 145) hx hb dX3_movesOn_23 (by decide) (fun c2 => ?_) (fun c2 => ?_)
        · replace hf := it_t c2 hf
          refine lv_iinc (v := (x4 + 1)) (lv' := [(4, .int (x4 + 1)), (0, .ref o), (1, .int x1), (2, .int x2), (3, .int x3)]) hx hb dX3_movesOn_145 hl (k := 4) rfl rfl (by decide) rfl (fun ls hl => ?_)
          refine lv_goto (tgt := 3) hx hb dX3_movesOn_148 (by decide) ?_
          exact (ih) x1 x2 x3 (x4 + 1) lm rw rh lg lh ls H locs hP hS (lv_sub (l' := [(0, .ref o), (1, .int x1), (2, .int x2), (3, .int x3), (4, .int (x4 + 1))]) hl [1, 2, 3, 4, 0] rfl) hf
        · replace hf := it_f c2 hf
          refine lv_aload_n hx hb dX3_movesOn_26 rfl (lv_at hl 0 rfl) ?_
          refine lv_iload hx hb dX3_movesOn_27 (lv_at hl 4 rfl) ?_
          refine lv_iload_n hx hb dX3_movesOn_29 rfl (lv_at hl 1 rfl) ?_
          obtain ⟨v3, hv3, hf⟩ := ob_s hf
          refine mc_X3_X3_couldHave S hC hK hP hv3 hl.1 ⟨Nat.le_of_ble_eq_true rfl, Nat.le_of_ble_eq_true rfl⟩ (Nat.le_of_ble_eq_true rfl) ⟨Nat.zero_le _, Nat.zero_le _⟩ dX3_movesOn_30 (fun hnv3 => ?_)
          refine lv_if_ne (tgt := 39) hx hb dX3_movesOn_33 (by decide) (fun c4 => ?_) (fun c4 => ?_)
          · replace hf := it_f c4 hf
            refine lv_aload_n hx hb dX3_movesOn_39 rfl (lv_at hl 0 rfl) ?_
            refine mg_26 S hC hK hP dX3_movesOn_40 ?_
            refine lv_iload_n hx hb dX3_movesOn_43 rfl (lv_at hl 2 rfl) ?_
            refine lv_iload hx hb dX3_movesOn_44 (lv_at hl 4 rfl) ?_
            obtain ⟨g5, hf⟩ := gd_t hf
            refine ms_26 S hC hD hK hP hS (inR_vp g5) rfl dX3_movesOn_46 (fun H locs hP hS => ?_)
            refine lv_aload_n hx hb dX3_movesOn_47 rfl (lv_at hl 0 rfl) ?_
            refine mg_27 S hC hK hP dX3_movesOn_48 ?_
            refine lv_iload_n hx hb dX3_movesOn_51 rfl (lv_at hl 2 rfl) ?_
            refine lv_iload_n hx hb dX3_movesOn_52 rfl (lv_at hl 1 rfl) ?_
            obtain ⟨g6, hf⟩ := gd_t hf
            refine ms_27 S hC hD hK hP hS (inR_vp g6) rfl dX3_movesOn_53 (fun H locs hP hS => ?_)
            refine lv_iload_n hx hb dX3_movesOn_54 rfl (lv_at hl 2 rfl) ?_
            refine lv_iconst hx hb dX3_movesOn_55 kc_i1 ?_
            refine lv_iadd hx hb dX3_movesOn_56 ?_
            refine lv_aload_n hx hb dX3_movesOn_57 rfl (lv_at hl 0 rfl) ?_
            refine mg_30 S hC hK hP dX3_movesOn_58 ?_
            refine lv_icmp_le (tgt := 114) hx hb dX3_movesOn_61 (by decide) (fun c7 => ?_) (fun c7 => ?_)
            · replace hf := it_t c7 hf
              exact (w114 (f_X3_movesOn_3 n (f_X3_movesOn 1 nw) nw) (ih)) x1 x2 x3 x4 lm (upd rw x2.toNatClampNeg x4) (upd rh x2.toNatClampNeg x1) lg lh ls H locs hP hS hl hf
            · replace hf := it_f c7 hf
              refine lv_aload_n hx hb dX3_movesOn_64 rfl (lv_at hl 0 rfl) ?_
              refine lv_iload_n hx hb dX3_movesOn_65 rfl (lv_at hl 2 rfl) ?_
              refine lv_iconst hx hb dX3_movesOn_66 kc_i1 ?_
              refine lv_iadd hx hb dX3_movesOn_67 ?_
              refine mp_30 S hC hD hK hP hS dX3_movesOn_68 (fun H locs hP hS => ?_)
              refine lv_iconst hx hb dX3_movesOn_71 kc_i0 ?_
              refine lv_istore (lv' := [(5, .int 0), (0, .ref o), (1, .int x1), (2, .int x2), (3, .int x3), (4, .int x4)]) hx hb dX3_movesOn_72 hl (by decide) rfl (fun ls hl => ?_)
              exact (w74 FU (f_X3_movesOn_114 (f_X3_movesOn_3 n (f_X3_movesOn 1 nw) nw) (f_X3_movesOn 1 nw) nw) (w114 (f_X3_movesOn_3 n (f_X3_movesOn 1 nw) nw) (ih))) x1 x2 x3 x4 0 (x2 + 1) (upd rw x2.toNatClampNeg x4) (upd rh x2.toNatClampNeg x1) lg lh ls H locs hP hS (lv_sub (l' := [(0, .ref o), (1, .int x1), (2, .int x2), (3, .int x3), (4, .int x4), (5, .int 0)]) hl [1, 2, 3, 4, 5, 0] rfl) hf
          · replace hf := it_t c4 hf
            refine lv_goto (tgt := 145) hx hb dX3_movesOn_36 (by decide) ?_
            refine lv_iinc (v := (x4 + 1)) (lv' := [(4, .int (x4 + 1)), (0, .ref o), (1, .int x1), (2, .int x2), (3, .int x3)]) hx hb dX3_movesOn_145 hl (k := 4) rfl rfl (by decide) rfl (fun ls hl => ?_)
            refine lv_goto (tgt := 3) hx hb dX3_movesOn_148 (by decide) ?_
            exact (ih) x1 x2 x3 (x4 + 1) lm rw rh lg lh ls H locs hP hS (lv_sub (l' := [(0, .ref o), (1, .int x1), (2, .int x2), (3, .int x3), (4, .int (x4 + 1))]) hl [1, 2, 3, 4, 0] rfl) hf
  suffices hg : ∀ (H : Heap) (locs : List Loc), va_P D cl (mW mi cI cJ cB o ad th tp st fk fp ac si fr tt kd nu fa pl fo wd ci gr lm om nw rd aa kp ta nm rn gv gt rw rh lg lh ou) H → va_S (mA o ad) s.heap H locs → W p l e (rM 6 135) s m ([.ref o, .int a0, .int a1, .int a2] : List Value).toArray below meth c H locs 0 0 (MQ below (gQ D cl none True (mW mi cI cJ cB o ad th tp st fk fp ac si fr tt kd nu fa pl fo wd ci gr out.1 om nw rd aa kp ta nm rn gv gt out.2.1 out.2.2.1 out.2.2.2.1 out.2.2.2.2 ou) (mA o ad)) ([.ref o, .int a0, .int a1, .int a2] : List Value).toArray s 0 0 (mA o ad)) (F0 m 0 ls []) from hg s.heap [] hP va_S.rf
  clear hP
  intro H locs hP hS
  have hf : f_X3_movesOn (1 + 1) nw lm rw rh lg lh a0 a1 a2 = some out := hf
  rw [f_X3_movesOn] at hf
  refine lv_iconst hx hb dX3_movesOn_0 kc_i0 ?_
  refine lv_istore (lv' := [(4, .int 0), (0, .ref o), (1, .int a0), (2, .int a1), (3, .int a2)]) hx hb dX3_movesOn_1 hl (by decide) rfl (fun ls hl => ?_)
  exact (w3 FU) a0 a1 a2 0 lm rw rh lg lh ls H locs hP hS (lv_sub (l' := [(0, .ref o), (1, .int a0), (2, .int a1), (3, .int a2), (4, .int 0)]) hl [1, 2, 3, 4, 0] rfl) hf
set_option maxRecDepth 100000 in
theorem mc_X3_X3_movesOn_2 {a0 : Int32} {a1 : Int32} {a2 : Int32} {out : Int32 × (Nat → Int32) × (Nat → Int32) × (Nat → Int32) × (Nat → Int32)} (S : CallFix p m c cc nL s args lw_all RX3) (hC : mC cl tys mi cI cJ cB) (hD : mD o ad) (hK : va_K D cl tys s) (hP : va_P D cl (mW mi cI cJ cB o ad th tp st fk fp ac si fr tt kd nu fa pl fo wd ci gr lm om nw rd aa kp ta nm rn gv gt rw rh lg lh ou) H) (hS : va_S (mA o ad) H0 H locs) (hf : f_X3_movesOn 2 nw lm rw rh lg lh a0 a1 a2 = some out) (hsz : ls.size = nL) (hR : 6 + 1 ≤ R.frames ∧ 8 + (6 + 11) + 135 ≤ R.locals) (hW : (rest.map fun v => v.category).sum ≤ 8) (hcs : cells ≤ R.cells ∧ slots ≤ R.slots) (hdg : decode cc pc = .ok (.invokevirtual 386, 3)) (kk : ∀ (H1 : Heap) (locs1 : List Loc), True → va_P D cl (mW mi cI cJ cB o ad th tp st fk fp ac si fr tt kd nu fa pl fo wd ci gr out.1 om nw rd aa kp ta nm rn gv gt out.2.1 out.2.2.1 out.2.2.2.1 out.2.2.2.2 ou) H1 → va_S (mA o ad) H0 H1 locs1 → W p l e R s m args below meth c H1 locs1 cells slots Q (F0 m (pc + 3) ls (rest))) : W p l e R s m args below meth c H locs cells slots Q (F0 m pc ls (.int a2 :: .int a1 :: .int a0 :: .ref o :: rest)) :=
  gc_Vv (As := [.int a0, .int a1, .int a2]) S (mm_X3_movesOn_2 hC hD hf) (cwV 3 S.2.2.2.2 (lw_V q2558 q2560 qs164 q189 q2561) rfl rfl rfl hd_X3_movesOn hR) (gPreV hK hP hC.1 (q0 := 0) rfl) rfl hsz rfl hW hdg hcs hS kk
set_option maxHeartbeats 4000000 in
set_option maxRecDepth 100000 in
theorem mm_X3_movesOn_3 {a0 : Int32} {a1 : Int32} {a2 : Int32} {out : Int32 × (Nat → Int32) × (Nat → Int32) × (Nat → Int32) × (Nat → Int32)} (hC : mC cl tys mi cI cJ cB) (hD : mD o ad) (hf : f_X3_movesOn 3 nw lm rw rh lg lh a0 a1 a2 = some out) : Met l yX3_movesOn (ws_ yX3_movesOn cX3_movesOn 6 none) (rM 7 160) (gPc D cl tys [.ref o, .int a0, .int a1, .int a2] (mW mi cI cJ cB o ad th tp st fk fp ac si fr tt kd nu fa pl fo wd ci gr lm om nw rd aa kp ta nm rn gv gt rw rh lg lh ou)) (gQ D cl none True (mW mi cI cJ cB o ad th tp st fk fp ac si fr tt kd nu fa pl fo wd ci gr out.1 om nw rd aa kp ta nm rn gv gt out.2.1 out.2.2.1 out.2.2.2.1 out.2.2.2.2 ou) (mA o ad)) 0 0 (mA o ad) := by
  refine gGo (by decide +kernel) (Nat.le_of_ble_eq_true rfl) (fun p e s m below meth c ls S hr hlocks hK hP hl => ?_)
  have S : CallFix p m c cX3_movesOn 6 s _ lw_all RX3 := S
  obtain ⟨hx, hb, hml, hown, hts⟩ := id S
  have hl : lv_has ls 6 [(0, .ref o), (1, .int a0), (2, .int a1), (3, .int a2)] := hl
  have w74 : ∀ (n : Nat) (k114 : Int32 → Int32 → Int32 → Int32 → Int32 → (Nat → Int32) → (Nat → Int32) → (Nat → Int32) → (Nat → Int32) → Option (Int32 × (Nat → Int32) × (Nat → Int32) × (Nat → Int32) × (Nat → Int32))), (∀ (b0 : Int32) (b1 : Int32) (b2 : Int32) (b3 : Int32) (b4 : Int32) (b5 : (Nat → Int32)) (b6 : (Nat → Int32)) (b7 : (Nat → Int32)) (b8 : (Nat → Int32)) (ls : Array Slot) (H : Heap) (locs : List Loc), va_P D cl (mW mi cI cJ cB o ad th tp st fk fp ac si fr tt kd nu fa pl fo wd ci gr b4 om nw rd aa kp ta nm rn gv gt b5 b6 b7 b8 ou) H → va_S (mA o ad) s.heap H locs → lv_has ls 6 [(0, .ref o), (1, .int b0), (2, .int b1), (3, .int b2), (4, .int b3)] → k114 b0 b1 b2 b3 b4 b5 b6 b7 b8 = some out → W p l e (rM 7 160) s m ([.ref o, .int a0, .int a1, .int a2] : List Value).toArray below meth c H locs 0 0 (MQ below (gQ D cl none True (mW mi cI cJ cB o ad th tp st fk fp ac si fr tt kd nu fa pl fo wd ci gr out.1 om nw rd aa kp ta nm rn gv gt out.2.1 out.2.2.1 out.2.2.2.1 out.2.2.2.2 ou) (mA o ad)) ([.ref o, .int a0, .int a1, .int a2] : List Value).toArray s 0 0 (mA o ad)) (F0 m 114 ls [])) → ∀ (x1 : Int32) (x2 : Int32) (x3 : Int32) (x4 : Int32) (x5 : Int32) (lm : Int32) (rw : (Nat → Int32)) (rh : (Nat → Int32)) (lg : (Nat → Int32)) (lh : (Nat → Int32)) (ls : Array Slot) (H : Heap) (locs : List Loc), va_P D cl (mW mi cI cJ cB o ad th tp st fk fp ac si fr tt kd nu fa pl fo wd ci gr lm om nw rd aa kp ta nm rn gv gt rw rh lg lh ou) H → va_S (mA o ad) s.heap H locs → lv_has ls 6 [(0, .ref o), (1, .int x1), (2, .int x2), (3, .int x3), (4, .int x4), (5, .int x5)] → f_X3_movesOn_74 n k114 (f_X3_movesOn 2 nw) nw x1 x2 x3 x4 x5 lm rw rh lg lh = some out → W p l e (rM 7 160) s m ([.ref o, .int a0, .int a1, .int a2] : List Value).toArray below meth c H locs 0 0 (MQ below (gQ D cl none True (mW mi cI cJ cB o ad th tp st fk fp ac si fr tt kd nu fa pl fo wd ci gr out.1 om nw rd aa kp ta nm rn gv gt out.2.1 out.2.2.1 out.2.2.2.1 out.2.2.2.2 ou) (mA o ad)) ([.ref o, .int a0, .int a1, .int a2] : List Value).toArray s 0 0 (mA o ad)) (F0 m 74 ls []) := by
    intro n
    induction n with
    | zero =>
      intro k114 hk114 x1 x2 x3 x4 x5 lm rw rh lg lh ls H locs hP hS hl hf
      exact absurd hf (by rw [f_X3_movesOn_74]; exact nofun)
    | succ n ih =>
      intro k114 hk114 x1 x2 x3 x4 x5 lm rw rh lg lh ls H locs hP hS hl hf
      rw [f_X3_movesOn_74] at hf
      refine lv_iload hx hb dX3_movesOn_74 (lv_at hl 5 rfl) ?_
      refine lv_iload_n hx hb dX3_movesOn_76 rfl (lv_at hl 2 rfl) ?_
      refine lv_icmp_gt (tgt := 114) hx hb dX3_movesOn_77 (by decide) (fun c1 => ?_) (fun c1 => ?_)
      · replace hf := it_t c1 hf
        exact hk114 x1 x2 x3 x4 lm rw rh lg lh ls H locs hP hS (lv_sub (l' := [(0, .ref o), (1, .int x1), (2, .int x2), (3, .int x3), (4, .int x4)]) hl [0, 1, 2, 3, 4] rfl) hf
      · replace hf := it_f c1 hf
        refine lv_aload_n hx hb dX3_movesOn_80 rfl (lv_at hl 0 rfl) ?_
        refine mg_28 S hC hK hP dX3_movesOn_81 ?_
        refine lv_iload hx hb dX3_movesOn_84 (lv_at hl 5 rfl) ?_
        refine lv_aload_n hx hb dX3_movesOn_86 rfl (lv_at hl 0 rfl) ?_
        refine mg_26 S hC hK hP dX3_movesOn_87 ?_
        refine lv_iload hx hb dX3_movesOn_90 (lv_at hl 5 rfl) ?_
        obtain ⟨g2, hf⟩ := gd_t hf
        refine ma_26 S hC hK hP (inR_vp g2) rfl dX3_movesOn_92 ?_
        obtain ⟨g3, hf⟩ := gd_t hf
        refine ms_28 S hC hD hK hP hS (inR_vp g3) rfl dX3_movesOn_93 (fun H locs hP hS => ?_)
        refine lv_aload_n hx hb dX3_movesOn_94 rfl (lv_at hl 0 rfl) ?_
        refine mg_29 S hC hK hP dX3_movesOn_95 ?_
        refine lv_iload hx hb dX3_movesOn_98 (lv_at hl 5 rfl) ?_
        refine lv_aload_n hx hb dX3_movesOn_100 rfl (lv_at hl 0 rfl) ?_
        refine mg_27 S hC hK hP dX3_movesOn_101 ?_
        refine lv_iload hx hb dX3_movesOn_104 (lv_at hl 5 rfl) ?_
        obtain ⟨g4, hf⟩ := gd_t hf
        refine ma_27 S hC hK hP (inR_vp g4) rfl dX3_movesOn_106 ?_
        obtain ⟨g5, hf⟩ := gd_t hf
        refine ms_29 S hC hD hK hP hS (inR_vp g5) rfl dX3_movesOn_107 (fun H locs hP hS => ?_)
        refine lv_iinc (v := (x5 + 1)) (lv' := [(5, .int (x5 + 1)), (0, .ref o), (1, .int x1), (2, .int x2), (3, .int x3), (4, .int x4)]) hx hb dX3_movesOn_108 hl (k := 5) rfl rfl (by decide) rfl (fun ls hl => ?_)
        refine lv_goto (tgt := 74) hx hb dX3_movesOn_111 (by decide) ?_
        exact (ih k114 hk114) x1 x2 x3 x4 (x5 + 1) lm rw rh (upd lg x5.toNatClampNeg (rw x5.toNatClampNeg)) (upd lh x5.toNatClampNeg (rh x5.toNatClampNeg)) ls H locs hP hS (lv_sub (l' := [(0, .ref o), (1, .int x1), (2, .int x2), (3, .int x3), (4, .int x4), (5, .int (x5 + 1))]) hl [1, 2, 3, 4, 5, 0] rfl) hf
  have w114 : ∀ (k3 : Int32 → Int32 → Int32 → Int32 → Int32 → (Nat → Int32) → (Nat → Int32) → (Nat → Int32) → (Nat → Int32) → Option (Int32 × (Nat → Int32) × (Nat → Int32) × (Nat → Int32) × (Nat → Int32))), (∀ (b0 : Int32) (b1 : Int32) (b2 : Int32) (b3 : Int32) (b4 : Int32) (b5 : (Nat → Int32)) (b6 : (Nat → Int32)) (b7 : (Nat → Int32)) (b8 : (Nat → Int32)) (ls : Array Slot) (H : Heap) (locs : List Loc), va_P D cl (mW mi cI cJ cB o ad th tp st fk fp ac si fr tt kd nu fa pl fo wd ci gr b4 om nw rd aa kp ta nm rn gv gt b5 b6 b7 b8 ou) H → va_S (mA o ad) s.heap H locs → lv_has ls 6 [(0, .ref o), (1, .int b0), (2, .int b1), (3, .int b2), (4, .int b3)] → k3 b0 b1 b2 b3 b4 b5 b6 b7 b8 = some out → W p l e (rM 7 160) s m ([.ref o, .int a0, .int a1, .int a2] : List Value).toArray below meth c H locs 0 0 (MQ below (gQ D cl none True (mW mi cI cJ cB o ad th tp st fk fp ac si fr tt kd nu fa pl fo wd ci gr out.1 om nw rd aa kp ta nm rn gv gt out.2.1 out.2.2.1 out.2.2.2.1 out.2.2.2.2 ou) (mA o ad)) ([.ref o, .int a0, .int a1, .int a2] : List Value).toArray s 0 0 (mA o ad)) (F0 m 3 ls [])) → ∀ (x1 : Int32) (x2 : Int32) (x3 : Int32) (x4 : Int32) (lm : Int32) (rw : (Nat → Int32)) (rh : (Nat → Int32)) (lg : (Nat → Int32)) (lh : (Nat → Int32)) (ls : Array Slot) (H : Heap) (locs : List Loc), va_P D cl (mW mi cI cJ cB o ad th tp st fk fp ac si fr tt kd nu fa pl fo wd ci gr lm om nw rd aa kp ta nm rn gv gt rw rh lg lh ou) H → va_S (mA o ad) s.heap H locs → lv_has ls 6 [(0, .ref o), (1, .int x1), (2, .int x2), (3, .int x3), (4, .int x4)] → f_X3_movesOn_114 k3 (f_X3_movesOn 2 nw) nw x1 x2 x3 x4 lm rw rh lg lh = some out → W p l e (rM 7 160) s m ([.ref o, .int a0, .int a1, .int a2] : List Value).toArray below meth c H locs 0 0 (MQ below (gQ D cl none True (mW mi cI cJ cB o ad th tp st fk fp ac si fr tt kd nu fa pl fo wd ci gr out.1 om nw rd aa kp ta nm rn gv gt out.2.1 out.2.2.1 out.2.2.2.1 out.2.2.2.2 ou) (mA o ad)) ([.ref o, .int a0, .int a1, .int a2] : List Value).toArray s 0 0 (mA o ad)) (F0 m 114 ls []) := by
    intro k3 hk3 x1 x2 x3 x4 lm rw rh lg lh ls H locs hP hS hl hf
    rw [f_X3_movesOn_114] at hf
    refine lv_aload_n hx hb dX3_movesOn_114 rfl (lv_at hl 0 rfl) ?_
    refine lv_iload hx hb dX3_movesOn_115 (lv_at hl 4 rfl) ?_
    refine lv_iconst hx hb dX3_movesOn_117 kc_i4 ?_
    obtain ⟨v1, hv1, hf⟩ := ob_s hf
    refine mc_X3_X3_of S hC hK hP hv1 hl.1 ⟨Nat.le_of_ble_eq_true rfl, Nat.le_of_ble_eq_true rfl⟩ (Nat.le_of_ble_eq_true rfl) ⟨Nat.zero_le _, Nat.zero_le _⟩ dX3_movesOn_118 (fun _ => ?_)
    refine lv_iconst hx hb dX3_movesOn_121 kc_im1 ?_
    refine lv_icmp_eq (tgt := 145) hx hb dX3_movesOn_122 (by decide) (fun c2 => ?_) (fun c2 => ?_)
    · replace hf := it_t c2 hf
      refine lv_iinc (v := (x4 + 1)) (lv' := [(4, .int (x4 + 1)), (0, .ref o), (1, .int x1), (2, .int x2), (3, .int x3)]) hx hb dX3_movesOn_145 hl (k := 4) rfl rfl (by decide) rfl (fun ls hl => ?_)
      refine lv_goto (tgt := 3) hx hb dX3_movesOn_148 (by decide) ?_
      exact hk3 x1 x2 x3 (x4 + 1) lm rw rh lg lh ls H locs hP hS (lv_sub (l' := [(0, .ref o), (1, .int x1), (2, .int x2), (3, .int x3), (4, .int (x4 + 1))]) hl [1, 2, 3, 4, 0] rfl) hf
    · replace hf := it_f c2 hf
      refine lv_aload_n hx hb dX3_movesOn_125 rfl (lv_at hl 0 rfl) ?_
      refine lv_aload_n hx hb dX3_movesOn_126 rfl (lv_at hl 0 rfl) ?_
      refine lv_iload hx hb dX3_movesOn_127 (lv_at hl 4 rfl) ?_
      refine lv_iconst hx hb dX3_movesOn_129 kc_i4 ?_
      obtain ⟨v3, hv3, hf⟩ := ob_s hf
      refine mc_X3_X3_of S hC hK hP hv3 hl.1 ⟨Nat.le_of_ble_eq_true rfl, Nat.le_of_ble_eq_true rfl⟩ (Nat.le_of_ble_eq_true rfl) ⟨Nat.zero_le _, Nat.zero_le _⟩ dX3_movesOn_130 (fun _ => ?_)
      refine lv_iload_n hx hb dX3_movesOn_133 rfl (lv_at hl 2 rfl) ?_
      refine lv_iconst hx hb dX3_movesOn_134 kc_i1 ?_
      refine lv_iadd hx hb dX3_movesOn_135 ?_
      refine lv_iload_n hx hb dX3_movesOn_136 rfl (lv_at hl 3 rfl) ?_
      refine lv_iconst hx hb dX3_movesOn_137 kc_i1 ?_
      refine lv_iload hx hb dX3_movesOn_138 (lv_at hl 4 rfl) ?_
      refine lv_ishl hx hb dX3_movesOn_140 ?_
      refine lv_ior hx hb dX3_movesOn_141 ?_
      obtain ⟨v4, hv4, hf⟩ := ob_s hf
      refine mc_X3_X3_movesOn_2 S hC hD hK hP hS hv4 hl.1 ⟨Nat.le_of_ble_eq_true rfl, Nat.le_of_ble_eq_true rfl⟩ (Nat.le_of_ble_eq_true rfl) ⟨Nat.zero_le _, Nat.zero_le _⟩ dX3_movesOn_142 (fun H locs _ hP hS => ?_)
      refine lv_iinc (v := (x4 + 1)) (lv' := [(4, .int (x4 + 1)), (0, .ref o), (1, .int x1), (2, .int x2), (3, .int x3)]) hx hb dX3_movesOn_145 hl (k := 4) rfl rfl (by decide) rfl (fun ls hl => ?_)
      refine lv_goto (tgt := 3) hx hb dX3_movesOn_148 (by decide) ?_
      exact hk3 x1 x2 x3 (x4 + 1) v4.1 v4.2.1 v4.2.2.1 v4.2.2.2.1 v4.2.2.2.2 ls H locs hP hS (lv_sub (l' := [(0, .ref o), (1, .int x1), (2, .int x2), (3, .int x3), (4, .int (x4 + 1))]) hl [1, 2, 3, 4, 0] rfl) hf
  have w3 : ∀ (n : Nat) , ∀ (x1 : Int32) (x2 : Int32) (x3 : Int32) (x4 : Int32) (lm : Int32) (rw : (Nat → Int32)) (rh : (Nat → Int32)) (lg : (Nat → Int32)) (lh : (Nat → Int32)) (ls : Array Slot) (H : Heap) (locs : List Loc), va_P D cl (mW mi cI cJ cB o ad th tp st fk fp ac si fr tt kd nu fa pl fo wd ci gr lm om nw rd aa kp ta nm rn gv gt rw rh lg lh ou) H → va_S (mA o ad) s.heap H locs → lv_has ls 6 [(0, .ref o), (1, .int x1), (2, .int x2), (3, .int x3), (4, .int x4)] → f_X3_movesOn_3 n (f_X3_movesOn 2 nw) nw x1 x2 x3 x4 lm rw rh lg lh = some out → W p l e (rM 7 160) s m ([.ref o, .int a0, .int a1, .int a2] : List Value).toArray below meth c H locs 0 0 (MQ below (gQ D cl none True (mW mi cI cJ cB o ad th tp st fk fp ac si fr tt kd nu fa pl fo wd ci gr out.1 om nw rd aa kp ta nm rn gv gt out.2.1 out.2.2.1 out.2.2.2.1 out.2.2.2.2 ou) (mA o ad)) ([.ref o, .int a0, .int a1, .int a2] : List Value).toArray s 0 0 (mA o ad)) (F0 m 3 ls []) := by
    intro n
    induction n with
    | zero =>
      intro x1 x2 x3 x4 lm rw rh lg lh ls H locs hP hS hl hf
      exact absurd hf (by rw [f_X3_movesOn_3]; exact nofun)
    | succ n ih =>
      intro x1 x2 x3 x4 lm rw rh lg lh ls H locs hP hS hl hf
      rw [f_X3_movesOn_3] at hf
      refine lv_iload hx hb dX3_movesOn_3 (lv_at hl 4 rfl) ?_
      refine lv_aload_n hx hb dX3_movesOn_5 rfl (lv_at hl 0 rfl) ?_
      refine mg_1 S hC hK hP dX3_movesOn_6 ?_
      refine lv_sipush hx hb dX3_movesOn_9 kc_s231 ?_
      refine ma_1 S hC hK hP kv_231_390 kn_231 dX3_movesOn_12 ?_
      refine lv_icmp_ge (tgt := 151) hx hb dX3_movesOn_13 (by decide) (fun c1 => ?_) (fun c1 => ?_)
      · replace hf := it_t c1 hf
        have hE := Option.some.inj hf
        subst hE
        exact gt_wv S hr hlocks trivial hP hS dX3_movesOn_151
      · replace hf := it_f c1 hf
        refine lv_iload_n hx hb dX3_movesOn_16 rfl (lv_at hl 3 rfl) ?_
        refine lv_iload hx hb dX3_movesOn_17 (lv_at hl 4 rfl) ?_
        refine lv_ishr hx hb dX3_movesOn_19 ?_
        refine lv_iconst hx hb dX3_movesOn_20 kc_i1 ?_
        refine lv_iand hx hb dX3_movesOn_21 ?_
        refine lv_iconst hx hb dX3_movesOn_22 kc_i1 ?_
        refine lv_icmp_eq (tgt := 145) hx hb dX3_movesOn_23 (by decide) (fun c2 => ?_) (fun c2 => ?_)
        · replace hf := it_t c2 hf
          refine lv_iinc (v := (x4 + 1)) (lv' := [(4, .int (x4 + 1)), (0, .ref o), (1, .int x1), (2, .int x2), (3, .int x3)]) hx hb dX3_movesOn_145 hl (k := 4) rfl rfl (by decide) rfl (fun ls hl => ?_)
          refine lv_goto (tgt := 3) hx hb dX3_movesOn_148 (by decide) ?_
          exact (ih) x1 x2 x3 (x4 + 1) lm rw rh lg lh ls H locs hP hS (lv_sub (l' := [(0, .ref o), (1, .int x1), (2, .int x2), (3, .int x3), (4, .int (x4 + 1))]) hl [1, 2, 3, 4, 0] rfl) hf
        · replace hf := it_f c2 hf
          refine lv_aload_n hx hb dX3_movesOn_26 rfl (lv_at hl 0 rfl) ?_
          refine lv_iload hx hb dX3_movesOn_27 (lv_at hl 4 rfl) ?_
          refine lv_iload_n hx hb dX3_movesOn_29 rfl (lv_at hl 1 rfl) ?_
          obtain ⟨v3, hv3, hf⟩ := ob_s hf
          refine mc_X3_X3_couldHave S hC hK hP hv3 hl.1 ⟨Nat.le_of_ble_eq_true rfl, Nat.le_of_ble_eq_true rfl⟩ (Nat.le_of_ble_eq_true rfl) ⟨Nat.zero_le _, Nat.zero_le _⟩ dX3_movesOn_30 (fun hnv3 => ?_)
          refine lv_if_ne (tgt := 39) hx hb dX3_movesOn_33 (by decide) (fun c4 => ?_) (fun c4 => ?_)
          · replace hf := it_f c4 hf
            refine lv_aload_n hx hb dX3_movesOn_39 rfl (lv_at hl 0 rfl) ?_
            refine mg_26 S hC hK hP dX3_movesOn_40 ?_
            refine lv_iload_n hx hb dX3_movesOn_43 rfl (lv_at hl 2 rfl) ?_
            refine lv_iload hx hb dX3_movesOn_44 (lv_at hl 4 rfl) ?_
            obtain ⟨g5, hf⟩ := gd_t hf
            refine ms_26 S hC hD hK hP hS (inR_vp g5) rfl dX3_movesOn_46 (fun H locs hP hS => ?_)
            refine lv_aload_n hx hb dX3_movesOn_47 rfl (lv_at hl 0 rfl) ?_
            refine mg_27 S hC hK hP dX3_movesOn_48 ?_
            refine lv_iload_n hx hb dX3_movesOn_51 rfl (lv_at hl 2 rfl) ?_
            refine lv_iload_n hx hb dX3_movesOn_52 rfl (lv_at hl 1 rfl) ?_
            obtain ⟨g6, hf⟩ := gd_t hf
            refine ms_27 S hC hD hK hP hS (inR_vp g6) rfl dX3_movesOn_53 (fun H locs hP hS => ?_)
            refine lv_iload_n hx hb dX3_movesOn_54 rfl (lv_at hl 2 rfl) ?_
            refine lv_iconst hx hb dX3_movesOn_55 kc_i1 ?_
            refine lv_iadd hx hb dX3_movesOn_56 ?_
            refine lv_aload_n hx hb dX3_movesOn_57 rfl (lv_at hl 0 rfl) ?_
            refine mg_30 S hC hK hP dX3_movesOn_58 ?_
            refine lv_icmp_le (tgt := 114) hx hb dX3_movesOn_61 (by decide) (fun c7 => ?_) (fun c7 => ?_)
            · replace hf := it_t c7 hf
              exact (w114 (f_X3_movesOn_3 n (f_X3_movesOn 2 nw) nw) (ih)) x1 x2 x3 x4 lm (upd rw x2.toNatClampNeg x4) (upd rh x2.toNatClampNeg x1) lg lh ls H locs hP hS hl hf
            · replace hf := it_f c7 hf
              refine lv_aload_n hx hb dX3_movesOn_64 rfl (lv_at hl 0 rfl) ?_
              refine lv_iload_n hx hb dX3_movesOn_65 rfl (lv_at hl 2 rfl) ?_
              refine lv_iconst hx hb dX3_movesOn_66 kc_i1 ?_
              refine lv_iadd hx hb dX3_movesOn_67 ?_
              refine mp_30 S hC hD hK hP hS dX3_movesOn_68 (fun H locs hP hS => ?_)
              refine lv_iconst hx hb dX3_movesOn_71 kc_i0 ?_
              refine lv_istore (lv' := [(5, .int 0), (0, .ref o), (1, .int x1), (2, .int x2), (3, .int x3), (4, .int x4)]) hx hb dX3_movesOn_72 hl (by decide) rfl (fun ls hl => ?_)
              exact (w74 FU (f_X3_movesOn_114 (f_X3_movesOn_3 n (f_X3_movesOn 2 nw) nw) (f_X3_movesOn 2 nw) nw) (w114 (f_X3_movesOn_3 n (f_X3_movesOn 2 nw) nw) (ih))) x1 x2 x3 x4 0 (x2 + 1) (upd rw x2.toNatClampNeg x4) (upd rh x2.toNatClampNeg x1) lg lh ls H locs hP hS (lv_sub (l' := [(0, .ref o), (1, .int x1), (2, .int x2), (3, .int x3), (4, .int x4), (5, .int 0)]) hl [1, 2, 3, 4, 5, 0] rfl) hf
          · replace hf := it_t c4 hf
            refine lv_goto (tgt := 145) hx hb dX3_movesOn_36 (by decide) ?_
            refine lv_iinc (v := (x4 + 1)) (lv' := [(4, .int (x4 + 1)), (0, .ref o), (1, .int x1), (2, .int x2), (3, .int x3)]) hx hb dX3_movesOn_145 hl (k := 4) rfl rfl (by decide) rfl (fun ls hl => ?_)
            refine lv_goto (tgt := 3) hx hb dX3_movesOn_148 (by decide) ?_
            exact (ih) x1 x2 x3 (x4 + 1) lm rw rh lg lh ls H locs hP hS (lv_sub (l' := [(0, .ref o), (1, .int x1), (2, .int x2), (3, .int x3), (4, .int (x4 + 1))]) hl [1, 2, 3, 4, 0] rfl) hf
  suffices hg : ∀ (H : Heap) (locs : List Loc), va_P D cl (mW mi cI cJ cB o ad th tp st fk fp ac si fr tt kd nu fa pl fo wd ci gr lm om nw rd aa kp ta nm rn gv gt rw rh lg lh ou) H → va_S (mA o ad) s.heap H locs → W p l e (rM 7 160) s m ([.ref o, .int a0, .int a1, .int a2] : List Value).toArray below meth c H locs 0 0 (MQ below (gQ D cl none True (mW mi cI cJ cB o ad th tp st fk fp ac si fr tt kd nu fa pl fo wd ci gr out.1 om nw rd aa kp ta nm rn gv gt out.2.1 out.2.2.1 out.2.2.2.1 out.2.2.2.2 ou) (mA o ad)) ([.ref o, .int a0, .int a1, .int a2] : List Value).toArray s 0 0 (mA o ad)) (F0 m 0 ls []) from hg s.heap [] hP va_S.rf
  clear hP
  intro H locs hP hS
  have hf : f_X3_movesOn (2 + 1) nw lm rw rh lg lh a0 a1 a2 = some out := hf
  rw [f_X3_movesOn] at hf
  refine lv_iconst hx hb dX3_movesOn_0 kc_i0 ?_
  refine lv_istore (lv' := [(4, .int 0), (0, .ref o), (1, .int a0), (2, .int a1), (3, .int a2)]) hx hb dX3_movesOn_1 hl (by decide) rfl (fun ls hl => ?_)
  exact (w3 FU) a0 a1 a2 0 lm rw rh lg lh ls H locs hP hS (lv_sub (l' := [(0, .ref o), (1, .int a0), (2, .int a1), (3, .int a2), (4, .int 0)]) hl [1, 2, 3, 4, 0] rfl) hf
set_option maxRecDepth 100000 in
theorem mc_X3_X3_movesOn_3 {a0 : Int32} {a1 : Int32} {a2 : Int32} {out : Int32 × (Nat → Int32) × (Nat → Int32) × (Nat → Int32) × (Nat → Int32)} (S : CallFix p m c cc nL s args lw_all RX3) (hC : mC cl tys mi cI cJ cB) (hD : mD o ad) (hK : va_K D cl tys s) (hP : va_P D cl (mW mi cI cJ cB o ad th tp st fk fp ac si fr tt kd nu fa pl fo wd ci gr lm om nw rd aa kp ta nm rn gv gt rw rh lg lh ou) H) (hS : va_S (mA o ad) H0 H locs) (hf : f_X3_movesOn 3 nw lm rw rh lg lh a0 a1 a2 = some out) (hsz : ls.size = nL) (hR : 7 + 1 ≤ R.frames ∧ 8 + (6 + 11) + 160 ≤ R.locals) (hW : (rest.map fun v => v.category).sum ≤ 8) (hcs : cells ≤ R.cells ∧ slots ≤ R.slots) (hdg : decode cc pc = .ok (.invokevirtual 386, 3)) (kk : ∀ (H1 : Heap) (locs1 : List Loc), True → va_P D cl (mW mi cI cJ cB o ad th tp st fk fp ac si fr tt kd nu fa pl fo wd ci gr out.1 om nw rd aa kp ta nm rn gv gt out.2.1 out.2.2.1 out.2.2.2.1 out.2.2.2.2 ou) H1 → va_S (mA o ad) H0 H1 locs1 → W p l e R s m args below meth c H1 locs1 cells slots Q (F0 m (pc + 3) ls (rest))) : W p l e R s m args below meth c H locs cells slots Q (F0 m pc ls (.int a2 :: .int a1 :: .int a0 :: .ref o :: rest)) :=
  gc_Vv (As := [.int a0, .int a1, .int a2]) S (mm_X3_movesOn_3 hC hD hf) (cwV 3 S.2.2.2.2 (lw_V q2558 q2560 qs164 q189 q2561) rfl rfl rfl hd_X3_movesOn hR) (gPreV hK hP hC.1 (q0 := 0) rfl) rfl hsz rfl hW hdg hcs hS kk
set_option maxHeartbeats 4000000 in
set_option maxRecDepth 100000 in
theorem mm_X3_movesOn_4 {a0 : Int32} {a1 : Int32} {a2 : Int32} {out : Int32 × (Nat → Int32) × (Nat → Int32) × (Nat → Int32) × (Nat → Int32)} (hC : mC cl tys mi cI cJ cB) (hD : mD o ad) (hf : f_X3_movesOn 4 nw lm rw rh lg lh a0 a1 a2 = some out) : Met l yX3_movesOn (ws_ yX3_movesOn cX3_movesOn 6 none) (rM 8 185) (gPc D cl tys [.ref o, .int a0, .int a1, .int a2] (mW mi cI cJ cB o ad th tp st fk fp ac si fr tt kd nu fa pl fo wd ci gr lm om nw rd aa kp ta nm rn gv gt rw rh lg lh ou)) (gQ D cl none True (mW mi cI cJ cB o ad th tp st fk fp ac si fr tt kd nu fa pl fo wd ci gr out.1 om nw rd aa kp ta nm rn gv gt out.2.1 out.2.2.1 out.2.2.2.1 out.2.2.2.2 ou) (mA o ad)) 0 0 (mA o ad) := by
  refine gGo (by decide +kernel) (Nat.le_of_ble_eq_true rfl) (fun p e s m below meth c ls S hr hlocks hK hP hl => ?_)
  have S : CallFix p m c cX3_movesOn 6 s _ lw_all RX3 := S
  obtain ⟨hx, hb, hml, hown, hts⟩ := id S
  have hl : lv_has ls 6 [(0, .ref o), (1, .int a0), (2, .int a1), (3, .int a2)] := hl
  have w74 : ∀ (n : Nat) (k114 : Int32 → Int32 → Int32 → Int32 → Int32 → (Nat → Int32) → (Nat → Int32) → (Nat → Int32) → (Nat → Int32) → Option (Int32 × (Nat → Int32) × (Nat → Int32) × (Nat → Int32) × (Nat → Int32))), (∀ (b0 : Int32) (b1 : Int32) (b2 : Int32) (b3 : Int32) (b4 : Int32) (b5 : (Nat → Int32)) (b6 : (Nat → Int32)) (b7 : (Nat → Int32)) (b8 : (Nat → Int32)) (ls : Array Slot) (H : Heap) (locs : List Loc), va_P D cl (mW mi cI cJ cB o ad th tp st fk fp ac si fr tt kd nu fa pl fo wd ci gr b4 om nw rd aa kp ta nm rn gv gt b5 b6 b7 b8 ou) H → va_S (mA o ad) s.heap H locs → lv_has ls 6 [(0, .ref o), (1, .int b0), (2, .int b1), (3, .int b2), (4, .int b3)] → k114 b0 b1 b2 b3 b4 b5 b6 b7 b8 = some out → W p l e (rM 8 185) s m ([.ref o, .int a0, .int a1, .int a2] : List Value).toArray below meth c H locs 0 0 (MQ below (gQ D cl none True (mW mi cI cJ cB o ad th tp st fk fp ac si fr tt kd nu fa pl fo wd ci gr out.1 om nw rd aa kp ta nm rn gv gt out.2.1 out.2.2.1 out.2.2.2.1 out.2.2.2.2 ou) (mA o ad)) ([.ref o, .int a0, .int a1, .int a2] : List Value).toArray s 0 0 (mA o ad)) (F0 m 114 ls [])) → ∀ (x1 : Int32) (x2 : Int32) (x3 : Int32) (x4 : Int32) (x5 : Int32) (lm : Int32) (rw : (Nat → Int32)) (rh : (Nat → Int32)) (lg : (Nat → Int32)) (lh : (Nat → Int32)) (ls : Array Slot) (H : Heap) (locs : List Loc), va_P D cl (mW mi cI cJ cB o ad th tp st fk fp ac si fr tt kd nu fa pl fo wd ci gr lm om nw rd aa kp ta nm rn gv gt rw rh lg lh ou) H → va_S (mA o ad) s.heap H locs → lv_has ls 6 [(0, .ref o), (1, .int x1), (2, .int x2), (3, .int x3), (4, .int x4), (5, .int x5)] → f_X3_movesOn_74 n k114 (f_X3_movesOn 3 nw) nw x1 x2 x3 x4 x5 lm rw rh lg lh = some out → W p l e (rM 8 185) s m ([.ref o, .int a0, .int a1, .int a2] : List Value).toArray below meth c H locs 0 0 (MQ below (gQ D cl none True (mW mi cI cJ cB o ad th tp st fk fp ac si fr tt kd nu fa pl fo wd ci gr out.1 om nw rd aa kp ta nm rn gv gt out.2.1 out.2.2.1 out.2.2.2.1 out.2.2.2.2 ou) (mA o ad)) ([.ref o, .int a0, .int a1, .int a2] : List Value).toArray s 0 0 (mA o ad)) (F0 m 74 ls []) := by
    intro n
    induction n with
    | zero =>
      intro k114 hk114 x1 x2 x3 x4 x5 lm rw rh lg lh ls H locs hP hS hl hf
      exact absurd hf (by rw [f_X3_movesOn_74]; exact nofun)
    | succ n ih =>
      intro k114 hk114 x1 x2 x3 x4 x5 lm rw rh lg lh ls H locs hP hS hl hf
      rw [f_X3_movesOn_74] at hf
      refine lv_iload hx hb dX3_movesOn_74 (lv_at hl 5 rfl) ?_
      refine lv_iload_n hx hb dX3_movesOn_76 rfl (lv_at hl 2 rfl) ?_
      refine lv_icmp_gt (tgt := 114) hx hb dX3_movesOn_77 (by decide) (fun c1 => ?_) (fun c1 => ?_)
      · replace hf := it_t c1 hf
        exact hk114 x1 x2 x3 x4 lm rw rh lg lh ls H locs hP hS (lv_sub (l' := [(0, .ref o), (1, .int x1), (2, .int x2), (3, .int x3), (4, .int x4)]) hl [0, 1, 2, 3, 4] rfl) hf
      · replace hf := it_f c1 hf
        refine lv_aload_n hx hb dX3_movesOn_80 rfl (lv_at hl 0 rfl) ?_
        refine mg_28 S hC hK hP dX3_movesOn_81 ?_
        refine lv_iload hx hb dX3_movesOn_84 (lv_at hl 5 rfl) ?_
        refine lv_aload_n hx hb dX3_movesOn_86 rfl (lv_at hl 0 rfl) ?_
        refine mg_26 S hC hK hP dX3_movesOn_87 ?_
        refine lv_iload hx hb dX3_movesOn_90 (lv_at hl 5 rfl) ?_
        obtain ⟨g2, hf⟩ := gd_t hf
        refine ma_26 S hC hK hP (inR_vp g2) rfl dX3_movesOn_92 ?_
        obtain ⟨g3, hf⟩ := gd_t hf
        refine ms_28 S hC hD hK hP hS (inR_vp g3) rfl dX3_movesOn_93 (fun H locs hP hS => ?_)
        refine lv_aload_n hx hb dX3_movesOn_94 rfl (lv_at hl 0 rfl) ?_
        refine mg_29 S hC hK hP dX3_movesOn_95 ?_
        refine lv_iload hx hb dX3_movesOn_98 (lv_at hl 5 rfl) ?_
        refine lv_aload_n hx hb dX3_movesOn_100 rfl (lv_at hl 0 rfl) ?_
        refine mg_27 S hC hK hP dX3_movesOn_101 ?_
        refine lv_iload hx hb dX3_movesOn_104 (lv_at hl 5 rfl) ?_
        obtain ⟨g4, hf⟩ := gd_t hf
        refine ma_27 S hC hK hP (inR_vp g4) rfl dX3_movesOn_106 ?_
        obtain ⟨g5, hf⟩ := gd_t hf
        refine ms_29 S hC hD hK hP hS (inR_vp g5) rfl dX3_movesOn_107 (fun H locs hP hS => ?_)
        refine lv_iinc (v := (x5 + 1)) (lv' := [(5, .int (x5 + 1)), (0, .ref o), (1, .int x1), (2, .int x2), (3, .int x3), (4, .int x4)]) hx hb dX3_movesOn_108 hl (k := 5) rfl rfl (by decide) rfl (fun ls hl => ?_)
        refine lv_goto (tgt := 74) hx hb dX3_movesOn_111 (by decide) ?_
        exact (ih k114 hk114) x1 x2 x3 x4 (x5 + 1) lm rw rh (upd lg x5.toNatClampNeg (rw x5.toNatClampNeg)) (upd lh x5.toNatClampNeg (rh x5.toNatClampNeg)) ls H locs hP hS (lv_sub (l' := [(0, .ref o), (1, .int x1), (2, .int x2), (3, .int x3), (4, .int x4), (5, .int (x5 + 1))]) hl [1, 2, 3, 4, 5, 0] rfl) hf
  have w114 : ∀ (k3 : Int32 → Int32 → Int32 → Int32 → Int32 → (Nat → Int32) → (Nat → Int32) → (Nat → Int32) → (Nat → Int32) → Option (Int32 × (Nat → Int32) × (Nat → Int32) × (Nat → Int32) × (Nat → Int32))), (∀ (b0 : Int32) (b1 : Int32) (b2 : Int32) (b3 : Int32) (b4 : Int32) (b5 : (Nat → Int32)) (b6 : (Nat → Int32)) (b7 : (Nat → Int32)) (b8 : (Nat → Int32)) (ls : Array Slot) (H : Heap) (locs : List Loc), va_P D cl (mW mi cI cJ cB o ad th tp st fk fp ac si fr tt kd nu fa pl fo wd ci gr b4 om nw rd aa kp ta nm rn gv gt b5 b6 b7 b8 ou) H → va_S (mA o ad) s.heap H locs → lv_has ls 6 [(0, .ref o), (1, .int b0), (2, .int b1), (3, .int b2), (4, .int b3)] → k3 b0 b1 b2 b3 b4 b5 b6 b7 b8 = some out → W p l e (rM 8 185) s m ([.ref o, .int a0, .int a1, .int a2] : List Value).toArray below meth c H locs 0 0 (MQ below (gQ D cl none True (mW mi cI cJ cB o ad th tp st fk fp ac si fr tt kd nu fa pl fo wd ci gr out.1 om nw rd aa kp ta nm rn gv gt out.2.1 out.2.2.1 out.2.2.2.1 out.2.2.2.2 ou) (mA o ad)) ([.ref o, .int a0, .int a1, .int a2] : List Value).toArray s 0 0 (mA o ad)) (F0 m 3 ls [])) → ∀ (x1 : Int32) (x2 : Int32) (x3 : Int32) (x4 : Int32) (lm : Int32) (rw : (Nat → Int32)) (rh : (Nat → Int32)) (lg : (Nat → Int32)) (lh : (Nat → Int32)) (ls : Array Slot) (H : Heap) (locs : List Loc), va_P D cl (mW mi cI cJ cB o ad th tp st fk fp ac si fr tt kd nu fa pl fo wd ci gr lm om nw rd aa kp ta nm rn gv gt rw rh lg lh ou) H → va_S (mA o ad) s.heap H locs → lv_has ls 6 [(0, .ref o), (1, .int x1), (2, .int x2), (3, .int x3), (4, .int x4)] → f_X3_movesOn_114 k3 (f_X3_movesOn 3 nw) nw x1 x2 x3 x4 lm rw rh lg lh = some out → W p l e (rM 8 185) s m ([.ref o, .int a0, .int a1, .int a2] : List Value).toArray below meth c H locs 0 0 (MQ below (gQ D cl none True (mW mi cI cJ cB o ad th tp st fk fp ac si fr tt kd nu fa pl fo wd ci gr out.1 om nw rd aa kp ta nm rn gv gt out.2.1 out.2.2.1 out.2.2.2.1 out.2.2.2.2 ou) (mA o ad)) ([.ref o, .int a0, .int a1, .int a2] : List Value).toArray s 0 0 (mA o ad)) (F0 m 114 ls []) := by
    intro k3 hk3 x1 x2 x3 x4 lm rw rh lg lh ls H locs hP hS hl hf
    rw [f_X3_movesOn_114] at hf
    refine lv_aload_n hx hb dX3_movesOn_114 rfl (lv_at hl 0 rfl) ?_
    refine lv_iload hx hb dX3_movesOn_115 (lv_at hl 4 rfl) ?_
    refine lv_iconst hx hb dX3_movesOn_117 kc_i4 ?_
    obtain ⟨v1, hv1, hf⟩ := ob_s hf
    refine mc_X3_X3_of S hC hK hP hv1 hl.1 ⟨Nat.le_of_ble_eq_true rfl, Nat.le_of_ble_eq_true rfl⟩ (Nat.le_of_ble_eq_true rfl) ⟨Nat.zero_le _, Nat.zero_le _⟩ dX3_movesOn_118 (fun _ => ?_)
    refine lv_iconst hx hb dX3_movesOn_121 kc_im1 ?_
    refine lv_icmp_eq (tgt := 145) hx hb dX3_movesOn_122 (by decide) (fun c2 => ?_) (fun c2 => ?_)
    · replace hf := it_t c2 hf
      refine lv_iinc (v := (x4 + 1)) (lv' := [(4, .int (x4 + 1)), (0, .ref o), (1, .int x1), (2, .int x2), (3, .int x3)]) hx hb dX3_movesOn_145 hl (k := 4) rfl rfl (by decide) rfl (fun ls hl => ?_)
      refine lv_goto (tgt := 3) hx hb dX3_movesOn_148 (by decide) ?_
      exact hk3 x1 x2 x3 (x4 + 1) lm rw rh lg lh ls H locs hP hS (lv_sub (l' := [(0, .ref o), (1, .int x1), (2, .int x2), (3, .int x3), (4, .int (x4 + 1))]) hl [1, 2, 3, 4, 0] rfl) hf
    · replace hf := it_f c2 hf
      refine lv_aload_n hx hb dX3_movesOn_125 rfl (lv_at hl 0 rfl) ?_
      refine lv_aload_n hx hb dX3_movesOn_126 rfl (lv_at hl 0 rfl) ?_
      refine lv_iload hx hb dX3_movesOn_127 (lv_at hl 4 rfl) ?_
      refine lv_iconst hx hb dX3_movesOn_129 kc_i4 ?_
      obtain ⟨v3, hv3, hf⟩ := ob_s hf
      refine mc_X3_X3_of S hC hK hP hv3 hl.1 ⟨Nat.le_of_ble_eq_true rfl, Nat.le_of_ble_eq_true rfl⟩ (Nat.le_of_ble_eq_true rfl) ⟨Nat.zero_le _, Nat.zero_le _⟩ dX3_movesOn_130 (fun _ => ?_)
      refine lv_iload_n hx hb dX3_movesOn_133 rfl (lv_at hl 2 rfl) ?_
      refine lv_iconst hx hb dX3_movesOn_134 kc_i1 ?_
      refine lv_iadd hx hb dX3_movesOn_135 ?_
      refine lv_iload_n hx hb dX3_movesOn_136 rfl (lv_at hl 3 rfl) ?_
      refine lv_iconst hx hb dX3_movesOn_137 kc_i1 ?_
      refine lv_iload hx hb dX3_movesOn_138 (lv_at hl 4 rfl) ?_
      refine lv_ishl hx hb dX3_movesOn_140 ?_
      refine lv_ior hx hb dX3_movesOn_141 ?_
      obtain ⟨v4, hv4, hf⟩ := ob_s hf
      refine mc_X3_X3_movesOn_3 S hC hD hK hP hS hv4 hl.1 ⟨Nat.le_of_ble_eq_true rfl, Nat.le_of_ble_eq_true rfl⟩ (Nat.le_of_ble_eq_true rfl) ⟨Nat.zero_le _, Nat.zero_le _⟩ dX3_movesOn_142 (fun H locs _ hP hS => ?_)
      refine lv_iinc (v := (x4 + 1)) (lv' := [(4, .int (x4 + 1)), (0, .ref o), (1, .int x1), (2, .int x2), (3, .int x3)]) hx hb dX3_movesOn_145 hl (k := 4) rfl rfl (by decide) rfl (fun ls hl => ?_)
      refine lv_goto (tgt := 3) hx hb dX3_movesOn_148 (by decide) ?_
      exact hk3 x1 x2 x3 (x4 + 1) v4.1 v4.2.1 v4.2.2.1 v4.2.2.2.1 v4.2.2.2.2 ls H locs hP hS (lv_sub (l' := [(0, .ref o), (1, .int x1), (2, .int x2), (3, .int x3), (4, .int (x4 + 1))]) hl [1, 2, 3, 4, 0] rfl) hf
  have w3 : ∀ (n : Nat) , ∀ (x1 : Int32) (x2 : Int32) (x3 : Int32) (x4 : Int32) (lm : Int32) (rw : (Nat → Int32)) (rh : (Nat → Int32)) (lg : (Nat → Int32)) (lh : (Nat → Int32)) (ls : Array Slot) (H : Heap) (locs : List Loc), va_P D cl (mW mi cI cJ cB o ad th tp st fk fp ac si fr tt kd nu fa pl fo wd ci gr lm om nw rd aa kp ta nm rn gv gt rw rh lg lh ou) H → va_S (mA o ad) s.heap H locs → lv_has ls 6 [(0, .ref o), (1, .int x1), (2, .int x2), (3, .int x3), (4, .int x4)] → f_X3_movesOn_3 n (f_X3_movesOn 3 nw) nw x1 x2 x3 x4 lm rw rh lg lh = some out → W p l e (rM 8 185) s m ([.ref o, .int a0, .int a1, .int a2] : List Value).toArray below meth c H locs 0 0 (MQ below (gQ D cl none True (mW mi cI cJ cB o ad th tp st fk fp ac si fr tt kd nu fa pl fo wd ci gr out.1 om nw rd aa kp ta nm rn gv gt out.2.1 out.2.2.1 out.2.2.2.1 out.2.2.2.2 ou) (mA o ad)) ([.ref o, .int a0, .int a1, .int a2] : List Value).toArray s 0 0 (mA o ad)) (F0 m 3 ls []) := by
    intro n
    induction n with
    | zero =>
      intro x1 x2 x3 x4 lm rw rh lg lh ls H locs hP hS hl hf
      exact absurd hf (by rw [f_X3_movesOn_3]; exact nofun)
    | succ n ih =>
      intro x1 x2 x3 x4 lm rw rh lg lh ls H locs hP hS hl hf
      rw [f_X3_movesOn_3] at hf
      refine lv_iload hx hb dX3_movesOn_3 (lv_at hl 4 rfl) ?_
      refine lv_aload_n hx hb dX3_movesOn_5 rfl (lv_at hl 0 rfl) ?_
      refine mg_1 S hC hK hP dX3_movesOn_6 ?_
      refine lv_sipush hx hb dX3_movesOn_9 kc_s231 ?_
      refine ma_1 S hC hK hP kv_231_390 kn_231 dX3_movesOn_12 ?_
      refine lv_icmp_ge (tgt := 151) hx hb dX3_movesOn_13 (by decide) (fun c1 => ?_) (fun c1 => ?_)
      · replace hf := it_t c1 hf
        have hE := Option.some.inj hf
        subst hE
        exact gt_wv S hr hlocks trivial hP hS dX3_movesOn_151
      · replace hf := it_f c1 hf
        refine lv_iload_n hx hb dX3_movesOn_16 rfl (lv_at hl 3 rfl) ?_
        refine lv_iload hx hb dX3_movesOn_17 (lv_at hl 4 rfl) ?_
        refine lv_ishr hx hb dX3_movesOn_19 ?_
        refine lv_iconst hx hb dX3_movesOn_20 kc_i1 ?_
        refine lv_iand hx hb dX3_movesOn_21 ?_
        refine lv_iconst hx hb dX3_movesOn_22 kc_i1 ?_
        refine lv_icmp_eq (tgt := 145) hx hb dX3_movesOn_23 (by decide) (fun c2 => ?_) (fun c2 => ?_)
        · replace hf := it_t c2 hf
          refine lv_iinc (v := (x4 + 1)) (lv' := [(4, .int (x4 + 1)), (0, .ref o), (1, .int x1), (2, .int x2), (3, .int x3)]) hx hb dX3_movesOn_145 hl (k := 4) rfl rfl (by decide) rfl (fun ls hl => ?_)
          refine lv_goto (tgt := 3) hx hb dX3_movesOn_148 (by decide) ?_
          exact (ih) x1 x2 x3 (x4 + 1) lm rw rh lg lh ls H locs hP hS (lv_sub (l' := [(0, .ref o), (1, .int x1), (2, .int x2), (3, .int x3), (4, .int (x4 + 1))]) hl [1, 2, 3, 4, 0] rfl) hf
        · replace hf := it_f c2 hf
          refine lv_aload_n hx hb dX3_movesOn_26 rfl (lv_at hl 0 rfl) ?_
          refine lv_iload hx hb dX3_movesOn_27 (lv_at hl 4 rfl) ?_
          refine lv_iload_n hx hb dX3_movesOn_29 rfl (lv_at hl 1 rfl) ?_
          obtain ⟨v3, hv3, hf⟩ := ob_s hf
          refine mc_X3_X3_couldHave S hC hK hP hv3 hl.1 ⟨Nat.le_of_ble_eq_true rfl, Nat.le_of_ble_eq_true rfl⟩ (Nat.le_of_ble_eq_true rfl) ⟨Nat.zero_le _, Nat.zero_le _⟩ dX3_movesOn_30 (fun hnv3 => ?_)
          refine lv_if_ne (tgt := 39) hx hb dX3_movesOn_33 (by decide) (fun c4 => ?_) (fun c4 => ?_)
          · replace hf := it_f c4 hf
            refine lv_aload_n hx hb dX3_movesOn_39 rfl (lv_at hl 0 rfl) ?_
            refine mg_26 S hC hK hP dX3_movesOn_40 ?_
            refine lv_iload_n hx hb dX3_movesOn_43 rfl (lv_at hl 2 rfl) ?_
            refine lv_iload hx hb dX3_movesOn_44 (lv_at hl 4 rfl) ?_
            obtain ⟨g5, hf⟩ := gd_t hf
            refine ms_26 S hC hD hK hP hS (inR_vp g5) rfl dX3_movesOn_46 (fun H locs hP hS => ?_)
            refine lv_aload_n hx hb dX3_movesOn_47 rfl (lv_at hl 0 rfl) ?_
            refine mg_27 S hC hK hP dX3_movesOn_48 ?_
            refine lv_iload_n hx hb dX3_movesOn_51 rfl (lv_at hl 2 rfl) ?_
            refine lv_iload_n hx hb dX3_movesOn_52 rfl (lv_at hl 1 rfl) ?_
            obtain ⟨g6, hf⟩ := gd_t hf
            refine ms_27 S hC hD hK hP hS (inR_vp g6) rfl dX3_movesOn_53 (fun H locs hP hS => ?_)
            refine lv_iload_n hx hb dX3_movesOn_54 rfl (lv_at hl 2 rfl) ?_
            refine lv_iconst hx hb dX3_movesOn_55 kc_i1 ?_
            refine lv_iadd hx hb dX3_movesOn_56 ?_
            refine lv_aload_n hx hb dX3_movesOn_57 rfl (lv_at hl 0 rfl) ?_
            refine mg_30 S hC hK hP dX3_movesOn_58 ?_
            refine lv_icmp_le (tgt := 114) hx hb dX3_movesOn_61 (by decide) (fun c7 => ?_) (fun c7 => ?_)
            · replace hf := it_t c7 hf
              exact (w114 (f_X3_movesOn_3 n (f_X3_movesOn 3 nw) nw) (ih)) x1 x2 x3 x4 lm (upd rw x2.toNatClampNeg x4) (upd rh x2.toNatClampNeg x1) lg lh ls H locs hP hS hl hf
            · replace hf := it_f c7 hf
              refine lv_aload_n hx hb dX3_movesOn_64 rfl (lv_at hl 0 rfl) ?_
              refine lv_iload_n hx hb dX3_movesOn_65 rfl (lv_at hl 2 rfl) ?_
              refine lv_iconst hx hb dX3_movesOn_66 kc_i1 ?_
              refine lv_iadd hx hb dX3_movesOn_67 ?_
              refine mp_30 S hC hD hK hP hS dX3_movesOn_68 (fun H locs hP hS => ?_)
              refine lv_iconst hx hb dX3_movesOn_71 kc_i0 ?_
              refine lv_istore (lv' := [(5, .int 0), (0, .ref o), (1, .int x1), (2, .int x2), (3, .int x3), (4, .int x4)]) hx hb dX3_movesOn_72 hl (by decide) rfl (fun ls hl => ?_)
              exact (w74 FU (f_X3_movesOn_114 (f_X3_movesOn_3 n (f_X3_movesOn 3 nw) nw) (f_X3_movesOn 3 nw) nw) (w114 (f_X3_movesOn_3 n (f_X3_movesOn 3 nw) nw) (ih))) x1 x2 x3 x4 0 (x2 + 1) (upd rw x2.toNatClampNeg x4) (upd rh x2.toNatClampNeg x1) lg lh ls H locs hP hS (lv_sub (l' := [(0, .ref o), (1, .int x1), (2, .int x2), (3, .int x3), (4, .int x4), (5, .int 0)]) hl [1, 2, 3, 4, 5, 0] rfl) hf
          · replace hf := it_t c4 hf
            refine lv_goto (tgt := 145) hx hb dX3_movesOn_36 (by decide) ?_
            refine lv_iinc (v := (x4 + 1)) (lv' := [(4, .int (x4 + 1)), (0, .ref o), (1, .int x1), (2, .int x2), (3, .int x3)]) hx hb dX3_movesOn_145 hl (k := 4) rfl rfl (by decide) rfl (fun ls hl => ?_)
            refine lv_goto (tgt := 3) hx hb dX3_movesOn_148 (by decide) ?_
            exact (ih) x1 x2 x3 (x4 + 1) lm rw rh lg lh ls H locs hP hS (lv_sub (l' := [(0, .ref o), (1, .int x1), (2, .int x2), (3, .int x3), (4, .int (x4 + 1))]) hl [1, 2, 3, 4, 0] rfl) hf
  suffices hg : ∀ (H : Heap) (locs : List Loc), va_P D cl (mW mi cI cJ cB o ad th tp st fk fp ac si fr tt kd nu fa pl fo wd ci gr lm om nw rd aa kp ta nm rn gv gt rw rh lg lh ou) H → va_S (mA o ad) s.heap H locs → W p l e (rM 8 185) s m ([.ref o, .int a0, .int a1, .int a2] : List Value).toArray below meth c H locs 0 0 (MQ below (gQ D cl none True (mW mi cI cJ cB o ad th tp st fk fp ac si fr tt kd nu fa pl fo wd ci gr out.1 om nw rd aa kp ta nm rn gv gt out.2.1 out.2.2.1 out.2.2.2.1 out.2.2.2.2 ou) (mA o ad)) ([.ref o, .int a0, .int a1, .int a2] : List Value).toArray s 0 0 (mA o ad)) (F0 m 0 ls []) from hg s.heap [] hP va_S.rf
  clear hP
  intro H locs hP hS
  have hf : f_X3_movesOn (3 + 1) nw lm rw rh lg lh a0 a1 a2 = some out := hf
  rw [f_X3_movesOn] at hf
  refine lv_iconst hx hb dX3_movesOn_0 kc_i0 ?_
  refine lv_istore (lv' := [(4, .int 0), (0, .ref o), (1, .int a0), (2, .int a1), (3, .int a2)]) hx hb dX3_movesOn_1 hl (by decide) rfl (fun ls hl => ?_)
  exact (w3 FU) a0 a1 a2 0 lm rw rh lg lh ls H locs hP hS (lv_sub (l' := [(0, .ref o), (1, .int a0), (2, .int a1), (3, .int a2), (4, .int 0)]) hl [1, 2, 3, 4, 0] rfl) hf
set_option maxRecDepth 100000 in
theorem mc_X3_X3_movesOn_4 {a0 : Int32} {a1 : Int32} {a2 : Int32} {out : Int32 × (Nat → Int32) × (Nat → Int32) × (Nat → Int32) × (Nat → Int32)} (S : CallFix p m c cc nL s args lw_all RX3) (hC : mC cl tys mi cI cJ cB) (hD : mD o ad) (hK : va_K D cl tys s) (hP : va_P D cl (mW mi cI cJ cB o ad th tp st fk fp ac si fr tt kd nu fa pl fo wd ci gr lm om nw rd aa kp ta nm rn gv gt rw rh lg lh ou) H) (hS : va_S (mA o ad) H0 H locs) (hf : f_X3_movesOn 4 nw lm rw rh lg lh a0 a1 a2 = some out) (hsz : ls.size = nL) (hR : 8 + 1 ≤ R.frames ∧ 8 + (6 + 11) + 185 ≤ R.locals) (hW : (rest.map fun v => v.category).sum ≤ 8) (hcs : cells ≤ R.cells ∧ slots ≤ R.slots) (hdg : decode cc pc = .ok (.invokevirtual 386, 3)) (kk : ∀ (H1 : Heap) (locs1 : List Loc), True → va_P D cl (mW mi cI cJ cB o ad th tp st fk fp ac si fr tt kd nu fa pl fo wd ci gr out.1 om nw rd aa kp ta nm rn gv gt out.2.1 out.2.2.1 out.2.2.2.1 out.2.2.2.2 ou) H1 → va_S (mA o ad) H0 H1 locs1 → W p l e R s m args below meth c H1 locs1 cells slots Q (F0 m (pc + 3) ls (rest))) : W p l e R s m args below meth c H locs cells slots Q (F0 m pc ls (.int a2 :: .int a1 :: .int a0 :: .ref o :: rest)) :=
  gc_Vv (As := [.int a0, .int a1, .int a2]) S (mm_X3_movesOn_4 hC hD hf) (cwV 3 S.2.2.2.2 (lw_V q2558 q2560 qs164 q189 q2561) rfl rfl rfl hd_X3_movesOn hR) (gPreV hK hP hC.1 (q0 := 0) rfl) rfl hsz rfl hW hdg hcs hS kk
set_option maxHeartbeats 4000000 in
set_option maxRecDepth 100000 in
theorem mm_X3_movesOn_5 {a0 : Int32} {a1 : Int32} {a2 : Int32} {out : Int32 × (Nat → Int32) × (Nat → Int32) × (Nat → Int32) × (Nat → Int32)} (hC : mC cl tys mi cI cJ cB) (hD : mD o ad) (hf : f_X3_movesOn 5 nw lm rw rh lg lh a0 a1 a2 = some out) : Met l yX3_movesOn (ws_ yX3_movesOn cX3_movesOn 6 none) (rM 9 210) (gPc D cl tys [.ref o, .int a0, .int a1, .int a2] (mW mi cI cJ cB o ad th tp st fk fp ac si fr tt kd nu fa pl fo wd ci gr lm om nw rd aa kp ta nm rn gv gt rw rh lg lh ou)) (gQ D cl none True (mW mi cI cJ cB o ad th tp st fk fp ac si fr tt kd nu fa pl fo wd ci gr out.1 om nw rd aa kp ta nm rn gv gt out.2.1 out.2.2.1 out.2.2.2.1 out.2.2.2.2 ou) (mA o ad)) 0 0 (mA o ad) := by
  refine gGo (by decide +kernel) (Nat.le_of_ble_eq_true rfl) (fun p e s m below meth c ls S hr hlocks hK hP hl => ?_)
  have S : CallFix p m c cX3_movesOn 6 s _ lw_all RX3 := S
  obtain ⟨hx, hb, hml, hown, hts⟩ := id S
  have hl : lv_has ls 6 [(0, .ref o), (1, .int a0), (2, .int a1), (3, .int a2)] := hl
  have w74 : ∀ (n : Nat) (k114 : Int32 → Int32 → Int32 → Int32 → Int32 → (Nat → Int32) → (Nat → Int32) → (Nat → Int32) → (Nat → Int32) → Option (Int32 × (Nat → Int32) × (Nat → Int32) × (Nat → Int32) × (Nat → Int32))), (∀ (b0 : Int32) (b1 : Int32) (b2 : Int32) (b3 : Int32) (b4 : Int32) (b5 : (Nat → Int32)) (b6 : (Nat → Int32)) (b7 : (Nat → Int32)) (b8 : (Nat → Int32)) (ls : Array Slot) (H : Heap) (locs : List Loc), va_P D cl (mW mi cI cJ cB o ad th tp st fk fp ac si fr tt kd nu fa pl fo wd ci gr b4 om nw rd aa kp ta nm rn gv gt b5 b6 b7 b8 ou) H → va_S (mA o ad) s.heap H locs → lv_has ls 6 [(0, .ref o), (1, .int b0), (2, .int b1), (3, .int b2), (4, .int b3)] → k114 b0 b1 b2 b3 b4 b5 b6 b7 b8 = some out → W p l e (rM 9 210) s m ([.ref o, .int a0, .int a1, .int a2] : List Value).toArray below meth c H locs 0 0 (MQ below (gQ D cl none True (mW mi cI cJ cB o ad th tp st fk fp ac si fr tt kd nu fa pl fo wd ci gr out.1 om nw rd aa kp ta nm rn gv gt out.2.1 out.2.2.1 out.2.2.2.1 out.2.2.2.2 ou) (mA o ad)) ([.ref o, .int a0, .int a1, .int a2] : List Value).toArray s 0 0 (mA o ad)) (F0 m 114 ls [])) → ∀ (x1 : Int32) (x2 : Int32) (x3 : Int32) (x4 : Int32) (x5 : Int32) (lm : Int32) (rw : (Nat → Int32)) (rh : (Nat → Int32)) (lg : (Nat → Int32)) (lh : (Nat → Int32)) (ls : Array Slot) (H : Heap) (locs : List Loc), va_P D cl (mW mi cI cJ cB o ad th tp st fk fp ac si fr tt kd nu fa pl fo wd ci gr lm om nw rd aa kp ta nm rn gv gt rw rh lg lh ou) H → va_S (mA o ad) s.heap H locs → lv_has ls 6 [(0, .ref o), (1, .int x1), (2, .int x2), (3, .int x3), (4, .int x4), (5, .int x5)] → f_X3_movesOn_74 n k114 (f_X3_movesOn 4 nw) nw x1 x2 x3 x4 x5 lm rw rh lg lh = some out → W p l e (rM 9 210) s m ([.ref o, .int a0, .int a1, .int a2] : List Value).toArray below meth c H locs 0 0 (MQ below (gQ D cl none True (mW mi cI cJ cB o ad th tp st fk fp ac si fr tt kd nu fa pl fo wd ci gr out.1 om nw rd aa kp ta nm rn gv gt out.2.1 out.2.2.1 out.2.2.2.1 out.2.2.2.2 ou) (mA o ad)) ([.ref o, .int a0, .int a1, .int a2] : List Value).toArray s 0 0 (mA o ad)) (F0 m 74 ls []) := by
    intro n
    induction n with
    | zero =>
      intro k114 hk114 x1 x2 x3 x4 x5 lm rw rh lg lh ls H locs hP hS hl hf
      exact absurd hf (by rw [f_X3_movesOn_74]; exact nofun)
    | succ n ih =>
      intro k114 hk114 x1 x2 x3 x4 x5 lm rw rh lg lh ls H locs hP hS hl hf
      rw [f_X3_movesOn_74] at hf
      refine lv_iload hx hb dX3_movesOn_74 (lv_at hl 5 rfl) ?_
      refine lv_iload_n hx hb dX3_movesOn_76 rfl (lv_at hl 2 rfl) ?_
      refine lv_icmp_gt (tgt := 114) hx hb dX3_movesOn_77 (by decide) (fun c1 => ?_) (fun c1 => ?_)
      · replace hf := it_t c1 hf
        exact hk114 x1 x2 x3 x4 lm rw rh lg lh ls H locs hP hS (lv_sub (l' := [(0, .ref o), (1, .int x1), (2, .int x2), (3, .int x3), (4, .int x4)]) hl [0, 1, 2, 3, 4] rfl) hf
      · replace hf := it_f c1 hf
        refine lv_aload_n hx hb dX3_movesOn_80 rfl (lv_at hl 0 rfl) ?_
        refine mg_28 S hC hK hP dX3_movesOn_81 ?_
        refine lv_iload hx hb dX3_movesOn_84 (lv_at hl 5 rfl) ?_
        refine lv_aload_n hx hb dX3_movesOn_86 rfl (lv_at hl 0 rfl) ?_
        refine mg_26 S hC hK hP dX3_movesOn_87 ?_
        refine lv_iload hx hb dX3_movesOn_90 (lv_at hl 5 rfl) ?_
        obtain ⟨g2, hf⟩ := gd_t hf
        refine ma_26 S hC hK hP (inR_vp g2) rfl dX3_movesOn_92 ?_
        obtain ⟨g3, hf⟩ := gd_t hf
        refine ms_28 S hC hD hK hP hS (inR_vp g3) rfl dX3_movesOn_93 (fun H locs hP hS => ?_)
        refine lv_aload_n hx hb dX3_movesOn_94 rfl (lv_at hl 0 rfl) ?_
        refine mg_29 S hC hK hP dX3_movesOn_95 ?_
        refine lv_iload hx hb dX3_movesOn_98 (lv_at hl 5 rfl) ?_
        refine lv_aload_n hx hb dX3_movesOn_100 rfl (lv_at hl 0 rfl) ?_
        refine mg_27 S hC hK hP dX3_movesOn_101 ?_
        refine lv_iload hx hb dX3_movesOn_104 (lv_at hl 5 rfl) ?_
        obtain ⟨g4, hf⟩ := gd_t hf
        refine ma_27 S hC hK hP (inR_vp g4) rfl dX3_movesOn_106 ?_
        obtain ⟨g5, hf⟩ := gd_t hf
        refine ms_29 S hC hD hK hP hS (inR_vp g5) rfl dX3_movesOn_107 (fun H locs hP hS => ?_)
        refine lv_iinc (v := (x5 + 1)) (lv' := [(5, .int (x5 + 1)), (0, .ref o), (1, .int x1), (2, .int x2), (3, .int x3), (4, .int x4)]) hx hb dX3_movesOn_108 hl (k := 5) rfl rfl (by decide) rfl (fun ls hl => ?_)
        refine lv_goto (tgt := 74) hx hb dX3_movesOn_111 (by decide) ?_
        exact (ih k114 hk114) x1 x2 x3 x4 (x5 + 1) lm rw rh (upd lg x5.toNatClampNeg (rw x5.toNatClampNeg)) (upd lh x5.toNatClampNeg (rh x5.toNatClampNeg)) ls H locs hP hS (lv_sub (l' := [(0, .ref o), (1, .int x1), (2, .int x2), (3, .int x3), (4, .int x4), (5, .int (x5 + 1))]) hl [1, 2, 3, 4, 5, 0] rfl) hf
  have w114 : ∀ (k3 : Int32 → Int32 → Int32 → Int32 → Int32 → (Nat → Int32) → (Nat → Int32) → (Nat → Int32) → (Nat → Int32) → Option (Int32 × (Nat → Int32) × (Nat → Int32) × (Nat → Int32) × (Nat → Int32))), (∀ (b0 : Int32) (b1 : Int32) (b2 : Int32) (b3 : Int32) (b4 : Int32) (b5 : (Nat → Int32)) (b6 : (Nat → Int32)) (b7 : (Nat → Int32)) (b8 : (Nat → Int32)) (ls : Array Slot) (H : Heap) (locs : List Loc), va_P D cl (mW mi cI cJ cB o ad th tp st fk fp ac si fr tt kd nu fa pl fo wd ci gr b4 om nw rd aa kp ta nm rn gv gt b5 b6 b7 b8 ou) H → va_S (mA o ad) s.heap H locs → lv_has ls 6 [(0, .ref o), (1, .int b0), (2, .int b1), (3, .int b2), (4, .int b3)] → k3 b0 b1 b2 b3 b4 b5 b6 b7 b8 = some out → W p l e (rM 9 210) s m ([.ref o, .int a0, .int a1, .int a2] : List Value).toArray below meth c H locs 0 0 (MQ below (gQ D cl none True (mW mi cI cJ cB o ad th tp st fk fp ac si fr tt kd nu fa pl fo wd ci gr out.1 om nw rd aa kp ta nm rn gv gt out.2.1 out.2.2.1 out.2.2.2.1 out.2.2.2.2 ou) (mA o ad)) ([.ref o, .int a0, .int a1, .int a2] : List Value).toArray s 0 0 (mA o ad)) (F0 m 3 ls [])) → ∀ (x1 : Int32) (x2 : Int32) (x3 : Int32) (x4 : Int32) (lm : Int32) (rw : (Nat → Int32)) (rh : (Nat → Int32)) (lg : (Nat → Int32)) (lh : (Nat → Int32)) (ls : Array Slot) (H : Heap) (locs : List Loc), va_P D cl (mW mi cI cJ cB o ad th tp st fk fp ac si fr tt kd nu fa pl fo wd ci gr lm om nw rd aa kp ta nm rn gv gt rw rh lg lh ou) H → va_S (mA o ad) s.heap H locs → lv_has ls 6 [(0, .ref o), (1, .int x1), (2, .int x2), (3, .int x3), (4, .int x4)] → f_X3_movesOn_114 k3 (f_X3_movesOn 4 nw) nw x1 x2 x3 x4 lm rw rh lg lh = some out → W p l e (rM 9 210) s m ([.ref o, .int a0, .int a1, .int a2] : List Value).toArray below meth c H locs 0 0 (MQ below (gQ D cl none True (mW mi cI cJ cB o ad th tp st fk fp ac si fr tt kd nu fa pl fo wd ci gr out.1 om nw rd aa kp ta nm rn gv gt out.2.1 out.2.2.1 out.2.2.2.1 out.2.2.2.2 ou) (mA o ad)) ([.ref o, .int a0, .int a1, .int a2] : List Value).toArray s 0 0 (mA o ad)) (F0 m 114 ls []) := by
    intro k3 hk3 x1 x2 x3 x4 lm rw rh lg lh ls H locs hP hS hl hf
    rw [f_X3_movesOn_114] at hf
    refine lv_aload_n hx hb dX3_movesOn_114 rfl (lv_at hl 0 rfl) ?_
    refine lv_iload hx hb dX3_movesOn_115 (lv_at hl 4 rfl) ?_
    refine lv_iconst hx hb dX3_movesOn_117 kc_i4 ?_
    obtain ⟨v1, hv1, hf⟩ := ob_s hf
    refine mc_X3_X3_of S hC hK hP hv1 hl.1 ⟨Nat.le_of_ble_eq_true rfl, Nat.le_of_ble_eq_true rfl⟩ (Nat.le_of_ble_eq_true rfl) ⟨Nat.zero_le _, Nat.zero_le _⟩ dX3_movesOn_118 (fun _ => ?_)
    refine lv_iconst hx hb dX3_movesOn_121 kc_im1 ?_
    refine lv_icmp_eq (tgt := 145) hx hb dX3_movesOn_122 (by decide) (fun c2 => ?_) (fun c2 => ?_)
    · replace hf := it_t c2 hf
      refine lv_iinc (v := (x4 + 1)) (lv' := [(4, .int (x4 + 1)), (0, .ref o), (1, .int x1), (2, .int x2), (3, .int x3)]) hx hb dX3_movesOn_145 hl (k := 4) rfl rfl (by decide) rfl (fun ls hl => ?_)
      refine lv_goto (tgt := 3) hx hb dX3_movesOn_148 (by decide) ?_
      exact hk3 x1 x2 x3 (x4 + 1) lm rw rh lg lh ls H locs hP hS (lv_sub (l' := [(0, .ref o), (1, .int x1), (2, .int x2), (3, .int x3), (4, .int (x4 + 1))]) hl [1, 2, 3, 4, 0] rfl) hf
    · replace hf := it_f c2 hf
      refine lv_aload_n hx hb dX3_movesOn_125 rfl (lv_at hl 0 rfl) ?_
      refine lv_aload_n hx hb dX3_movesOn_126 rfl (lv_at hl 0 rfl) ?_
      refine lv_iload hx hb dX3_movesOn_127 (lv_at hl 4 rfl) ?_
      refine lv_iconst hx hb dX3_movesOn_129 kc_i4 ?_
      obtain ⟨v3, hv3, hf⟩ := ob_s hf
      refine mc_X3_X3_of S hC hK hP hv3 hl.1 ⟨Nat.le_of_ble_eq_true rfl, Nat.le_of_ble_eq_true rfl⟩ (Nat.le_of_ble_eq_true rfl) ⟨Nat.zero_le _, Nat.zero_le _⟩ dX3_movesOn_130 (fun _ => ?_)
      refine lv_iload_n hx hb dX3_movesOn_133 rfl (lv_at hl 2 rfl) ?_
      refine lv_iconst hx hb dX3_movesOn_134 kc_i1 ?_
      refine lv_iadd hx hb dX3_movesOn_135 ?_
      refine lv_iload_n hx hb dX3_movesOn_136 rfl (lv_at hl 3 rfl) ?_
      refine lv_iconst hx hb dX3_movesOn_137 kc_i1 ?_
      refine lv_iload hx hb dX3_movesOn_138 (lv_at hl 4 rfl) ?_
      refine lv_ishl hx hb dX3_movesOn_140 ?_
      refine lv_ior hx hb dX3_movesOn_141 ?_
      obtain ⟨v4, hv4, hf⟩ := ob_s hf
      refine mc_X3_X3_movesOn_4 S hC hD hK hP hS hv4 hl.1 ⟨Nat.le_of_ble_eq_true rfl, Nat.le_of_ble_eq_true rfl⟩ (Nat.le_of_ble_eq_true rfl) ⟨Nat.zero_le _, Nat.zero_le _⟩ dX3_movesOn_142 (fun H locs _ hP hS => ?_)
      refine lv_iinc (v := (x4 + 1)) (lv' := [(4, .int (x4 + 1)), (0, .ref o), (1, .int x1), (2, .int x2), (3, .int x3)]) hx hb dX3_movesOn_145 hl (k := 4) rfl rfl (by decide) rfl (fun ls hl => ?_)
      refine lv_goto (tgt := 3) hx hb dX3_movesOn_148 (by decide) ?_
      exact hk3 x1 x2 x3 (x4 + 1) v4.1 v4.2.1 v4.2.2.1 v4.2.2.2.1 v4.2.2.2.2 ls H locs hP hS (lv_sub (l' := [(0, .ref o), (1, .int x1), (2, .int x2), (3, .int x3), (4, .int (x4 + 1))]) hl [1, 2, 3, 4, 0] rfl) hf
  have w3 : ∀ (n : Nat) , ∀ (x1 : Int32) (x2 : Int32) (x3 : Int32) (x4 : Int32) (lm : Int32) (rw : (Nat → Int32)) (rh : (Nat → Int32)) (lg : (Nat → Int32)) (lh : (Nat → Int32)) (ls : Array Slot) (H : Heap) (locs : List Loc), va_P D cl (mW mi cI cJ cB o ad th tp st fk fp ac si fr tt kd nu fa pl fo wd ci gr lm om nw rd aa kp ta nm rn gv gt rw rh lg lh ou) H → va_S (mA o ad) s.heap H locs → lv_has ls 6 [(0, .ref o), (1, .int x1), (2, .int x2), (3, .int x3), (4, .int x4)] → f_X3_movesOn_3 n (f_X3_movesOn 4 nw) nw x1 x2 x3 x4 lm rw rh lg lh = some out → W p l e (rM 9 210) s m ([.ref o, .int a0, .int a1, .int a2] : List Value).toArray below meth c H locs 0 0 (MQ below (gQ D cl none True (mW mi cI cJ cB o ad th tp st fk fp ac si fr tt kd nu fa pl fo wd ci gr out.1 om nw rd aa kp ta nm rn gv gt out.2.1 out.2.2.1 out.2.2.2.1 out.2.2.2.2 ou) (mA o ad)) ([.ref o, .int a0, .int a1, .int a2] : List Value).toArray s 0 0 (mA o ad)) (F0 m 3 ls []) := by
    intro n
    induction n with
    | zero =>
      intro x1 x2 x3 x4 lm rw rh lg lh ls H locs hP hS hl hf
      exact absurd hf (by rw [f_X3_movesOn_3]; exact nofun)
    | succ n ih =>
      intro x1 x2 x3 x4 lm rw rh lg lh ls H locs hP hS hl hf
      rw [f_X3_movesOn_3] at hf
      refine lv_iload hx hb dX3_movesOn_3 (lv_at hl 4 rfl) ?_
      refine lv_aload_n hx hb dX3_movesOn_5 rfl (lv_at hl 0 rfl) ?_
      refine mg_1 S hC hK hP dX3_movesOn_6 ?_
      refine lv_sipush hx hb dX3_movesOn_9 kc_s231 ?_
      refine ma_1 S hC hK hP kv_231_390 kn_231 dX3_movesOn_12 ?_
      refine lv_icmp_ge (tgt := 151) hx hb dX3_movesOn_13 (by decide) (fun c1 => ?_) (fun c1 => ?_)
      · replace hf := it_t c1 hf
        have hE := Option.some.inj hf
        subst hE
        exact gt_wv S hr hlocks trivial hP hS dX3_movesOn_151
      · replace hf := it_f c1 hf
        refine lv_iload_n hx hb dX3_movesOn_16 rfl (lv_at hl 3 rfl) ?_
        refine lv_iload hx hb dX3_movesOn_17 (lv_at hl 4 rfl) ?_
        refine lv_ishr hx hb dX3_movesOn_19 ?_
        refine lv_iconst hx hb dX3_movesOn_20 kc_i1 ?_
        refine lv_iand hx hb dX3_movesOn_21 ?_
        refine lv_iconst hx hb dX3_movesOn_22 kc_i1 ?_
        refine lv_icmp_eq (tgt := 145) hx hb dX3_movesOn_23 (by decide) (fun c2 => ?_) (fun c2 => ?_)
        · replace hf := it_t c2 hf
          refine lv_iinc (v := (x4 + 1)) (lv' := [(4, .int (x4 + 1)), (0, .ref o), (1, .int x1), (2, .int x2), (3, .int x3)]) hx hb dX3_movesOn_145 hl (k := 4) rfl rfl (by decide) rfl (fun ls hl => ?_)
          refine lv_goto (tgt := 3) hx hb dX3_movesOn_148 (by decide) ?_
          exact (ih) x1 x2 x3 (x4 + 1) lm rw rh lg lh ls H locs hP hS (lv_sub (l' := [(0, .ref o), (1, .int x1), (2, .int x2), (3, .int x3), (4, .int (x4 + 1))]) hl [1, 2, 3, 4, 0] rfl) hf
        · replace hf := it_f c2 hf
          refine lv_aload_n hx hb dX3_movesOn_26 rfl (lv_at hl 0 rfl) ?_
          refine lv_iload hx hb dX3_movesOn_27 (lv_at hl 4 rfl) ?_
          refine lv_iload_n hx hb dX3_movesOn_29 rfl (lv_at hl 1 rfl) ?_
          obtain ⟨v3, hv3, hf⟩ := ob_s hf
          refine mc_X3_X3_couldHave S hC hK hP hv3 hl.1 ⟨Nat.le_of_ble_eq_true rfl, Nat.le_of_ble_eq_true rfl⟩ (Nat.le_of_ble_eq_true rfl) ⟨Nat.zero_le _, Nat.zero_le _⟩ dX3_movesOn_30 (fun hnv3 => ?_)
          refine lv_if_ne (tgt := 39) hx hb dX3_movesOn_33 (by decide) (fun c4 => ?_) (fun c4 => ?_)
          · replace hf := it_f c4 hf
            refine lv_aload_n hx hb dX3_movesOn_39 rfl (lv_at hl 0 rfl) ?_
            refine mg_26 S hC hK hP dX3_movesOn_40 ?_
            refine lv_iload_n hx hb dX3_movesOn_43 rfl (lv_at hl 2 rfl) ?_
            refine lv_iload hx hb dX3_movesOn_44 (lv_at hl 4 rfl) ?_
            obtain ⟨g5, hf⟩ := gd_t hf
            refine ms_26 S hC hD hK hP hS (inR_vp g5) rfl dX3_movesOn_46 (fun H locs hP hS => ?_)
            refine lv_aload_n hx hb dX3_movesOn_47 rfl (lv_at hl 0 rfl) ?_
            refine mg_27 S hC hK hP dX3_movesOn_48 ?_
            refine lv_iload_n hx hb dX3_movesOn_51 rfl (lv_at hl 2 rfl) ?_
            refine lv_iload_n hx hb dX3_movesOn_52 rfl (lv_at hl 1 rfl) ?_
            obtain ⟨g6, hf⟩ := gd_t hf
            refine ms_27 S hC hD hK hP hS (inR_vp g6) rfl dX3_movesOn_53 (fun H locs hP hS => ?_)
            refine lv_iload_n hx hb dX3_movesOn_54 rfl (lv_at hl 2 rfl) ?_
            refine lv_iconst hx hb dX3_movesOn_55 kc_i1 ?_
            refine lv_iadd hx hb dX3_movesOn_56 ?_
            refine lv_aload_n hx hb dX3_movesOn_57 rfl (lv_at hl 0 rfl) ?_
            refine mg_30 S hC hK hP dX3_movesOn_58 ?_
            refine lv_icmp_le (tgt := 114) hx hb dX3_movesOn_61 (by decide) (fun c7 => ?_) (fun c7 => ?_)
            · replace hf := it_t c7 hf
              exact (w114 (f_X3_movesOn_3 n (f_X3_movesOn 4 nw) nw) (ih)) x1 x2 x3 x4 lm (upd rw x2.toNatClampNeg x4) (upd rh x2.toNatClampNeg x1) lg lh ls H locs hP hS hl hf
            · replace hf := it_f c7 hf
              refine lv_aload_n hx hb dX3_movesOn_64 rfl (lv_at hl 0 rfl) ?_
              refine lv_iload_n hx hb dX3_movesOn_65 rfl (lv_at hl 2 rfl) ?_
              refine lv_iconst hx hb dX3_movesOn_66 kc_i1 ?_
              refine lv_iadd hx hb dX3_movesOn_67 ?_
              refine mp_30 S hC hD hK hP hS dX3_movesOn_68 (fun H locs hP hS => ?_)
              refine lv_iconst hx hb dX3_movesOn_71 kc_i0 ?_
              refine lv_istore (lv' := [(5, .int 0), (0, .ref o), (1, .int x1), (2, .int x2), (3, .int x3), (4, .int x4)]) hx hb dX3_movesOn_72 hl (by decide) rfl (fun ls hl => ?_)
              exact (w74 FU (f_X3_movesOn_114 (f_X3_movesOn_3 n (f_X3_movesOn 4 nw) nw) (f_X3_movesOn 4 nw) nw) (w114 (f_X3_movesOn_3 n (f_X3_movesOn 4 nw) nw) (ih))) x1 x2 x3 x4 0 (x2 + 1) (upd rw x2.toNatClampNeg x4) (upd rh x2.toNatClampNeg x1) lg lh ls H locs hP hS (lv_sub (l' := [(0, .ref o), (1, .int x1), (2, .int x2), (3, .int x3), (4, .int x4), (5, .int 0)]) hl [1, 2, 3, 4, 5, 0] rfl) hf
          · replace hf := it_t c4 hf
            refine lv_goto (tgt := 145) hx hb dX3_movesOn_36 (by decide) ?_
            refine lv_iinc (v := (x4 + 1)) (lv' := [(4, .int (x4 + 1)), (0, .ref o), (1, .int x1), (2, .int x2), (3, .int x3)]) hx hb dX3_movesOn_145 hl (k := 4) rfl rfl (by decide) rfl (fun ls hl => ?_)
            refine lv_goto (tgt := 3) hx hb dX3_movesOn_148 (by decide) ?_
            exact (ih) x1 x2 x3 (x4 + 1) lm rw rh lg lh ls H locs hP hS (lv_sub (l' := [(0, .ref o), (1, .int x1), (2, .int x2), (3, .int x3), (4, .int (x4 + 1))]) hl [1, 2, 3, 4, 0] rfl) hf
  suffices hg : ∀ (H : Heap) (locs : List Loc), va_P D cl (mW mi cI cJ cB o ad th tp st fk fp ac si fr tt kd nu fa pl fo wd ci gr lm om nw rd aa kp ta nm rn gv gt rw rh lg lh ou) H → va_S (mA o ad) s.heap H locs → W p l e (rM 9 210) s m ([.ref o, .int a0, .int a1, .int a2] : List Value).toArray below meth c H locs 0 0 (MQ below (gQ D cl none True (mW mi cI cJ cB o ad th tp st fk fp ac si fr tt kd nu fa pl fo wd ci gr out.1 om nw rd aa kp ta nm rn gv gt out.2.1 out.2.2.1 out.2.2.2.1 out.2.2.2.2 ou) (mA o ad)) ([.ref o, .int a0, .int a1, .int a2] : List Value).toArray s 0 0 (mA o ad)) (F0 m 0 ls []) from hg s.heap [] hP va_S.rf
  clear hP
  intro H locs hP hS
  have hf : f_X3_movesOn (4 + 1) nw lm rw rh lg lh a0 a1 a2 = some out := hf
  rw [f_X3_movesOn] at hf
  refine lv_iconst hx hb dX3_movesOn_0 kc_i0 ?_
  refine lv_istore (lv' := [(4, .int 0), (0, .ref o), (1, .int a0), (2, .int a1), (3, .int a2)]) hx hb dX3_movesOn_1 hl (by decide) rfl (fun ls hl => ?_)
  exact (w3 FU) a0 a1 a2 0 lm rw rh lg lh ls H locs hP hS (lv_sub (l' := [(0, .ref o), (1, .int a0), (2, .int a1), (3, .int a2), (4, .int 0)]) hl [1, 2, 3, 4, 0] rfl) hf
set_option maxRecDepth 100000 in
theorem mc_X3_X3_movesOn_5 {a0 : Int32} {a1 : Int32} {a2 : Int32} {out : Int32 × (Nat → Int32) × (Nat → Int32) × (Nat → Int32) × (Nat → Int32)} (S : CallFix p m c cc nL s args lw_all RX3) (hC : mC cl tys mi cI cJ cB) (hD : mD o ad) (hK : va_K D cl tys s) (hP : va_P D cl (mW mi cI cJ cB o ad th tp st fk fp ac si fr tt kd nu fa pl fo wd ci gr lm om nw rd aa kp ta nm rn gv gt rw rh lg lh ou) H) (hS : va_S (mA o ad) H0 H locs) (hf : f_X3_movesOn 5 nw lm rw rh lg lh a0 a1 a2 = some out) (hsz : ls.size = nL) (hR : 9 + 1 ≤ R.frames ∧ 8 + (6 + 11) + 210 ≤ R.locals) (hW : (rest.map fun v => v.category).sum ≤ 8) (hcs : cells ≤ R.cells ∧ slots ≤ R.slots) (hdg : decode cc pc = .ok (.invokevirtual 386, 3)) (kk : ∀ (H1 : Heap) (locs1 : List Loc), True → va_P D cl (mW mi cI cJ cB o ad th tp st fk fp ac si fr tt kd nu fa pl fo wd ci gr out.1 om nw rd aa kp ta nm rn gv gt out.2.1 out.2.2.1 out.2.2.2.1 out.2.2.2.2 ou) H1 → va_S (mA o ad) H0 H1 locs1 → W p l e R s m args below meth c H1 locs1 cells slots Q (F0 m (pc + 3) ls (rest))) : W p l e R s m args below meth c H locs cells slots Q (F0 m pc ls (.int a2 :: .int a1 :: .int a0 :: .ref o :: rest)) :=
  gc_Vv (As := [.int a0, .int a1, .int a2]) S (mm_X3_movesOn_5 hC hD hf) (cwV 3 S.2.2.2.2 (lw_V q2558 q2560 qs164 q189 q2561) rfl rfl rfl hd_X3_movesOn hR) (gPreV hK hP hC.1 (q0 := 0) rfl) rfl hsz rfl hW hdg hcs hS kk
set_option maxHeartbeats 4000000 in
set_option maxRecDepth 100000 in
theorem mm_X3_movesOn_6 {a0 : Int32} {a1 : Int32} {a2 : Int32} {out : Int32 × (Nat → Int32) × (Nat → Int32) × (Nat → Int32) × (Nat → Int32)} (hC : mC cl tys mi cI cJ cB) (hD : mD o ad) (hf : f_X3_movesOn 6 nw lm rw rh lg lh a0 a1 a2 = some out) : Met l yX3_movesOn (ws_ yX3_movesOn cX3_movesOn 6 none) (rM 10 235) (gPc D cl tys [.ref o, .int a0, .int a1, .int a2] (mW mi cI cJ cB o ad th tp st fk fp ac si fr tt kd nu fa pl fo wd ci gr lm om nw rd aa kp ta nm rn gv gt rw rh lg lh ou)) (gQ D cl none True (mW mi cI cJ cB o ad th tp st fk fp ac si fr tt kd nu fa pl fo wd ci gr out.1 om nw rd aa kp ta nm rn gv gt out.2.1 out.2.2.1 out.2.2.2.1 out.2.2.2.2 ou) (mA o ad)) 0 0 (mA o ad) := by
  refine gGo (by decide +kernel) (Nat.le_of_ble_eq_true rfl) (fun p e s m below meth c ls S hr hlocks hK hP hl => ?_)
  have S : CallFix p m c cX3_movesOn 6 s _ lw_all RX3 := S
  obtain ⟨hx, hb, hml, hown, hts⟩ := id S
  have hl : lv_has ls 6 [(0, .ref o), (1, .int a0), (2, .int a1), (3, .int a2)] := hl
  have w74 : ∀ (n : Nat) (k114 : Int32 → Int32 → Int32 → Int32 → Int32 → (Nat → Int32) → (Nat → Int32) → (Nat → Int32) → (Nat → Int32) → Option (Int32 × (Nat → Int32) × (Nat → Int32) × (Nat → Int32) × (Nat → Int32))), (∀ (b0 : Int32) (b1 : Int32) (b2 : Int32) (b3 : Int32) (b4 : Int32) (b5 : (Nat → Int32)) (b6 : (Nat → Int32)) (b7 : (Nat → Int32)) (b8 : (Nat → Int32)) (ls : Array Slot) (H : Heap) (locs : List Loc), va_P D cl (mW mi cI cJ cB o ad th tp st fk fp ac si fr tt kd nu fa pl fo wd ci gr b4 om nw rd aa kp ta nm rn gv gt b5 b6 b7 b8 ou) H → va_S (mA o ad) s.heap H locs → lv_has ls 6 [(0, .ref o), (1, .int b0), (2, .int b1), (3, .int b2), (4, .int b3)] → k114 b0 b1 b2 b3 b4 b5 b6 b7 b8 = some out → W p l e (rM 10 235) s m ([.ref o, .int a0, .int a1, .int a2] : List Value).toArray below meth c H locs 0 0 (MQ below (gQ D cl none True (mW mi cI cJ cB o ad th tp st fk fp ac si fr tt kd nu fa pl fo wd ci gr out.1 om nw rd aa kp ta nm rn gv gt out.2.1 out.2.2.1 out.2.2.2.1 out.2.2.2.2 ou) (mA o ad)) ([.ref o, .int a0, .int a1, .int a2] : List Value).toArray s 0 0 (mA o ad)) (F0 m 114 ls [])) → ∀ (x1 : Int32) (x2 : Int32) (x3 : Int32) (x4 : Int32) (x5 : Int32) (lm : Int32) (rw : (Nat → Int32)) (rh : (Nat → Int32)) (lg : (Nat → Int32)) (lh : (Nat → Int32)) (ls : Array Slot) (H : Heap) (locs : List Loc), va_P D cl (mW mi cI cJ cB o ad th tp st fk fp ac si fr tt kd nu fa pl fo wd ci gr lm om nw rd aa kp ta nm rn gv gt rw rh lg lh ou) H → va_S (mA o ad) s.heap H locs → lv_has ls 6 [(0, .ref o), (1, .int x1), (2, .int x2), (3, .int x3), (4, .int x4), (5, .int x5)] → f_X3_movesOn_74 n k114 (f_X3_movesOn 5 nw) nw x1 x2 x3 x4 x5 lm rw rh lg lh = some out → W p l e (rM 10 235) s m ([.ref o, .int a0, .int a1, .int a2] : List Value).toArray below meth c H locs 0 0 (MQ below (gQ D cl none True (mW mi cI cJ cB o ad th tp st fk fp ac si fr tt kd nu fa pl fo wd ci gr out.1 om nw rd aa kp ta nm rn gv gt out.2.1 out.2.2.1 out.2.2.2.1 out.2.2.2.2 ou) (mA o ad)) ([.ref o, .int a0, .int a1, .int a2] : List Value).toArray s 0 0 (mA o ad)) (F0 m 74 ls []) := by
    intro n
    induction n with
    | zero =>
      intro k114 hk114 x1 x2 x3 x4 x5 lm rw rh lg lh ls H locs hP hS hl hf
      exact absurd hf (by rw [f_X3_movesOn_74]; exact nofun)
    | succ n ih =>
      intro k114 hk114 x1 x2 x3 x4 x5 lm rw rh lg lh ls H locs hP hS hl hf
      rw [f_X3_movesOn_74] at hf
      refine lv_iload hx hb dX3_movesOn_74 (lv_at hl 5 rfl) ?_
      refine lv_iload_n hx hb dX3_movesOn_76 rfl (lv_at hl 2 rfl) ?_
      refine lv_icmp_gt (tgt := 114) hx hb dX3_movesOn_77 (by decide) (fun c1 => ?_) (fun c1 => ?_)
      · replace hf := it_t c1 hf
        exact hk114 x1 x2 x3 x4 lm rw rh lg lh ls H locs hP hS (lv_sub (l' := [(0, .ref o), (1, .int x1), (2, .int x2), (3, .int x3), (4, .int x4)]) hl [0, 1, 2, 3, 4] rfl) hf
      · replace hf := it_f c1 hf
        refine lv_aload_n hx hb dX3_movesOn_80 rfl (lv_at hl 0 rfl) ?_
        refine mg_28 S hC hK hP dX3_movesOn_81 ?_
        refine lv_iload hx hb dX3_movesOn_84 (lv_at hl 5 rfl) ?_
        refine lv_aload_n hx hb dX3_movesOn_86 rfl (lv_at hl 0 rfl) ?_
        refine mg_26 S hC hK hP dX3_movesOn_87 ?_
        refine lv_iload hx hb dX3_movesOn_90 (lv_at hl 5 rfl) ?_
        obtain ⟨g2, hf⟩ := gd_t hf
        refine ma_26 S hC hK hP (inR_vp g2) rfl dX3_movesOn_92 ?_
        obtain ⟨g3, hf⟩ := gd_t hf
        refine ms_28 S hC hD hK hP hS (inR_vp g3) rfl dX3_movesOn_93 (fun H locs hP hS => ?_)
        refine lv_aload_n hx hb dX3_movesOn_94 rfl (lv_at hl 0 rfl) ?_
        refine mg_29 S hC hK hP dX3_movesOn_95 ?_
        refine lv_iload hx hb dX3_movesOn_98 (lv_at hl 5 rfl) ?_
        refine lv_aload_n hx hb dX3_movesOn_100 rfl (lv_at hl 0 rfl) ?_
        refine mg_27 S hC hK hP dX3_movesOn_101 ?_
        refine lv_iload hx hb dX3_movesOn_104 (lv_at hl 5 rfl) ?_
        obtain ⟨g4, hf⟩ := gd_t hf
        refine ma_27 S hC hK hP (inR_vp g4) rfl dX3_movesOn_106 ?_
        obtain ⟨g5, hf⟩ := gd_t hf
        refine ms_29 S hC hD hK hP hS (inR_vp g5) rfl dX3_movesOn_107 (fun H locs hP hS => ?_)
        refine lv_iinc (v := (x5 + 1)) (lv' := [(5, .int (x5 + 1)), (0, .ref o), (1, .int x1), (2, .int x2), (3, .int x3), (4, .int x4)]) hx hb dX3_movesOn_108 hl (k := 5) rfl rfl (by decide) rfl (fun ls hl => ?_)
        refine lv_goto (tgt := 74) hx hb dX3_movesOn_111 (by decide) ?_
        exact (ih k114 hk114) x1 x2 x3 x4 (x5 + 1) lm rw rh (upd lg x5.toNatClampNeg (rw x5.toNatClampNeg)) (upd lh x5.toNatClampNeg (rh x5.toNatClampNeg)) ls H locs hP hS (lv_sub (l' := [(0, .ref o), (1, .int x1), (2, .int x2), (3, .int x3), (4, .int x4), (5, .int (x5 + 1))]) hl [1, 2, 3, 4, 5, 0] rfl) hf
  have w114 : ∀ (k3 : Int32 → Int32 → Int32 → Int32 → Int32 → (Nat → Int32) → (Nat → Int32) → (Nat → Int32) → (Nat → Int32) → Option (Int32 × (Nat → Int32) × (Nat → Int32) × (Nat → Int32) × (Nat → Int32))), (∀ (b0 : Int32) (b1 : Int32) (b2 : Int32) (b3 : Int32) (b4 : Int32) (b5 : (Nat → Int32)) (b6 : (Nat → Int32)) (b7 : (Nat → Int32)) (b8 : (Nat → Int32)) (ls : Array Slot) (H : Heap) (locs : List Loc), va_P D cl (mW mi cI cJ cB o ad th tp st fk fp ac si fr tt kd nu fa pl fo wd ci gr b4 om nw rd aa kp ta nm rn gv gt b5 b6 b7 b8 ou) H → va_S (mA o ad) s.heap H locs → lv_has ls 6 [(0, .ref o), (1, .int b0), (2, .int b1), (3, .int b2), (4, .int b3)] → k3 b0 b1 b2 b3 b4 b5 b6 b7 b8 = some out → W p l e (rM 10 235) s m ([.ref o, .int a0, .int a1, .int a2] : List Value).toArray below meth c H locs 0 0 (MQ below (gQ D cl none True (mW mi cI cJ cB o ad th tp st fk fp ac si fr tt kd nu fa pl fo wd ci gr out.1 om nw rd aa kp ta nm rn gv gt out.2.1 out.2.2.1 out.2.2.2.1 out.2.2.2.2 ou) (mA o ad)) ([.ref o, .int a0, .int a1, .int a2] : List Value).toArray s 0 0 (mA o ad)) (F0 m 3 ls [])) → ∀ (x1 : Int32) (x2 : Int32) (x3 : Int32) (x4 : Int32) (lm : Int32) (rw : (Nat → Int32)) (rh : (Nat → Int32)) (lg : (Nat → Int32)) (lh : (Nat → Int32)) (ls : Array Slot) (H : Heap) (locs : List Loc), va_P D cl (mW mi cI cJ cB o ad th tp st fk fp ac si fr tt kd nu fa pl fo wd ci gr lm om nw rd aa kp ta nm rn gv gt rw rh lg lh ou) H → va_S (mA o ad) s.heap H locs → lv_has ls 6 [(0, .ref o), (1, .int x1), (2, .int x2), (3, .int x3), (4, .int x4)] → f_X3_movesOn_114 k3 (f_X3_movesOn 5 nw) nw x1 x2 x3 x4 lm rw rh lg lh = some out → W p l e (rM 10 235) s m ([.ref o, .int a0, .int a1, .int a2] : List Value).toArray below meth c H locs 0 0 (MQ below (gQ D cl none True (mW mi cI cJ cB o ad th tp st fk fp ac si fr tt kd nu fa pl fo wd ci gr out.1 om nw rd aa kp ta nm rn gv gt out.2.1 out.2.2.1 out.2.2.2.1 out.2.2.2.2 ou) (mA o ad)) ([.ref o, .int a0, .int a1, .int a2] : List Value).toArray s 0 0 (mA o ad)) (F0 m 114 ls []) := by
    intro k3 hk3 x1 x2 x3 x4 lm rw rh lg lh ls H locs hP hS hl hf
    rw [f_X3_movesOn_114] at hf
    refine lv_aload_n hx hb dX3_movesOn_114 rfl (lv_at hl 0 rfl) ?_
    refine lv_iload hx hb dX3_movesOn_115 (lv_at hl 4 rfl) ?_
    refine lv_iconst hx hb dX3_movesOn_117 kc_i4 ?_
    obtain ⟨v1, hv1, hf⟩ := ob_s hf
    refine mc_X3_X3_of S hC hK hP hv1 hl.1 ⟨Nat.le_of_ble_eq_true rfl, Nat.le_of_ble_eq_true rfl⟩ (Nat.le_of_ble_eq_true rfl) ⟨Nat.zero_le _, Nat.zero_le _⟩ dX3_movesOn_118 (fun _ => ?_)
    refine lv_iconst hx hb dX3_movesOn_121 kc_im1 ?_
    refine lv_icmp_eq (tgt := 145) hx hb dX3_movesOn_122 (by decide) (fun c2 => ?_) (fun c2 => ?_)
    · replace hf := it_t c2 hf
      refine lv_iinc (v := (x4 + 1)) (lv' := [(4, .int (x4 + 1)), (0, .ref o), (1, .int x1), (2, .int x2), (3, .int x3)]) hx hb dX3_movesOn_145 hl (k := 4) rfl rfl (by decide) rfl (fun ls hl => ?_)
      refine lv_goto (tgt := 3) hx hb dX3_movesOn_148 (by decide) ?_
      exact hk3 x1 x2 x3 (x4 + 1) lm rw rh lg lh ls H locs hP hS (lv_sub (l' := [(0, .ref o), (1, .int x1), (2, .int x2), (3, .int x3), (4, .int (x4 + 1))]) hl [1, 2, 3, 4, 0] rfl) hf
    · replace hf := it_f c2 hf
      refine lv_aload_n hx hb dX3_movesOn_125 rfl (lv_at hl 0 rfl) ?_
      refine lv_aload_n hx hb dX3_movesOn_126 rfl (lv_at hl 0 rfl) ?_
      refine lv_iload hx hb dX3_movesOn_127 (lv_at hl 4 rfl) ?_
      refine lv_iconst hx hb dX3_movesOn_129 kc_i4 ?_
      obtain ⟨v3, hv3, hf⟩ := ob_s hf
      refine mc_X3_X3_of S hC hK hP hv3 hl.1 ⟨Nat.le_of_ble_eq_true rfl, Nat.le_of_ble_eq_true rfl⟩ (Nat.le_of_ble_eq_true rfl) ⟨Nat.zero_le _, Nat.zero_le _⟩ dX3_movesOn_130 (fun _ => ?_)
      refine lv_iload_n hx hb dX3_movesOn_133 rfl (lv_at hl 2 rfl) ?_
      refine lv_iconst hx hb dX3_movesOn_134 kc_i1 ?_
      refine lv_iadd hx hb dX3_movesOn_135 ?_
      refine lv_iload_n hx hb dX3_movesOn_136 rfl (lv_at hl 3 rfl) ?_
      refine lv_iconst hx hb dX3_movesOn_137 kc_i1 ?_
      refine lv_iload hx hb dX3_movesOn_138 (lv_at hl 4 rfl) ?_
      refine lv_ishl hx hb dX3_movesOn_140 ?_
      refine lv_ior hx hb dX3_movesOn_141 ?_
      obtain ⟨v4, hv4, hf⟩ := ob_s hf
      refine mc_X3_X3_movesOn_5 S hC hD hK hP hS hv4 hl.1 ⟨Nat.le_of_ble_eq_true rfl, Nat.le_of_ble_eq_true rfl⟩ (Nat.le_of_ble_eq_true rfl) ⟨Nat.zero_le _, Nat.zero_le _⟩ dX3_movesOn_142 (fun H locs _ hP hS => ?_)
      refine lv_iinc (v := (x4 + 1)) (lv' := [(4, .int (x4 + 1)), (0, .ref o), (1, .int x1), (2, .int x2), (3, .int x3)]) hx hb dX3_movesOn_145 hl (k := 4) rfl rfl (by decide) rfl (fun ls hl => ?_)
      refine lv_goto (tgt := 3) hx hb dX3_movesOn_148 (by decide) ?_
      exact hk3 x1 x2 x3 (x4 + 1) v4.1 v4.2.1 v4.2.2.1 v4.2.2.2.1 v4.2.2.2.2 ls H locs hP hS (lv_sub (l' := [(0, .ref o), (1, .int x1), (2, .int x2), (3, .int x3), (4, .int (x4 + 1))]) hl [1, 2, 3, 4, 0] rfl) hf
  have w3 : ∀ (n : Nat) , ∀ (x1 : Int32) (x2 : Int32) (x3 : Int32) (x4 : Int32) (lm : Int32) (rw : (Nat → Int32)) (rh : (Nat → Int32)) (lg : (Nat → Int32)) (lh : (Nat → Int32)) (ls : Array Slot) (H : Heap) (locs : List Loc), va_P D cl (mW mi cI cJ cB o ad th tp st fk fp ac si fr tt kd nu fa pl fo wd ci gr lm om nw rd aa kp ta nm rn gv gt rw rh lg lh ou) H → va_S (mA o ad) s.heap H locs → lv_has ls 6 [(0, .ref o), (1, .int x1), (2, .int x2), (3, .int x3), (4, .int x4)] → f_X3_movesOn_3 n (f_X3_movesOn 5 nw) nw x1 x2 x3 x4 lm rw rh lg lh = some out → W p l e (rM 10 235) s m ([.ref o, .int a0, .int a1, .int a2] : List Value).toArray below meth c H locs 0 0 (MQ below (gQ D cl none True (mW mi cI cJ cB o ad th tp st fk fp ac si fr tt kd nu fa pl fo wd ci gr out.1 om nw rd aa kp ta nm rn gv gt out.2.1 out.2.2.1 out.2.2.2.1 out.2.2.2.2 ou) (mA o ad)) ([.ref o, .int a0, .int a1, .int a2] : List Value).toArray s 0 0 (mA o ad)) (F0 m 3 ls []) := by
    intro n
    induction n with
    | zero =>
      intro x1 x2 x3 x4 lm rw rh lg lh ls H locs hP hS hl hf
      exact absurd hf (by rw [f_X3_movesOn_3]; exact nofun)
    | succ n ih =>
      intro x1 x2 x3 x4 lm rw rh lg lh ls H locs hP hS hl hf
      rw [f_X3_movesOn_3] at hf
      refine lv_iload hx hb dX3_movesOn_3 (lv_at hl 4 rfl) ?_
      refine lv_aload_n hx hb dX3_movesOn_5 rfl (lv_at hl 0 rfl) ?_
      refine mg_1 S hC hK hP dX3_movesOn_6 ?_
      refine lv_sipush hx hb dX3_movesOn_9 kc_s231 ?_
      refine ma_1 S hC hK hP kv_231_390 kn_231 dX3_movesOn_12 ?_
      refine lv_icmp_ge (tgt := 151) hx hb dX3_movesOn_13 (by decide) (fun c1 => ?_) (fun c1 => ?_)
      · replace hf := it_t c1 hf
        have hE := Option.some.inj hf
        subst hE
        exact gt_wv S hr hlocks trivial hP hS dX3_movesOn_151
      · replace hf := it_f c1 hf
        refine lv_iload_n hx hb dX3_movesOn_16 rfl (lv_at hl 3 rfl) ?_
        refine lv_iload hx hb dX3_movesOn_17 (lv_at hl 4 rfl) ?_
        refine lv_ishr hx hb dX3_movesOn_19 ?_
        refine lv_iconst hx hb dX3_movesOn_20 kc_i1 ?_
        refine lv_iand hx hb dX3_movesOn_21 ?_
        refine lv_iconst hx hb dX3_movesOn_22 kc_i1 ?_
        refine lv_icmp_eq (tgt := 145) hx hb dX3_movesOn_23 (by decide) (fun c2 => ?_) (fun c2 => ?_)
        · replace hf := it_t c2 hf
          refine lv_iinc (v := (x4 + 1)) (lv' := [(4, .int (x4 + 1)), (0, .ref o), (1, .int x1), (2, .int x2), (3, .int x3)]) hx hb dX3_movesOn_145 hl (k := 4) rfl rfl (by decide) rfl (fun ls hl => ?_)
          refine lv_goto (tgt := 3) hx hb dX3_movesOn_148 (by decide) ?_
          exact (ih) x1 x2 x3 (x4 + 1) lm rw rh lg lh ls H locs hP hS (lv_sub (l' := [(0, .ref o), (1, .int x1), (2, .int x2), (3, .int x3), (4, .int (x4 + 1))]) hl [1, 2, 3, 4, 0] rfl) hf
        · replace hf := it_f c2 hf
          refine lv_aload_n hx hb dX3_movesOn_26 rfl (lv_at hl 0 rfl) ?_
          refine lv_iload hx hb dX3_movesOn_27 (lv_at hl 4 rfl) ?_
          refine lv_iload_n hx hb dX3_movesOn_29 rfl (lv_at hl 1 rfl) ?_
          obtain ⟨v3, hv3, hf⟩ := ob_s hf
          refine mc_X3_X3_couldHave S hC hK hP hv3 hl.1 ⟨Nat.le_of_ble_eq_true rfl, Nat.le_of_ble_eq_true rfl⟩ (Nat.le_of_ble_eq_true rfl) ⟨Nat.zero_le _, Nat.zero_le _⟩ dX3_movesOn_30 (fun hnv3 => ?_)
          refine lv_if_ne (tgt := 39) hx hb dX3_movesOn_33 (by decide) (fun c4 => ?_) (fun c4 => ?_)
          · replace hf := it_f c4 hf
            refine lv_aload_n hx hb dX3_movesOn_39 rfl (lv_at hl 0 rfl) ?_
            refine mg_26 S hC hK hP dX3_movesOn_40 ?_
            refine lv_iload_n hx hb dX3_movesOn_43 rfl (lv_at hl 2 rfl) ?_
            refine lv_iload hx hb dX3_movesOn_44 (lv_at hl 4 rfl) ?_
            obtain ⟨g5, hf⟩ := gd_t hf
            refine ms_26 S hC hD hK hP hS (inR_vp g5) rfl dX3_movesOn_46 (fun H locs hP hS => ?_)
            refine lv_aload_n hx hb dX3_movesOn_47 rfl (lv_at hl 0 rfl) ?_
            refine mg_27 S hC hK hP dX3_movesOn_48 ?_
            refine lv_iload_n hx hb dX3_movesOn_51 rfl (lv_at hl 2 rfl) ?_
            refine lv_iload_n hx hb dX3_movesOn_52 rfl (lv_at hl 1 rfl) ?_
            obtain ⟨g6, hf⟩ := gd_t hf
            refine ms_27 S hC hD hK hP hS (inR_vp g6) rfl dX3_movesOn_53 (fun H locs hP hS => ?_)
            refine lv_iload_n hx hb dX3_movesOn_54 rfl (lv_at hl 2 rfl) ?_
            refine lv_iconst hx hb dX3_movesOn_55 kc_i1 ?_
            refine lv_iadd hx hb dX3_movesOn_56 ?_
            refine lv_aload_n hx hb dX3_movesOn_57 rfl (lv_at hl 0 rfl) ?_
            refine mg_30 S hC hK hP dX3_movesOn_58 ?_
            refine lv_icmp_le (tgt := 114) hx hb dX3_movesOn_61 (by decide) (fun c7 => ?_) (fun c7 => ?_)
            · replace hf := it_t c7 hf
              exact (w114 (f_X3_movesOn_3 n (f_X3_movesOn 5 nw) nw) (ih)) x1 x2 x3 x4 lm (upd rw x2.toNatClampNeg x4) (upd rh x2.toNatClampNeg x1) lg lh ls H locs hP hS hl hf
            · replace hf := it_f c7 hf
              refine lv_aload_n hx hb dX3_movesOn_64 rfl (lv_at hl 0 rfl) ?_
              refine lv_iload_n hx hb dX3_movesOn_65 rfl (lv_at hl 2 rfl) ?_
              refine lv_iconst hx hb dX3_movesOn_66 kc_i1 ?_
              refine lv_iadd hx hb dX3_movesOn_67 ?_
              refine mp_30 S hC hD hK hP hS dX3_movesOn_68 (fun H locs hP hS => ?_)
              refine lv_iconst hx hb dX3_movesOn_71 kc_i0 ?_
              refine lv_istore (lv' := [(5, .int 0), (0, .ref o), (1, .int x1), (2, .int x2), (3, .int x3), (4, .int x4)]) hx hb dX3_movesOn_72 hl (by decide) rfl (fun ls hl => ?_)
              exact (w74 FU (f_X3_movesOn_114 (f_X3_movesOn_3 n (f_X3_movesOn 5 nw) nw) (f_X3_movesOn 5 nw) nw) (w114 (f_X3_movesOn_3 n (f_X3_movesOn 5 nw) nw) (ih))) x1 x2 x3 x4 0 (x2 + 1) (upd rw x2.toNatClampNeg x4) (upd rh x2.toNatClampNeg x1) lg lh ls H locs hP hS (lv_sub (l' := [(0, .ref o), (1, .int x1), (2, .int x2), (3, .int x3), (4, .int x4), (5, .int 0)]) hl [1, 2, 3, 4, 5, 0] rfl) hf
          · replace hf := it_t c4 hf
            refine lv_goto (tgt := 145) hx hb dX3_movesOn_36 (by decide) ?_
            refine lv_iinc (v := (x4 + 1)) (lv' := [(4, .int (x4 + 1)), (0, .ref o), (1, .int x1), (2, .int x2), (3, .int x3)]) hx hb dX3_movesOn_145 hl (k := 4) rfl rfl (by decide) rfl (fun ls hl => ?_)
            refine lv_goto (tgt := 3) hx hb dX3_movesOn_148 (by decide) ?_
            exact (ih) x1 x2 x3 (x4 + 1) lm rw rh lg lh ls H locs hP hS (lv_sub (l' := [(0, .ref o), (1, .int x1), (2, .int x2), (3, .int x3), (4, .int (x4 + 1))]) hl [1, 2, 3, 4, 0] rfl) hf
  suffices hg : ∀ (H : Heap) (locs : List Loc), va_P D cl (mW mi cI cJ cB o ad th tp st fk fp ac si fr tt kd nu fa pl fo wd ci gr lm om nw rd aa kp ta nm rn gv gt rw rh lg lh ou) H → va_S (mA o ad) s.heap H locs → W p l e (rM 10 235) s m ([.ref o, .int a0, .int a1, .int a2] : List Value).toArray below meth c H locs 0 0 (MQ below (gQ D cl none True (mW mi cI cJ cB o ad th tp st fk fp ac si fr tt kd nu fa pl fo wd ci gr out.1 om nw rd aa kp ta nm rn gv gt out.2.1 out.2.2.1 out.2.2.2.1 out.2.2.2.2 ou) (mA o ad)) ([.ref o, .int a0, .int a1, .int a2] : List Value).toArray s 0 0 (mA o ad)) (F0 m 0 ls []) from hg s.heap [] hP va_S.rf
  clear hP
  intro H locs hP hS
  have hf : f_X3_movesOn (5 + 1) nw lm rw rh lg lh a0 a1 a2 = some out := hf
  rw [f_X3_movesOn] at hf
  refine lv_iconst hx hb dX3_movesOn_0 kc_i0 ?_
  refine lv_istore (lv' := [(4, .int 0), (0, .ref o), (1, .int a0), (2, .int a1), (3, .int a2)]) hx hb dX3_movesOn_1 hl (by decide) rfl (fun ls hl => ?_)
  exact (w3 FU) a0 a1 a2 0 lm rw rh lg lh ls H locs hP hS (lv_sub (l' := [(0, .ref o), (1, .int a0), (2, .int a1), (3, .int a2), (4, .int 0)]) hl [1, 2, 3, 4, 0] rfl) hf
set_option maxRecDepth 100000 in
theorem mc_X3_X3_movesOn_6 {a0 : Int32} {a1 : Int32} {a2 : Int32} {out : Int32 × (Nat → Int32) × (Nat → Int32) × (Nat → Int32) × (Nat → Int32)} (S : CallFix p m c cc nL s args lw_all RX3) (hC : mC cl tys mi cI cJ cB) (hD : mD o ad) (hK : va_K D cl tys s) (hP : va_P D cl (mW mi cI cJ cB o ad th tp st fk fp ac si fr tt kd nu fa pl fo wd ci gr lm om nw rd aa kp ta nm rn gv gt rw rh lg lh ou) H) (hS : va_S (mA o ad) H0 H locs) (hf : f_X3_movesOn 6 nw lm rw rh lg lh a0 a1 a2 = some out) (hsz : ls.size = nL) (hR : 10 + 1 ≤ R.frames ∧ 8 + (6 + 11) + 235 ≤ R.locals) (hW : (rest.map fun v => v.category).sum ≤ 8) (hcs : cells ≤ R.cells ∧ slots ≤ R.slots) (hdg : decode cc pc = .ok (.invokevirtual 386, 3)) (kk : ∀ (H1 : Heap) (locs1 : List Loc), True → va_P D cl (mW mi cI cJ cB o ad th tp st fk fp ac si fr tt kd nu fa pl fo wd ci gr out.1 om nw rd aa kp ta nm rn gv gt out.2.1 out.2.2.1 out.2.2.2.1 out.2.2.2.2 ou) H1 → va_S (mA o ad) H0 H1 locs1 → W p l e R s m args below meth c H1 locs1 cells slots Q (F0 m (pc + 3) ls (rest))) : W p l e R s m args below meth c H locs cells slots Q (F0 m pc ls (.int a2 :: .int a1 :: .int a0 :: .ref o :: rest)) :=
  gc_Vv (As := [.int a0, .int a1, .int a2]) S (mm_X3_movesOn_6 hC hD hf) (cwV 3 S.2.2.2.2 (lw_V q2558 q2560 qs164 q189 q2561) rfl rfl rfl hd_X3_movesOn hR) (gPreV hK hP hC.1 (q0 := 0) rfl) rfl hsz rfl hW hdg hcs hS kk
set_option maxHeartbeats 4000000 in
set_option maxRecDepth 100000 in
theorem mm_X3_movesOn_7 {a0 : Int32} {a1 : Int32} {a2 : Int32} {out : Int32 × (Nat → Int32) × (Nat → Int32) × (Nat → Int32) × (Nat → Int32)} (hC : mC cl tys mi cI cJ cB) (hD : mD o ad) (hf : f_X3_movesOn 7 nw lm rw rh lg lh a0 a1 a2 = some out) : Met l yX3_movesOn (ws_ yX3_movesOn cX3_movesOn 6 none) (rM 11 260) (gPc D cl tys [.ref o, .int a0, .int a1, .int a2] (mW mi cI cJ cB o ad th tp st fk fp ac si fr tt kd nu fa pl fo wd ci gr lm om nw rd aa kp ta nm rn gv gt rw rh lg lh ou)) (gQ D cl none True (mW mi cI cJ cB o ad th tp st fk fp ac si fr tt kd nu fa pl fo wd ci gr out.1 om nw rd aa kp ta nm rn gv gt out.2.1 out.2.2.1 out.2.2.2.1 out.2.2.2.2 ou) (mA o ad)) 0 0 (mA o ad) := by
  refine gGo (by decide +kernel) (Nat.le_of_ble_eq_true rfl) (fun p e s m below meth c ls S hr hlocks hK hP hl => ?_)
  have S : CallFix p m c cX3_movesOn 6 s _ lw_all RX3 := S
  obtain ⟨hx, hb, hml, hown, hts⟩ := id S
  have hl : lv_has ls 6 [(0, .ref o), (1, .int a0), (2, .int a1), (3, .int a2)] := hl
  have w74 : ∀ (n : Nat) (k114 : Int32 → Int32 → Int32 → Int32 → Int32 → (Nat → Int32) → (Nat → Int32) → (Nat → Int32) → (Nat → Int32) → Option (Int32 × (Nat → Int32) × (Nat → Int32) × (Nat → Int32) × (Nat → Int32))), (∀ (b0 : Int32) (b1 : Int32) (b2 : Int32) (b3 : Int32) (b4 : Int32) (b5 : (Nat → Int32)) (b6 : (Nat → Int32)) (b7 : (Nat → Int32)) (b8 : (Nat → Int32)) (ls : Array Slot) (H : Heap) (locs : List Loc), va_P D cl (mW mi cI cJ cB o ad th tp st fk fp ac si fr tt kd nu fa pl fo wd ci gr b4 om nw rd aa kp ta nm rn gv gt b5 b6 b7 b8 ou) H → va_S (mA o ad) s.heap H locs → lv_has ls 6 [(0, .ref o), (1, .int b0), (2, .int b1), (3, .int b2), (4, .int b3)] → k114 b0 b1 b2 b3 b4 b5 b6 b7 b8 = some out → W p l e (rM 11 260) s m ([.ref o, .int a0, .int a1, .int a2] : List Value).toArray below meth c H locs 0 0 (MQ below (gQ D cl none True (mW mi cI cJ cB o ad th tp st fk fp ac si fr tt kd nu fa pl fo wd ci gr out.1 om nw rd aa kp ta nm rn gv gt out.2.1 out.2.2.1 out.2.2.2.1 out.2.2.2.2 ou) (mA o ad)) ([.ref o, .int a0, .int a1, .int a2] : List Value).toArray s 0 0 (mA o ad)) (F0 m 114 ls [])) → ∀ (x1 : Int32) (x2 : Int32) (x3 : Int32) (x4 : Int32) (x5 : Int32) (lm : Int32) (rw : (Nat → Int32)) (rh : (Nat → Int32)) (lg : (Nat → Int32)) (lh : (Nat → Int32)) (ls : Array Slot) (H : Heap) (locs : List Loc), va_P D cl (mW mi cI cJ cB o ad th tp st fk fp ac si fr tt kd nu fa pl fo wd ci gr lm om nw rd aa kp ta nm rn gv gt rw rh lg lh ou) H → va_S (mA o ad) s.heap H locs → lv_has ls 6 [(0, .ref o), (1, .int x1), (2, .int x2), (3, .int x3), (4, .int x4), (5, .int x5)] → f_X3_movesOn_74 n k114 (f_X3_movesOn 6 nw) nw x1 x2 x3 x4 x5 lm rw rh lg lh = some out → W p l e (rM 11 260) s m ([.ref o, .int a0, .int a1, .int a2] : List Value).toArray below meth c H locs 0 0 (MQ below (gQ D cl none True (mW mi cI cJ cB o ad th tp st fk fp ac si fr tt kd nu fa pl fo wd ci gr out.1 om nw rd aa kp ta nm rn gv gt out.2.1 out.2.2.1 out.2.2.2.1 out.2.2.2.2 ou) (mA o ad)) ([.ref o, .int a0, .int a1, .int a2] : List Value).toArray s 0 0 (mA o ad)) (F0 m 74 ls []) := by
    intro n
    induction n with
    | zero =>
      intro k114 hk114 x1 x2 x3 x4 x5 lm rw rh lg lh ls H locs hP hS hl hf
      exact absurd hf (by rw [f_X3_movesOn_74]; exact nofun)
    | succ n ih =>
      intro k114 hk114 x1 x2 x3 x4 x5 lm rw rh lg lh ls H locs hP hS hl hf
      rw [f_X3_movesOn_74] at hf
      refine lv_iload hx hb dX3_movesOn_74 (lv_at hl 5 rfl) ?_
      refine lv_iload_n hx hb dX3_movesOn_76 rfl (lv_at hl 2 rfl) ?_
      refine lv_icmp_gt (tgt := 114) hx hb dX3_movesOn_77 (by decide) (fun c1 => ?_) (fun c1 => ?_)
      · replace hf := it_t c1 hf
        exact hk114 x1 x2 x3 x4 lm rw rh lg lh ls H locs hP hS (lv_sub (l' := [(0, .ref o), (1, .int x1), (2, .int x2), (3, .int x3), (4, .int x4)]) hl [0, 1, 2, 3, 4] rfl) hf
      · replace hf := it_f c1 hf
        refine lv_aload_n hx hb dX3_movesOn_80 rfl (lv_at hl 0 rfl) ?_
        refine mg_28 S hC hK hP dX3_movesOn_81 ?_
        refine lv_iload hx hb dX3_movesOn_84 (lv_at hl 5 rfl) ?_
        refine lv_aload_n hx hb dX3_movesOn_86 rfl (lv_at hl 0 rfl) ?_
        refine mg_26 S hC hK hP dX3_movesOn_87 ?_
        refine lv_iload hx hb dX3_movesOn_90 (lv_at hl 5 rfl) ?_
        obtain ⟨g2, hf⟩ := gd_t hf
        refine ma_26 S hC hK hP (inR_vp g2) rfl dX3_movesOn_92 ?_
        obtain ⟨g3, hf⟩ := gd_t hf
        refine ms_28 S hC hD hK hP hS (inR_vp g3) rfl dX3_movesOn_93 (fun H locs hP hS => ?_)
        refine lv_aload_n hx hb dX3_movesOn_94 rfl (lv_at hl 0 rfl) ?_
        refine mg_29 S hC hK hP dX3_movesOn_95 ?_
        refine lv_iload hx hb dX3_movesOn_98 (lv_at hl 5 rfl) ?_
        refine lv_aload_n hx hb dX3_movesOn_100 rfl (lv_at hl 0 rfl) ?_
        refine mg_27 S hC hK hP dX3_movesOn_101 ?_
        refine lv_iload hx hb dX3_movesOn_104 (lv_at hl 5 rfl) ?_
        obtain ⟨g4, hf⟩ := gd_t hf
        refine ma_27 S hC hK hP (inR_vp g4) rfl dX3_movesOn_106 ?_
        obtain ⟨g5, hf⟩ := gd_t hf
        refine ms_29 S hC hD hK hP hS (inR_vp g5) rfl dX3_movesOn_107 (fun H locs hP hS => ?_)
        refine lv_iinc (v := (x5 + 1)) (lv' := [(5, .int (x5 + 1)), (0, .ref o), (1, .int x1), (2, .int x2), (3, .int x3), (4, .int x4)]) hx hb dX3_movesOn_108 hl (k := 5) rfl rfl (by decide) rfl (fun ls hl => ?_)
        refine lv_goto (tgt := 74) hx hb dX3_movesOn_111 (by decide) ?_
        exact (ih k114 hk114) x1 x2 x3 x4 (x5 + 1) lm rw rh (upd lg x5.toNatClampNeg (rw x5.toNatClampNeg)) (upd lh x5.toNatClampNeg (rh x5.toNatClampNeg)) ls H locs hP hS (lv_sub (l' := [(0, .ref o), (1, .int x1), (2, .int x2), (3, .int x3), (4, .int x4), (5, .int (x5 + 1))]) hl [1, 2, 3, 4, 5, 0] rfl) hf
  have w114 : ∀ (k3 : Int32 → Int32 → Int32 → Int32 → Int32 → (Nat → Int32) → (Nat → Int32) → (Nat → Int32) → (Nat → Int32) → Option (Int32 × (Nat → Int32) × (Nat → Int32) × (Nat → Int32) × (Nat → Int32))), (∀ (b0 : Int32) (b1 : Int32) (b2 : Int32) (b3 : Int32) (b4 : Int32) (b5 : (Nat → Int32)) (b6 : (Nat → Int32)) (b7 : (Nat → Int32)) (b8 : (Nat → Int32)) (ls : Array Slot) (H : Heap) (locs : List Loc), va_P D cl (mW mi cI cJ cB o ad th tp st fk fp ac si fr tt kd nu fa pl fo wd ci gr b4 om nw rd aa kp ta nm rn gv gt b5 b6 b7 b8 ou) H → va_S (mA o ad) s.heap H locs → lv_has ls 6 [(0, .ref o), (1, .int b0), (2, .int b1), (3, .int b2), (4, .int b3)] → k3 b0 b1 b2 b3 b4 b5 b6 b7 b8 = some out → W p l e (rM 11 260) s m ([.ref o, .int a0, .int a1, .int a2] : List Value).toArray below meth c H locs 0 0 (MQ below (gQ D cl none True (mW mi cI cJ cB o ad th tp st fk fp ac si fr tt kd nu fa pl fo wd ci gr out.1 om nw rd aa kp ta nm rn gv gt out.2.1 out.2.2.1 out.2.2.2.1 out.2.2.2.2 ou) (mA o ad)) ([.ref o, .int a0, .int a1, .int a2] : List Value).toArray s 0 0 (mA o ad)) (F0 m 3 ls [])) → ∀ (x1 : Int32) (x2 : Int32) (x3 : Int32) (x4 : Int32) (lm : Int32) (rw : (Nat → Int32)) (rh : (Nat → Int32)) (lg : (Nat → Int32)) (lh : (Nat → Int32)) (ls : Array Slot) (H : Heap) (locs : List Loc), va_P D cl (mW mi cI cJ cB o ad th tp st fk fp ac si fr tt kd nu fa pl fo wd ci gr lm om nw rd aa kp ta nm rn gv gt rw rh lg lh ou) H → va_S (mA o ad) s.heap H locs → lv_has ls 6 [(0, .ref o), (1, .int x1), (2, .int x2), (3, .int x3), (4, .int x4)] → f_X3_movesOn_114 k3 (f_X3_movesOn 6 nw) nw x1 x2 x3 x4 lm rw rh lg lh = some out → W p l e (rM 11 260) s m ([.ref o, .int a0, .int a1, .int a2] : List Value).toArray below meth c H locs 0 0 (MQ below (gQ D cl none True (mW mi cI cJ cB o ad th tp st fk fp ac si fr tt kd nu fa pl fo wd ci gr out.1 om nw rd aa kp ta nm rn gv gt out.2.1 out.2.2.1 out.2.2.2.1 out.2.2.2.2 ou) (mA o ad)) ([.ref o, .int a0, .int a1, .int a2] : List Value).toArray s 0 0 (mA o ad)) (F0 m 114 ls []) := by
    intro k3 hk3 x1 x2 x3 x4 lm rw rh lg lh ls H locs hP hS hl hf
    rw [f_X3_movesOn_114] at hf
    refine lv_aload_n hx hb dX3_movesOn_114 rfl (lv_at hl 0 rfl) ?_
    refine lv_iload hx hb dX3_movesOn_115 (lv_at hl 4 rfl) ?_
    refine lv_iconst hx hb dX3_movesOn_117 kc_i4 ?_
    obtain ⟨v1, hv1, hf⟩ := ob_s hf
    refine mc_X3_X3_of S hC hK hP hv1 hl.1 ⟨Nat.le_of_ble_eq_true rfl, Nat.le_of_ble_eq_true rfl⟩ (Nat.le_of_ble_eq_true rfl) ⟨Nat.zero_le _, Nat.zero_le _⟩ dX3_movesOn_118 (fun _ => ?_)
    refine lv_iconst hx hb dX3_movesOn_121 kc_im1 ?_
    refine lv_icmp_eq (tgt := 145) hx hb dX3_movesOn_122 (by decide) (fun c2 => ?_) (fun c2 => ?_)
    · replace hf := it_t c2 hf
      refine lv_iinc (v := (x4 + 1)) (lv' := [(4, .int (x4 + 1)), (0, .ref o), (1, .int x1), (2, .int x2), (3, .int x3)]) hx hb dX3_movesOn_145 hl (k := 4) rfl rfl (by decide) rfl (fun ls hl => ?_)
      refine lv_goto (tgt := 3) hx hb dX3_movesOn_148 (by decide) ?_
      exact hk3 x1 x2 x3 (x4 + 1) lm rw rh lg lh ls H locs hP hS (lv_sub (l' := [(0, .ref o), (1, .int x1), (2, .int x2), (3, .int x3), (4, .int (x4 + 1))]) hl [1, 2, 3, 4, 0] rfl) hf
    · replace hf := it_f c2 hf
      refine lv_aload_n hx hb dX3_movesOn_125 rfl (lv_at hl 0 rfl) ?_
      refine lv_aload_n hx hb dX3_movesOn_126 rfl (lv_at hl 0 rfl) ?_
      refine lv_iload hx hb dX3_movesOn_127 (lv_at hl 4 rfl) ?_
      refine lv_iconst hx hb dX3_movesOn_129 kc_i4 ?_
      obtain ⟨v3, hv3, hf⟩ := ob_s hf
      refine mc_X3_X3_of S hC hK hP hv3 hl.1 ⟨Nat.le_of_ble_eq_true rfl, Nat.le_of_ble_eq_true rfl⟩ (Nat.le_of_ble_eq_true rfl) ⟨Nat.zero_le _, Nat.zero_le _⟩ dX3_movesOn_130 (fun _ => ?_)
      refine lv_iload_n hx hb dX3_movesOn_133 rfl (lv_at hl 2 rfl) ?_
      refine lv_iconst hx hb dX3_movesOn_134 kc_i1 ?_
      refine lv_iadd hx hb dX3_movesOn_135 ?_
      refine lv_iload_n hx hb dX3_movesOn_136 rfl (lv_at hl 3 rfl) ?_
      refine lv_iconst hx hb dX3_movesOn_137 kc_i1 ?_
      refine lv_iload hx hb dX3_movesOn_138 (lv_at hl 4 rfl) ?_
      refine lv_ishl hx hb dX3_movesOn_140 ?_
      refine lv_ior hx hb dX3_movesOn_141 ?_
      obtain ⟨v4, hv4, hf⟩ := ob_s hf
      refine mc_X3_X3_movesOn_6 S hC hD hK hP hS hv4 hl.1 ⟨Nat.le_of_ble_eq_true rfl, Nat.le_of_ble_eq_true rfl⟩ (Nat.le_of_ble_eq_true rfl) ⟨Nat.zero_le _, Nat.zero_le _⟩ dX3_movesOn_142 (fun H locs _ hP hS => ?_)
      refine lv_iinc (v := (x4 + 1)) (lv' := [(4, .int (x4 + 1)), (0, .ref o), (1, .int x1), (2, .int x2), (3, .int x3)]) hx hb dX3_movesOn_145 hl (k := 4) rfl rfl (by decide) rfl (fun ls hl => ?_)
      refine lv_goto (tgt := 3) hx hb dX3_movesOn_148 (by decide) ?_
      exact hk3 x1 x2 x3 (x4 + 1) v4.1 v4.2.1 v4.2.2.1 v4.2.2.2.1 v4.2.2.2.2 ls H locs hP hS (lv_sub (l' := [(0, .ref o), (1, .int x1), (2, .int x2), (3, .int x3), (4, .int (x4 + 1))]) hl [1, 2, 3, 4, 0] rfl) hf
  have w3 : ∀ (n : Nat) , ∀ (x1 : Int32) (x2 : Int32) (x3 : Int32) (x4 : Int32) (lm : Int32) (rw : (Nat → Int32)) (rh : (Nat → Int32)) (lg : (Nat → Int32)) (lh : (Nat → Int32)) (ls : Array Slot) (H : Heap) (locs : List Loc), va_P D cl (mW mi cI cJ cB o ad th tp st fk fp ac si fr tt kd nu fa pl fo wd ci gr lm om nw rd aa kp ta nm rn gv gt rw rh lg lh ou) H → va_S (mA o ad) s.heap H locs → lv_has ls 6 [(0, .ref o), (1, .int x1), (2, .int x2), (3, .int x3), (4, .int x4)] → f_X3_movesOn_3 n (f_X3_movesOn 6 nw) nw x1 x2 x3 x4 lm rw rh lg lh = some out → W p l e (rM 11 260) s m ([.ref o, .int a0, .int a1, .int a2] : List Value).toArray below meth c H locs 0 0 (MQ below (gQ D cl none True (mW mi cI cJ cB o ad th tp st fk fp ac si fr tt kd nu fa pl fo wd ci gr out.1 om nw rd aa kp ta nm rn gv gt out.2.1 out.2.2.1 out.2.2.2.1 out.2.2.2.2 ou) (mA o ad)) ([.ref o, .int a0, .int a1, .int a2] : List Value).toArray s 0 0 (mA o ad)) (F0 m 3 ls []) := by
    intro n
    induction n with
    | zero =>
      intro x1 x2 x3 x4 lm rw rh lg lh ls H locs hP hS hl hf
      exact absurd hf (by rw [f_X3_movesOn_3]; exact nofun)
    | succ n ih =>
      intro x1 x2 x3 x4 lm rw rh lg lh ls H locs hP hS hl hf
      rw [f_X3_movesOn_3] at hf
      refine lv_iload hx hb dX3_movesOn_3 (lv_at hl 4 rfl) ?_
      refine lv_aload_n hx hb dX3_movesOn_5 rfl (lv_at hl 0 rfl) ?_
      refine mg_1 S hC hK hP dX3_movesOn_6 ?_
      refine lv_sipush hx hb dX3_movesOn_9 kc_s231 ?_
      refine ma_1 S hC hK hP kv_231_390 kn_231 dX3_movesOn_12 ?_
      refine lv_icmp_ge (tgt := 151) hx hb dX3_movesOn_13 (by decide) (fun c1 => ?_) (fun c1 => ?_)
      · replace hf := it_t c1 hf
        have hE := Option.some.inj hf
        subst hE
        exact gt_wv S hr hlocks trivial hP hS dX3_movesOn_151
      · replace hf := it_f c1 hf
        refine lv_iload_n hx hb dX3_movesOn_16 rfl (lv_at hl 3 rfl) ?_
        refine lv_iload hx hb dX3_movesOn_17 (lv_at hl 4 rfl) ?_
        refine lv_ishr hx hb dX3_movesOn_19 ?_
        refine lv_iconst hx hb dX3_movesOn_20 kc_i1 ?_
        refine lv_iand hx hb dX3_movesOn_21 ?_
        refine lv_iconst hx hb dX3_movesOn_22 kc_i1 ?_
        refine lv_icmp_eq (tgt := 145) hx hb dX3_movesOn_23 (by decide) (fun c2 => ?_) (fun c2 => ?_)
        · replace hf := it_t c2 hf
          refine lv_iinc (v := (x4 + 1)) (lv' := [(4, .int (x4 + 1)), (0, .ref o), (1, .int x1), (2, .int x2), (3, .int x3)]) hx hb dX3_movesOn_145 hl (k := 4) rfl rfl (by decide) rfl (fun ls hl => ?_)
          refine lv_goto (tgt := 3) hx hb dX3_movesOn_148 (by decide) ?_
          exact (ih) x1 x2 x3 (x4 + 1) lm rw rh lg lh ls H locs hP hS (lv_sub (l' := [(0, .ref o), (1, .int x1), (2, .int x2), (3, .int x3), (4, .int (x4 + 1))]) hl [1, 2, 3, 4, 0] rfl) hf
        · replace hf := it_f c2 hf
          refine lv_aload_n hx hb dX3_movesOn_26 rfl (lv_at hl 0 rfl) ?_
          refine lv_iload hx hb dX3_movesOn_27 (lv_at hl 4 rfl) ?_
          refine lv_iload_n hx hb dX3_movesOn_29 rfl (lv_at hl 1 rfl) ?_
          obtain ⟨v3, hv3, hf⟩ := ob_s hf
          refine mc_X3_X3_couldHave S hC hK hP hv3 hl.1 ⟨Nat.le_of_ble_eq_true rfl, Nat.le_of_ble_eq_true rfl⟩ (Nat.le_of_ble_eq_true rfl) ⟨Nat.zero_le _, Nat.zero_le _⟩ dX3_movesOn_30 (fun hnv3 => ?_)
          refine lv_if_ne (tgt := 39) hx hb dX3_movesOn_33 (by decide) (fun c4 => ?_) (fun c4 => ?_)
          · replace hf := it_f c4 hf
            refine lv_aload_n hx hb dX3_movesOn_39 rfl (lv_at hl 0 rfl) ?_
            refine mg_26 S hC hK hP dX3_movesOn_40 ?_
            refine lv_iload_n hx hb dX3_movesOn_43 rfl (lv_at hl 2 rfl) ?_
            refine lv_iload hx hb dX3_movesOn_44 (lv_at hl 4 rfl) ?_
            obtain ⟨g5, hf⟩ := gd_t hf
            refine ms_26 S hC hD hK hP hS (inR_vp g5) rfl dX3_movesOn_46 (fun H locs hP hS => ?_)
            refine lv_aload_n hx hb dX3_movesOn_47 rfl (lv_at hl 0 rfl) ?_
            refine mg_27 S hC hK hP dX3_movesOn_48 ?_
            refine lv_iload_n hx hb dX3_movesOn_51 rfl (lv_at hl 2 rfl) ?_
            refine lv_iload_n hx hb dX3_movesOn_52 rfl (lv_at hl 1 rfl) ?_
            obtain ⟨g6, hf⟩ := gd_t hf
            refine ms_27 S hC hD hK hP hS (inR_vp g6) rfl dX3_movesOn_53 (fun H locs hP hS => ?_)
            refine lv_iload_n hx hb dX3_movesOn_54 rfl (lv_at hl 2 rfl) ?_
            refine lv_iconst hx hb dX3_movesOn_55 kc_i1 ?_
            refine lv_iadd hx hb dX3_movesOn_56 ?_
            refine lv_aload_n hx hb dX3_movesOn_57 rfl (lv_at hl 0 rfl) ?_
            refine mg_30 S hC hK hP dX3_movesOn_58 ?_
            refine lv_icmp_le (tgt := 114) hx hb dX3_movesOn_61 (by decide) (fun c7 => ?_) (fun c7 => ?_)
            · replace hf := it_t c7 hf
              exact (w114 (f_X3_movesOn_3 n (f_X3_movesOn 6 nw) nw) (ih)) x1 x2 x3 x4 lm (upd rw x2.toNatClampNeg x4) (upd rh x2.toNatClampNeg x1) lg lh ls H locs hP hS hl hf
            · replace hf := it_f c7 hf
              refine lv_aload_n hx hb dX3_movesOn_64 rfl (lv_at hl 0 rfl) ?_
              refine lv_iload_n hx hb dX3_movesOn_65 rfl (lv_at hl 2 rfl) ?_
              refine lv_iconst hx hb dX3_movesOn_66 kc_i1 ?_
              refine lv_iadd hx hb dX3_movesOn_67 ?_
              refine mp_30 S hC hD hK hP hS dX3_movesOn_68 (fun H locs hP hS => ?_)
              refine lv_iconst hx hb dX3_movesOn_71 kc_i0 ?_
              refine lv_istore (lv' := [(5, .int 0), (0, .ref o), (1, .int x1), (2, .int x2), (3, .int x3), (4, .int x4)]) hx hb dX3_movesOn_72 hl (by decide) rfl (fun ls hl => ?_)
              exact (w74 FU (f_X3_movesOn_114 (f_X3_movesOn_3 n (f_X3_movesOn 6 nw) nw) (f_X3_movesOn 6 nw) nw) (w114 (f_X3_movesOn_3 n (f_X3_movesOn 6 nw) nw) (ih))) x1 x2 x3 x4 0 (x2 + 1) (upd rw x2.toNatClampNeg x4) (upd rh x2.toNatClampNeg x1) lg lh ls H locs hP hS (lv_sub (l' := [(0, .ref o), (1, .int x1), (2, .int x2), (3, .int x3), (4, .int x4), (5, .int 0)]) hl [1, 2, 3, 4, 5, 0] rfl) hf
          · replace hf := it_t c4 hf
            refine lv_goto (tgt := 145) hx hb dX3_movesOn_36 (by decide) ?_
            refine lv_iinc (v := (x4 + 1)) (lv' := [(4, .int (x4 + 1)), (0, .ref o), (1, .int x1), (2, .int x2), (3, .int x3)]) hx hb dX3_movesOn_145 hl (k := 4) rfl rfl (by decide) rfl (fun ls hl => ?_)
            refine lv_goto (tgt := 3) hx hb dX3_movesOn_148 (by decide) ?_
            exact (ih) x1 x2 x3 (x4 + 1) lm rw rh lg lh ls H locs hP hS (lv_sub (l' := [(0, .ref o), (1, .int x1), (2, .int x2), (3, .int x3), (4, .int (x4 + 1))]) hl [1, 2, 3, 4, 0] rfl) hf
  suffices hg : ∀ (H : Heap) (locs : List Loc), va_P D cl (mW mi cI cJ cB o ad th tp st fk fp ac si fr tt kd nu fa pl fo wd ci gr lm om nw rd aa kp ta nm rn gv gt rw rh lg lh ou) H → va_S (mA o ad) s.heap H locs → W p l e (rM 11 260) s m ([.ref o, .int a0, .int a1, .int a2] : List Value).toArray below meth c H locs 0 0 (MQ below (gQ D cl none True (mW mi cI cJ cB o ad th tp st fk fp ac si fr tt kd nu fa pl fo wd ci gr out.1 om nw rd aa kp ta nm rn gv gt out.2.1 out.2.2.1 out.2.2.2.1 out.2.2.2.2 ou) (mA o ad)) ([.ref o, .int a0, .int a1, .int a2] : List Value).toArray s 0 0 (mA o ad)) (F0 m 0 ls []) from hg s.heap [] hP va_S.rf
  clear hP
  intro H locs hP hS
  have hf : f_X3_movesOn (6 + 1) nw lm rw rh lg lh a0 a1 a2 = some out := hf
  rw [f_X3_movesOn] at hf
  refine lv_iconst hx hb dX3_movesOn_0 kc_i0 ?_
  refine lv_istore (lv' := [(4, .int 0), (0, .ref o), (1, .int a0), (2, .int a1), (3, .int a2)]) hx hb dX3_movesOn_1 hl (by decide) rfl (fun ls hl => ?_)
  exact (w3 FU) a0 a1 a2 0 lm rw rh lg lh ls H locs hP hS (lv_sub (l' := [(0, .ref o), (1, .int a0), (2, .int a1), (3, .int a2), (4, .int 0)]) hl [1, 2, 3, 4, 0] rfl) hf
set_option maxRecDepth 100000 in
theorem mc_X3_X3_movesOn_7 {a0 : Int32} {a1 : Int32} {a2 : Int32} {out : Int32 × (Nat → Int32) × (Nat → Int32) × (Nat → Int32) × (Nat → Int32)} (S : CallFix p m c cc nL s args lw_all RX3) (hC : mC cl tys mi cI cJ cB) (hD : mD o ad) (hK : va_K D cl tys s) (hP : va_P D cl (mW mi cI cJ cB o ad th tp st fk fp ac si fr tt kd nu fa pl fo wd ci gr lm om nw rd aa kp ta nm rn gv gt rw rh lg lh ou) H) (hS : va_S (mA o ad) H0 H locs) (hf : f_X3_movesOn 7 nw lm rw rh lg lh a0 a1 a2 = some out) (hsz : ls.size = nL) (hR : 11 + 1 ≤ R.frames ∧ 8 + (6 + 11) + 260 ≤ R.locals) (hW : (rest.map fun v => v.category).sum ≤ 8) (hcs : cells ≤ R.cells ∧ slots ≤ R.slots) (hdg : decode cc pc = .ok (.invokevirtual 386, 3)) (kk : ∀ (H1 : Heap) (locs1 : List Loc), True → va_P D cl (mW mi cI cJ cB o ad th tp st fk fp ac si fr tt kd nu fa pl fo wd ci gr out.1 om nw rd aa kp ta nm rn gv gt out.2.1 out.2.2.1 out.2.2.2.1 out.2.2.2.2 ou) H1 → va_S (mA o ad) H0 H1 locs1 → W p l e R s m args below meth c H1 locs1 cells slots Q (F0 m (pc + 3) ls (rest))) : W p l e R s m args below meth c H locs cells slots Q (F0 m pc ls (.int a2 :: .int a1 :: .int a0 :: .ref o :: rest)) :=
  gc_Vv (As := [.int a0, .int a1, .int a2]) S (mm_X3_movesOn_7 hC hD hf) (cwV 3 S.2.2.2.2 (lw_V q2558 q2560 qs164 q189 q2561) rfl rfl rfl hd_X3_movesOn hR) (gPreV hK hP hC.1 (q0 := 0) rfl) rfl hsz rfl hW hdg hcs hS kk
set_option maxHeartbeats 4000000 in
set_option maxRecDepth 100000 in
theorem mm_X3_movesOn_8 {a0 : Int32} {a1 : Int32} {a2 : Int32} {out : Int32 × (Nat → Int32) × (Nat → Int32) × (Nat → Int32) × (Nat → Int32)} (hC : mC cl tys mi cI cJ cB) (hD : mD o ad) (hf : f_X3_movesOn 8 nw lm rw rh lg lh a0 a1 a2 = some out) : Met l yX3_movesOn (ws_ yX3_movesOn cX3_movesOn 6 none) (rM 12 285) (gPc D cl tys [.ref o, .int a0, .int a1, .int a2] (mW mi cI cJ cB o ad th tp st fk fp ac si fr tt kd nu fa pl fo wd ci gr lm om nw rd aa kp ta nm rn gv gt rw rh lg lh ou)) (gQ D cl none True (mW mi cI cJ cB o ad th tp st fk fp ac si fr tt kd nu fa pl fo wd ci gr out.1 om nw rd aa kp ta nm rn gv gt out.2.1 out.2.2.1 out.2.2.2.1 out.2.2.2.2 ou) (mA o ad)) 0 0 (mA o ad) := by
  refine gGo (by decide +kernel) (Nat.le_of_ble_eq_true rfl) (fun p e s m below meth c ls S hr hlocks hK hP hl => ?_)
  have S : CallFix p m c cX3_movesOn 6 s _ lw_all RX3 := S
  obtain ⟨hx, hb, hml, hown, hts⟩ := id S
  have hl : lv_has ls 6 [(0, .ref o), (1, .int a0), (2, .int a1), (3, .int a2)] := hl
  have w74 : ∀ (n : Nat) (k114 : Int32 → Int32 → Int32 → Int32 → Int32 → (Nat → Int32) → (Nat → Int32) → (Nat → Int32) → (Nat → Int32) → Option (Int32 × (Nat → Int32) × (Nat → Int32) × (Nat → Int32) × (Nat → Int32))), (∀ (b0 : Int32) (b1 : Int32) (b2 : Int32) (b3 : Int32) (b4 : Int32) (b5 : (Nat → Int32)) (b6 : (Nat → Int32)) (b7 : (Nat → Int32)) (b8 : (Nat → Int32)) (ls : Array Slot) (H : Heap) (locs : List Loc), va_P D cl (mW mi cI cJ cB o ad th tp st fk fp ac si fr tt kd nu fa pl fo wd ci gr b4 om nw rd aa kp ta nm rn gv gt b5 b6 b7 b8 ou) H → va_S (mA o ad) s.heap H locs → lv_has ls 6 [(0, .ref o), (1, .int b0), (2, .int b1), (3, .int b2), (4, .int b3)] → k114 b0 b1 b2 b3 b4 b5 b6 b7 b8 = some out → W p l e (rM 12 285) s m ([.ref o, .int a0, .int a1, .int a2] : List Value).toArray below meth c H locs 0 0 (MQ below (gQ D cl none True (mW mi cI cJ cB o ad th tp st fk fp ac si fr tt kd nu fa pl fo wd ci gr out.1 om nw rd aa kp ta nm rn gv gt out.2.1 out.2.2.1 out.2.2.2.1 out.2.2.2.2 ou) (mA o ad)) ([.ref o, .int a0, .int a1, .int a2] : List Value).toArray s 0 0 (mA o ad)) (F0 m 114 ls [])) → ∀ (x1 : Int32) (x2 : Int32) (x3 : Int32) (x4 : Int32) (x5 : Int32) (lm : Int32) (rw : (Nat → Int32)) (rh : (Nat → Int32)) (lg : (Nat → Int32)) (lh : (Nat → Int32)) (ls : Array Slot) (H : Heap) (locs : List Loc), va_P D cl (mW mi cI cJ cB o ad th tp st fk fp ac si fr tt kd nu fa pl fo wd ci gr lm om nw rd aa kp ta nm rn gv gt rw rh lg lh ou) H → va_S (mA o ad) s.heap H locs → lv_has ls 6 [(0, .ref o), (1, .int x1), (2, .int x2), (3, .int x3), (4, .int x4), (5, .int x5)] → f_X3_movesOn_74 n k114 (f_X3_movesOn 7 nw) nw x1 x2 x3 x4 x5 lm rw rh lg lh = some out → W p l e (rM 12 285) s m ([.ref o, .int a0, .int a1, .int a2] : List Value).toArray below meth c H locs 0 0 (MQ below (gQ D cl none True (mW mi cI cJ cB o ad th tp st fk fp ac si fr tt kd nu fa pl fo wd ci gr out.1 om nw rd aa kp ta nm rn gv gt out.2.1 out.2.2.1 out.2.2.2.1 out.2.2.2.2 ou) (mA o ad)) ([.ref o, .int a0, .int a1, .int a2] : List Value).toArray s 0 0 (mA o ad)) (F0 m 74 ls []) := by
    intro n
    induction n with
    | zero =>
      intro k114 hk114 x1 x2 x3 x4 x5 lm rw rh lg lh ls H locs hP hS hl hf
      exact absurd hf (by rw [f_X3_movesOn_74]; exact nofun)
    | succ n ih =>
      intro k114 hk114 x1 x2 x3 x4 x5 lm rw rh lg lh ls H locs hP hS hl hf
      rw [f_X3_movesOn_74] at hf
      refine lv_iload hx hb dX3_movesOn_74 (lv_at hl 5 rfl) ?_
      refine lv_iload_n hx hb dX3_movesOn_76 rfl (lv_at hl 2 rfl) ?_
      refine lv_icmp_gt (tgt := 114) hx hb dX3_movesOn_77 (by decide) (fun c1 => ?_) (fun c1 => ?_)
      · replace hf := it_t c1 hf
        exact hk114 x1 x2 x3 x4 lm rw rh lg lh ls H locs hP hS (lv_sub (l' := [(0, .ref o), (1, .int x1), (2, .int x2), (3, .int x3), (4, .int x4)]) hl [0, 1, 2, 3, 4] rfl) hf
      · replace hf := it_f c1 hf
        refine lv_aload_n hx hb dX3_movesOn_80 rfl (lv_at hl 0 rfl) ?_
        refine mg_28 S hC hK hP dX3_movesOn_81 ?_
        refine lv_iload hx hb dX3_movesOn_84 (lv_at hl 5 rfl) ?_
        refine lv_aload_n hx hb dX3_movesOn_86 rfl (lv_at hl 0 rfl) ?_
        refine mg_26 S hC hK hP dX3_movesOn_87 ?_
        refine lv_iload hx hb dX3_movesOn_90 (lv_at hl 5 rfl) ?_
        obtain ⟨g2, hf⟩ := gd_t hf
        refine ma_26 S hC hK hP (inR_vp g2) rfl dX3_movesOn_92 ?_
        obtain ⟨g3, hf⟩ := gd_t hf
        refine ms_28 S hC hD hK hP hS (inR_vp g3) rfl dX3_movesOn_93 (fun H locs hP hS => ?_)
        refine lv_aload_n hx hb dX3_movesOn_94 rfl (lv_at hl 0 rfl) ?_
        refine mg_29 S hC hK hP dX3_movesOn_95 ?_
        refine lv_iload hx hb dX3_movesOn_98 (lv_at hl 5 rfl) ?_
        refine lv_aload_n hx hb dX3_movesOn_100 rfl (lv_at hl 0 rfl) ?_
        refine mg_27 S hC hK hP dX3_movesOn_101 ?_
        refine lv_iload hx hb dX3_movesOn_104 (lv_at hl 5 rfl) ?_
        obtain ⟨g4, hf⟩ := gd_t hf
        refine ma_27 S hC hK hP (inR_vp g4) rfl dX3_movesOn_106 ?_
        obtain ⟨g5, hf⟩ := gd_t hf
        refine ms_29 S hC hD hK hP hS (inR_vp g5) rfl dX3_movesOn_107 (fun H locs hP hS => ?_)
        refine lv_iinc (v := (x5 + 1)) (lv' := [(5, .int (x5 + 1)), (0, .ref o), (1, .int x1), (2, .int x2), (3, .int x3), (4, .int x4)]) hx hb dX3_movesOn_108 hl (k := 5) rfl rfl (by decide) rfl (fun ls hl => ?_)
        refine lv_goto (tgt := 74) hx hb dX3_movesOn_111 (by decide) ?_
        exact (ih k114 hk114) x1 x2 x3 x4 (x5 + 1) lm rw rh (upd lg x5.toNatClampNeg (rw x5.toNatClampNeg)) (upd lh x5.toNatClampNeg (rh x5.toNatClampNeg)) ls H locs hP hS (lv_sub (l' := [(0, .ref o), (1, .int x1), (2, .int x2), (3, .int x3), (4, .int x4), (5, .int (x5 + 1))]) hl [1, 2, 3, 4, 5, 0] rfl) hf
  have w114 : ∀ (k3 : Int32 → Int32 → Int32 → Int32 → Int32 → (Nat → Int32) → (Nat → Int32) → (Nat → Int32) → (Nat → Int32) → Option (Int32 × (Nat → Int32) × (Nat → Int32) × (Nat → Int32) × (Nat → Int32))), (∀ (b0 : Int32) (b1 : Int32) (b2 : Int32) (b3 : Int32) (b4 : Int32) (b5 : (Nat → Int32)) (b6 : (Nat → Int32)) (b7 : (Nat → Int32)) (b8 : (Nat → Int32)) (ls : Array Slot) (H : Heap) (locs : List Loc), va_P D cl (mW mi cI cJ cB o ad th tp st fk fp ac si fr tt kd nu fa pl fo wd ci gr b4 om nw rd aa kp ta nm rn gv gt b5 b6 b7 b8 ou) H → va_S (mA o ad) s.heap H locs → lv_has ls 6 [(0, .ref o), (1, .int b0), (2, .int b1), (3, .int b2), (4, .int b3)] → k3 b0 b1 b2 b3 b4 b5 b6 b7 b8 = some out → W p l e (rM 12 285) s m ([.ref o, .int a0, .int a1, .int a2] : List Value).toArray below meth c H locs 0 0 (MQ below (gQ D cl none True (mW mi cI cJ cB o ad th tp st fk fp ac si fr tt kd nu fa pl fo wd ci gr out.1 om nw rd aa kp ta nm rn gv gt out.2.1 out.2.2.1 out.2.2.2.1 out.2.2.2.2 ou) (mA o ad)) ([.ref o, .int a0, .int a1, .int a2] : List Value).toArray s 0 0 (mA o ad)) (F0 m 3 ls [])) → ∀ (x1 : Int32) (x2 : Int32) (x3 : Int32) (x4 : Int32) (lm : Int32) (rw : (Nat → Int32)) (rh : (Nat → Int32)) (lg : (Nat → Int32)) (lh : (Nat → Int32)) (ls : Array Slot) (H : Heap) (locs : List Loc), va_P D cl (mW mi cI cJ cB o ad th tp st fk fp ac si fr tt kd nu fa pl fo wd ci gr lm om nw rd aa kp ta nm rn gv gt rw rh lg lh ou) H → va_S (mA o ad) s.heap H locs → lv_has ls 6 [(0, .ref o), (1, .int x1), (2, .int x2), (3, .int x3), (4, .int x4)] → f_X3_movesOn_114 k3 (f_X3_movesOn 7 nw) nw x1 x2 x3 x4 lm rw rh lg lh = some out → W p l e (rM 12 285) s m ([.ref o, .int a0, .int a1, .int a2] : List Value).toArray below meth c H locs 0 0 (MQ below (gQ D cl none True (mW mi cI cJ cB o ad th tp st fk fp ac si fr tt kd nu fa pl fo wd ci gr out.1 om nw rd aa kp ta nm rn gv gt out.2.1 out.2.2.1 out.2.2.2.1 out.2.2.2.2 ou) (mA o ad)) ([.ref o, .int a0, .int a1, .int a2] : List Value).toArray s 0 0 (mA o ad)) (F0 m 114 ls []) := by
    intro k3 hk3 x1 x2 x3 x4 lm rw rh lg lh ls H locs hP hS hl hf
    rw [f_X3_movesOn_114] at hf
    refine lv_aload_n hx hb dX3_movesOn_114 rfl (lv_at hl 0 rfl) ?_
    refine lv_iload hx hb dX3_movesOn_115 (lv_at hl 4 rfl) ?_
    refine lv_iconst hx hb dX3_movesOn_117 kc_i4 ?_
    obtain ⟨v1, hv1, hf⟩ := ob_s hf
    refine mc_X3_X3_of S hC hK hP hv1 hl.1 ⟨Nat.le_of_ble_eq_true rfl, Nat.le_of_ble_eq_true rfl⟩ (Nat.le_of_ble_eq_true rfl) ⟨Nat.zero_le _, Nat.zero_le _⟩ dX3_movesOn_118 (fun _ => ?_)
    refine lv_iconst hx hb dX3_movesOn_121 kc_im1 ?_
    refine lv_icmp_eq (tgt := 145) hx hb dX3_movesOn_122 (by decide) (fun c2 => ?_) (fun c2 => ?_)
    · replace hf := it_t c2 hf
      refine lv_iinc (v := (x4 + 1)) (lv' := [(4, .int (x4 + 1)), (0, .ref o), (1, .int x1), (2, .int x2), (3, .int x3)]) hx hb dX3_movesOn_145 hl (k := 4) rfl rfl (by decide) rfl (fun ls hl => ?_)
      refine lv_goto (tgt := 3) hx hb dX3_movesOn_148 (by decide) ?_
      exact hk3 x1 x2 x3 (x4 + 1) lm rw rh lg lh ls H locs hP hS (lv_sub (l' := [(0, .ref o), (1, .int x1), (2, .int x2), (3, .int x3), (4, .int (x4 + 1))]) hl [1, 2, 3, 4, 0] rfl) hf
    · replace hf := it_f c2 hf
      refine lv_aload_n hx hb dX3_movesOn_125 rfl (lv_at hl 0 rfl) ?_
      refine lv_aload_n hx hb dX3_movesOn_126 rfl (lv_at hl 0 rfl) ?_
      refine lv_iload hx hb dX3_movesOn_127 (lv_at hl 4 rfl) ?_
      refine lv_iconst hx hb dX3_movesOn_129 kc_i4 ?_
      obtain ⟨v3, hv3, hf⟩ := ob_s hf
      refine mc_X3_X3_of S hC hK hP hv3 hl.1 ⟨Nat.le_of_ble_eq_true rfl, Nat.le_of_ble_eq_true rfl⟩ (Nat.le_of_ble_eq_true rfl) ⟨Nat.zero_le _, Nat.zero_le _⟩ dX3_movesOn_130 (fun _ => ?_)
      refine lv_iload_n hx hb dX3_movesOn_133 rfl (lv_at hl 2 rfl) ?_
      refine lv_iconst hx hb dX3_movesOn_134 kc_i1 ?_
      refine lv_iadd hx hb dX3_movesOn_135 ?_
      refine lv_iload_n hx hb dX3_movesOn_136 rfl (lv_at hl 3 rfl) ?_
      refine lv_iconst hx hb dX3_movesOn_137 kc_i1 ?_
      refine lv_iload hx hb dX3_movesOn_138 (lv_at hl 4 rfl) ?_
      refine lv_ishl hx hb dX3_movesOn_140 ?_
      refine lv_ior hx hb dX3_movesOn_141 ?_
      obtain ⟨v4, hv4, hf⟩ := ob_s hf
      refine mc_X3_X3_movesOn_7 S hC hD hK hP hS hv4 hl.1 ⟨Nat.le_of_ble_eq_true rfl, Nat.le_of_ble_eq_true rfl⟩ (Nat.le_of_ble_eq_true rfl) ⟨Nat.zero_le _, Nat.zero_le _⟩ dX3_movesOn_142 (fun H locs _ hP hS => ?_)
      refine lv_iinc (v := (x4 + 1)) (lv' := [(4, .int (x4 + 1)), (0, .ref o), (1, .int x1), (2, .int x2), (3, .int x3)]) hx hb dX3_movesOn_145 hl (k := 4) rfl rfl (by decide) rfl (fun ls hl => ?_)
      refine lv_goto (tgt := 3) hx hb dX3_movesOn_148 (by decide) ?_
      exact hk3 x1 x2 x3 (x4 + 1) v4.1 v4.2.1 v4.2.2.1 v4.2.2.2.1 v4.2.2.2.2 ls H locs hP hS (lv_sub (l' := [(0, .ref o), (1, .int x1), (2, .int x2), (3, .int x3), (4, .int (x4 + 1))]) hl [1, 2, 3, 4, 0] rfl) hf
  have w3 : ∀ (n : Nat) , ∀ (x1 : Int32) (x2 : Int32) (x3 : Int32) (x4 : Int32) (lm : Int32) (rw : (Nat → Int32)) (rh : (Nat → Int32)) (lg : (Nat → Int32)) (lh : (Nat → Int32)) (ls : Array Slot) (H : Heap) (locs : List Loc), va_P D cl (mW mi cI cJ cB o ad th tp st fk fp ac si fr tt kd nu fa pl fo wd ci gr lm om nw rd aa kp ta nm rn gv gt rw rh lg lh ou) H → va_S (mA o ad) s.heap H locs → lv_has ls 6 [(0, .ref o), (1, .int x1), (2, .int x2), (3, .int x3), (4, .int x4)] → f_X3_movesOn_3 n (f_X3_movesOn 7 nw) nw x1 x2 x3 x4 lm rw rh lg lh = some out → W p l e (rM 12 285) s m ([.ref o, .int a0, .int a1, .int a2] : List Value).toArray below meth c H locs 0 0 (MQ below (gQ D cl none True (mW mi cI cJ cB o ad th tp st fk fp ac si fr tt kd nu fa pl fo wd ci gr out.1 om nw rd aa kp ta nm rn gv gt out.2.1 out.2.2.1 out.2.2.2.1 out.2.2.2.2 ou) (mA o ad)) ([.ref o, .int a0, .int a1, .int a2] : List Value).toArray s 0 0 (mA o ad)) (F0 m 3 ls []) := by
    intro n
    induction n with
    | zero =>
      intro x1 x2 x3 x4 lm rw rh lg lh ls H locs hP hS hl hf
      exact absurd hf (by rw [f_X3_movesOn_3]; exact nofun)
    | succ n ih =>
      intro x1 x2 x3 x4 lm rw rh lg lh ls H locs hP hS hl hf
      rw [f_X3_movesOn_3] at hf
      refine lv_iload hx hb dX3_movesOn_3 (lv_at hl 4 rfl) ?_
      refine lv_aload_n hx hb dX3_movesOn_5 rfl (lv_at hl 0 rfl) ?_
      refine mg_1 S hC hK hP dX3_movesOn_6 ?_
      refine lv_sipush hx hb dX3_movesOn_9 kc_s231 ?_
      refine ma_1 S hC hK hP kv_231_390 kn_231 dX3_movesOn_12 ?_
      refine lv_icmp_ge (tgt := 151) hx hb dX3_movesOn_13 (by decide) (fun c1 => ?_) (fun c1 => ?_)
      · replace hf := it_t c1 hf
        have hE := Option.some.inj hf
        subst hE
        exact gt_wv S hr hlocks trivial hP hS dX3_movesOn_151
      · replace hf := it_f c1 hf
        refine lv_iload_n hx hb dX3_movesOn_16 rfl (lv_at hl 3 rfl) ?_
        refine lv_iload hx hb dX3_movesOn_17 (lv_at hl 4 rfl) ?_
        refine lv_ishr hx hb dX3_movesOn_19 ?_
        refine lv_iconst hx hb dX3_movesOn_20 kc_i1 ?_
        refine lv_iand hx hb dX3_movesOn_21 ?_
        refine lv_iconst hx hb dX3_movesOn_22 kc_i1 ?_
        refine lv_icmp_eq (tgt := 145) hx hb dX3_movesOn_23 (by decide) (fun c2 => ?_) (fun c2 => ?_)
        · replace hf := it_t c2 hf
          refine lv_iinc (v := (x4 + 1)) (lv' := [(4, .int (x4 + 1)), (0, .ref o), (1, .int x1), (2, .int x2), (3, .int x3)]) hx hb dX3_movesOn_145 hl (k := 4) rfl rfl (by decide) rfl (fun ls hl => ?_)
          refine lv_goto (tgt := 3) hx hb dX3_movesOn_148 (by decide) ?_
          exact (ih) x1 x2 x3 (x4 + 1) lm rw rh lg lh ls H locs hP hS (lv_sub (l' := [(0, .ref o), (1, .int x1), (2, .int x2), (3, .int x3), (4, .int (x4 + 1))]) hl [1, 2, 3, 4, 0] rfl) hf
        · replace hf := it_f c2 hf
          refine lv_aload_n hx hb dX3_movesOn_26 rfl (lv_at hl 0 rfl) ?_
          refine lv_iload hx hb dX3_movesOn_27 (lv_at hl 4 rfl) ?_
          refine lv_iload_n hx hb dX3_movesOn_29 rfl (lv_at hl 1 rfl) ?_
          obtain ⟨v3, hv3, hf⟩ := ob_s hf
          refine mc_X3_X3_couldHave S hC hK hP hv3 hl.1 ⟨Nat.le_of_ble_eq_true rfl, Nat.le_of_ble_eq_true rfl⟩ (Nat.le_of_ble_eq_true rfl) ⟨Nat.zero_le _, Nat.zero_le _⟩ dX3_movesOn_30 (fun hnv3 => ?_)
          refine lv_if_ne (tgt := 39) hx hb dX3_movesOn_33 (by decide) (fun c4 => ?_) (fun c4 => ?_)
          · replace hf := it_f c4 hf
            refine lv_aload_n hx hb dX3_movesOn_39 rfl (lv_at hl 0 rfl) ?_
            refine mg_26 S hC hK hP dX3_movesOn_40 ?_
            refine lv_iload_n hx hb dX3_movesOn_43 rfl (lv_at hl 2 rfl) ?_
            refine lv_iload hx hb dX3_movesOn_44 (lv_at hl 4 rfl) ?_
            obtain ⟨g5, hf⟩ := gd_t hf
            refine ms_26 S hC hD hK hP hS (inR_vp g5) rfl dX3_movesOn_46 (fun H locs hP hS => ?_)
            refine lv_aload_n hx hb dX3_movesOn_47 rfl (lv_at hl 0 rfl) ?_
            refine mg_27 S hC hK hP dX3_movesOn_48 ?_
            refine lv_iload_n hx hb dX3_movesOn_51 rfl (lv_at hl 2 rfl) ?_
            refine lv_iload_n hx hb dX3_movesOn_52 rfl (lv_at hl 1 rfl) ?_
            obtain ⟨g6, hf⟩ := gd_t hf
            refine ms_27 S hC hD hK hP hS (inR_vp g6) rfl dX3_movesOn_53 (fun H locs hP hS => ?_)
            refine lv_iload_n hx hb dX3_movesOn_54 rfl (lv_at hl 2 rfl) ?_
            refine lv_iconst hx hb dX3_movesOn_55 kc_i1 ?_
            refine lv_iadd hx hb dX3_movesOn_56 ?_
            refine lv_aload_n hx hb dX3_movesOn_57 rfl (lv_at hl 0 rfl) ?_
            refine mg_30 S hC hK hP dX3_movesOn_58 ?_
            refine lv_icmp_le (tgt := 114) hx hb dX3_movesOn_61 (by decide) (fun c7 => ?_) (fun c7 => ?_)
            · replace hf := it_t c7 hf
              exact (w114 (f_X3_movesOn_3 n (f_X3_movesOn 7 nw) nw) (ih)) x1 x2 x3 x4 lm (upd rw x2.toNatClampNeg x4) (upd rh x2.toNatClampNeg x1) lg lh ls H locs hP hS hl hf
            · replace hf := it_f c7 hf
              refine lv_aload_n hx hb dX3_movesOn_64 rfl (lv_at hl 0 rfl) ?_
              refine lv_iload_n hx hb dX3_movesOn_65 rfl (lv_at hl 2 rfl) ?_
              refine lv_iconst hx hb dX3_movesOn_66 kc_i1 ?_
              refine lv_iadd hx hb dX3_movesOn_67 ?_
              refine mp_30 S hC hD hK hP hS dX3_movesOn_68 (fun H locs hP hS => ?_)
              refine lv_iconst hx hb dX3_movesOn_71 kc_i0 ?_
              refine lv_istore (lv' := [(5, .int 0), (0, .ref o), (1, .int x1), (2, .int x2), (3, .int x3), (4, .int x4)]) hx hb dX3_movesOn_72 hl (by decide) rfl (fun ls hl => ?_)
              exact (w74 FU (f_X3_movesOn_114 (f_X3_movesOn_3 n (f_X3_movesOn 7 nw) nw) (f_X3_movesOn 7 nw) nw) (w114 (f_X3_movesOn_3 n (f_X3_movesOn 7 nw) nw) (ih))) x1 x2 x3 x4 0 (x2 + 1) (upd rw x2.toNatClampNeg x4) (upd rh x2.toNatClampNeg x1) lg lh ls H locs hP hS (lv_sub (l' := [(0, .ref o), (1, .int x1), (2, .int x2), (3, .int x3), (4, .int x4), (5, .int 0)]) hl [1, 2, 3, 4, 5, 0] rfl) hf
          · replace hf := it_t c4 hf
            refine lv_goto (tgt := 145) hx hb dX3_movesOn_36 (by decide) ?_
            refine lv_iinc (v := (x4 + 1)) (lv' := [(4, .int (x4 + 1)), (0, .ref o), (1, .int x1), (2, .int x2), (3, .int x3)]) hx hb dX3_movesOn_145 hl (k := 4) rfl rfl (by decide) rfl (fun ls hl => ?_)
            refine lv_goto (tgt := 3) hx hb dX3_movesOn_148 (by decide) ?_
            exact (ih) x1 x2 x3 (x4 + 1) lm rw rh lg lh ls H locs hP hS (lv_sub (l' := [(0, .ref o), (1, .int x1), (2, .int x2), (3, .int x3), (4, .int (x4 + 1))]) hl [1, 2, 3, 4, 0] rfl) hf
  suffices hg : ∀ (H : Heap) (locs : List Loc), va_P D cl (mW mi cI cJ cB o ad th tp st fk fp ac si fr tt kd nu fa pl fo wd ci gr lm om nw rd aa kp ta nm rn gv gt rw rh lg lh ou) H → va_S (mA o ad) s.heap H locs → W p l e (rM 12 285) s m ([.ref o, .int a0, .int a1, .int a2] : List Value).toArray below meth c H locs 0 0 (MQ below (gQ D cl none True (mW mi cI cJ cB o ad th tp st fk fp ac si fr tt kd nu fa pl fo wd ci gr out.1 om nw rd aa kp ta nm rn gv gt out.2.1 out.2.2.1 out.2.2.2.1 out.2.2.2.2 ou) (mA o ad)) ([.ref o, .int a0, .int a1, .int a2] : List Value).toArray s 0 0 (mA o ad)) (F0 m 0 ls []) from hg s.heap [] hP va_S.rf
  clear hP
  intro H locs hP hS
  have hf : f_X3_movesOn (7 + 1) nw lm rw rh lg lh a0 a1 a2 = some out := hf
  rw [f_X3_movesOn] at hf
  refine lv_iconst hx hb dX3_movesOn_0 kc_i0 ?_
  refine lv_istore (lv' := [(4, .int 0), (0, .ref o), (1, .int a0), (2, .int a1), (3, .int a2)]) hx hb dX3_movesOn_1 hl (by decide) rfl (fun ls hl => ?_)
  exact (w3 FU) a0 a1 a2 0 lm rw rh lg lh ls H locs hP hS (lv_sub (l' := [(0, .ref o), (1, .int a0), (2, .int a1), (3, .int a2), (4, .int 0)]) hl [1, 2, 3, 4, 0] rfl) hf
set_option maxRecDepth 100000 in
theorem mc_X3_X3_movesOn_8 {a0 : Int32} {a1 : Int32} {a2 : Int32} {out : Int32 × (Nat → Int32) × (Nat → Int32) × (Nat → Int32) × (Nat → Int32)} (S : CallFix p m c cc nL s args lw_all RX3) (hC : mC cl tys mi cI cJ cB) (hD : mD o ad) (hK : va_K D cl tys s) (hP : va_P D cl (mW mi cI cJ cB o ad th tp st fk fp ac si fr tt kd nu fa pl fo wd ci gr lm om nw rd aa kp ta nm rn gv gt rw rh lg lh ou) H) (hS : va_S (mA o ad) H0 H locs) (hf : f_X3_movesOn 8 nw lm rw rh lg lh a0 a1 a2 = some out) (hsz : ls.size = nL) (hR : 12 + 1 ≤ R.frames ∧ 8 + (6 + 11) + 285 ≤ R.locals) (hW : (rest.map fun v => v.category).sum ≤ 8) (hcs : cells ≤ R.cells ∧ slots ≤ R.slots) (hdg : decode cc pc = .ok (.invokevirtual 386, 3)) (kk : ∀ (H1 : Heap) (locs1 : List Loc), True → va_P D cl (mW mi cI cJ cB o ad th tp st fk fp ac si fr tt kd nu fa pl fo wd ci gr out.1 om nw rd aa kp ta nm rn gv gt out.2.1 out.2.2.1 out.2.2.2.1 out.2.2.2.2 ou) H1 → va_S (mA o ad) H0 H1 locs1 → W p l e R s m args below meth c H1 locs1 cells slots Q (F0 m (pc + 3) ls (rest))) : W p l e R s m args below meth c H locs cells slots Q (F0 m pc ls (.int a2 :: .int a1 :: .int a0 :: .ref o :: rest)) :=
  gc_Vv (As := [.int a0, .int a1, .int a2]) S (mm_X3_movesOn_8 hC hD hf) (cwV 3 S.2.2.2.2 (lw_V q2558 q2560 qs164 q189 q2561) rfl rfl rfl hd_X3_movesOn hR) (gPreV hK hP hC.1 (q0 := 0) rfl) rfl hsz rfl hW hdg hcs hS kk
set_option maxHeartbeats 4000000 in
set_option maxRecDepth 100000 in
theorem mm_X3_movesOn_9 {a0 : Int32} {a1 : Int32} {a2 : Int32} {out : Int32 × (Nat → Int32) × (Nat → Int32) × (Nat → Int32) × (Nat → Int32)} (hC : mC cl tys mi cI cJ cB) (hD : mD o ad) (hf : f_X3_movesOn 9 nw lm rw rh lg lh a0 a1 a2 = some out) : Met l yX3_movesOn (ws_ yX3_movesOn cX3_movesOn 6 none) (rM 13 310) (gPc D cl tys [.ref o, .int a0, .int a1, .int a2] (mW mi cI cJ cB o ad th tp st fk fp ac si fr tt kd nu fa pl fo wd ci gr lm om nw rd aa kp ta nm rn gv gt rw rh lg lh ou)) (gQ D cl none True (mW mi cI cJ cB o ad th tp st fk fp ac si fr tt kd nu fa pl fo wd ci gr out.1 om nw rd aa kp ta nm rn gv gt out.2.1 out.2.2.1 out.2.2.2.1 out.2.2.2.2 ou) (mA o ad)) 0 0 (mA o ad) := by
  refine gGo (by decide +kernel) (Nat.le_of_ble_eq_true rfl) (fun p e s m below meth c ls S hr hlocks hK hP hl => ?_)
  have S : CallFix p m c cX3_movesOn 6 s _ lw_all RX3 := S
  obtain ⟨hx, hb, hml, hown, hts⟩ := id S
  have hl : lv_has ls 6 [(0, .ref o), (1, .int a0), (2, .int a1), (3, .int a2)] := hl
  have w74 : ∀ (n : Nat) (k114 : Int32 → Int32 → Int32 → Int32 → Int32 → (Nat → Int32) → (Nat → Int32) → (Nat → Int32) → (Nat → Int32) → Option (Int32 × (Nat → Int32) × (Nat → Int32) × (Nat → Int32) × (Nat → Int32))), (∀ (b0 : Int32) (b1 : Int32) (b2 : Int32) (b3 : Int32) (b4 : Int32) (b5 : (Nat → Int32)) (b6 : (Nat → Int32)) (b7 : (Nat → Int32)) (b8 : (Nat → Int32)) (ls : Array Slot) (H : Heap) (locs : List Loc), va_P D cl (mW mi cI cJ cB o ad th tp st fk fp ac si fr tt kd nu fa pl fo wd ci gr b4 om nw rd aa kp ta nm rn gv gt b5 b6 b7 b8 ou) H → va_S (mA o ad) s.heap H locs → lv_has ls 6 [(0, .ref o), (1, .int b0), (2, .int b1), (3, .int b2), (4, .int b3)] → k114 b0 b1 b2 b3 b4 b5 b6 b7 b8 = some out → W p l e (rM 13 310) s m ([.ref o, .int a0, .int a1, .int a2] : List Value).toArray below meth c H locs 0 0 (MQ below (gQ D cl none True (mW mi cI cJ cB o ad th tp st fk fp ac si fr tt kd nu fa pl fo wd ci gr out.1 om nw rd aa kp ta nm rn gv gt out.2.1 out.2.2.1 out.2.2.2.1 out.2.2.2.2 ou) (mA o ad)) ([.ref o, .int a0, .int a1, .int a2] : List Value).toArray s 0 0 (mA o ad)) (F0 m 114 ls [])) → ∀ (x1 : Int32) (x2 : Int32) (x3 : Int32) (x4 : Int32) (x5 : Int32) (lm : Int32) (rw : (Nat → Int32)) (rh : (Nat → Int32)) (lg : (Nat → Int32)) (lh : (Nat → Int32)) (ls : Array Slot) (H : Heap) (locs : List Loc), va_P D cl (mW mi cI cJ cB o ad th tp st fk fp ac si fr tt kd nu fa pl fo wd ci gr lm om nw rd aa kp ta nm rn gv gt rw rh lg lh ou) H → va_S (mA o ad) s.heap H locs → lv_has ls 6 [(0, .ref o), (1, .int x1), (2, .int x2), (3, .int x3), (4, .int x4), (5, .int x5)] → f_X3_movesOn_74 n k114 (f_X3_movesOn 8 nw) nw x1 x2 x3 x4 x5 lm rw rh lg lh = some out → W p l e (rM 13 310) s m ([.ref o, .int a0, .int a1, .int a2] : List Value).toArray below meth c H locs 0 0 (MQ below (gQ D cl none True (mW mi cI cJ cB o ad th tp st fk fp ac si fr tt kd nu fa pl fo wd ci gr out.1 om nw rd aa kp ta nm rn gv gt out.2.1 out.2.2.1 out.2.2.2.1 out.2.2.2.2 ou) (mA o ad)) ([.ref o, .int a0, .int a1, .int a2] : List Value).toArray s 0 0 (mA o ad)) (F0 m 74 ls []) := by
    intro n
    induction n with
    | zero =>
      intro k114 hk114 x1 x2 x3 x4 x5 lm rw rh lg lh ls H locs hP hS hl hf
      exact absurd hf (by rw [f_X3_movesOn_74]; exact nofun)
    | succ n ih =>
      intro k114 hk114 x1 x2 x3 x4 x5 lm rw rh lg lh ls H locs hP hS hl hf
      rw [f_X3_movesOn_74] at hf
      refine lv_iload hx hb dX3_movesOn_74 (lv_at hl 5 rfl) ?_
      refine lv_iload_n hx hb dX3_movesOn_76 rfl (lv_at hl 2 rfl) ?_
      refine lv_icmp_gt (tgt := 114) hx hb dX3_movesOn_77 (by decide) (fun c1 => ?_) (fun c1 => ?_)
      · replace hf := it_t c1 hf
        exact hk114 x1 x2 x3 x4 lm rw rh lg lh ls H locs hP hS (lv_sub (l' := [(0, .ref o), (1, .int x1), (2, .int x2), (3, .int x3), (4, .int x4)]) hl [0, 1, 2, 3, 4] rfl) hf
      · replace hf := it_f c1 hf
        refine lv_aload_n hx hb dX3_movesOn_80 rfl (lv_at hl 0 rfl) ?_
        refine mg_28 S hC hK hP dX3_movesOn_81 ?_
        refine lv_iload hx hb dX3_movesOn_84 (lv_at hl 5 rfl) ?_
        refine lv_aload_n hx hb dX3_movesOn_86 rfl (lv_at hl 0 rfl) ?_
        refine mg_26 S hC hK hP dX3_movesOn_87 ?_
        refine lv_iload hx hb dX3_movesOn_90 (lv_at hl 5 rfl) ?_
        obtain ⟨g2, hf⟩ := gd_t hf
        refine ma_26 S hC hK hP (inR_vp g2) rfl dX3_movesOn_92 ?_
        obtain ⟨g3, hf⟩ := gd_t hf
        refine ms_28 S hC hD hK hP hS (inR_vp g3) rfl dX3_movesOn_93 (fun H locs hP hS => ?_)
        refine lv_aload_n hx hb dX3_movesOn_94 rfl (lv_at hl 0 rfl) ?_
        refine mg_29 S hC hK hP dX3_movesOn_95 ?_
        refine lv_iload hx hb dX3_movesOn_98 (lv_at hl 5 rfl) ?_
        refine lv_aload_n hx hb dX3_movesOn_100 rfl (lv_at hl 0 rfl) ?_
        refine mg_27 S hC hK hP dX3_movesOn_101 ?_
        refine lv_iload hx hb dX3_movesOn_104 (lv_at hl 5 rfl) ?_
        obtain ⟨g4, hf⟩ := gd_t hf
        refine ma_27 S hC hK hP (inR_vp g4) rfl dX3_movesOn_106 ?_
        obtain ⟨g5, hf⟩ := gd_t hf
        refine ms_29 S hC hD hK hP hS (inR_vp g5) rfl dX3_movesOn_107 (fun H locs hP hS => ?_)
        refine lv_iinc (v := (x5 + 1)) (lv' := [(5, .int (x5 + 1)), (0, .ref o), (1, .int x1), (2, .int x2), (3, .int x3), (4, .int x4)]) hx hb dX3_movesOn_108 hl (k := 5) rfl rfl (by decide) rfl (fun ls hl => ?_)
        refine lv_goto (tgt := 74) hx hb dX3_movesOn_111 (by decide) ?_
        exact (ih k114 hk114) x1 x2 x3 x4 (x5 + 1) lm rw rh (upd lg x5.toNatClampNeg (rw x5.toNatClampNeg)) (upd lh x5.toNatClampNeg (rh x5.toNatClampNeg)) ls H locs hP hS (lv_sub (l' := [(0, .ref o), (1, .int x1), (2, .int x2), (3, .int x3), (4, .int x4), (5, .int (x5 + 1))]) hl [1, 2, 3, 4, 5, 0] rfl) hf
  have w114 : ∀ (k3 : Int32 → Int32 → Int32 → Int32 → Int32 → (Nat → Int32) → (Nat → Int32) → (Nat → Int32) → (Nat → Int32) → Option (Int32 × (Nat → Int32) × (Nat → Int32) × (Nat → Int32) × (Nat → Int32))), (∀ (b0 : Int32) (b1 : Int32) (b2 : Int32) (b3 : Int32) (b4 : Int32) (b5 : (Nat → Int32)) (b6 : (Nat → Int32)) (b7 : (Nat → Int32)) (b8 : (Nat → Int32)) (ls : Array Slot) (H : Heap) (locs : List Loc), va_P D cl (mW mi cI cJ cB o ad th tp st fk fp ac si fr tt kd nu fa pl fo wd ci gr b4 om nw rd aa kp ta nm rn gv gt b5 b6 b7 b8 ou) H → va_S (mA o ad) s.heap H locs → lv_has ls 6 [(0, .ref o), (1, .int b0), (2, .int b1), (3, .int b2), (4, .int b3)] → k3 b0 b1 b2 b3 b4 b5 b6 b7 b8 = some out → W p l e (rM 13 310) s m ([.ref o, .int a0, .int a1, .int a2] : List Value).toArray below meth c H locs 0 0 (MQ below (gQ D cl none True (mW mi cI cJ cB o ad th tp st fk fp ac si fr tt kd nu fa pl fo wd ci gr out.1 om nw rd aa kp ta nm rn gv gt out.2.1 out.2.2.1 out.2.2.2.1 out.2.2.2.2 ou) (mA o ad)) ([.ref o, .int a0, .int a1, .int a2] : List Value).toArray s 0 0 (mA o ad)) (F0 m 3 ls [])) → ∀ (x1 : Int32) (x2 : Int32) (x3 : Int32) (x4 : Int32) (lm : Int32) (rw : (Nat → Int32)) (rh : (Nat → Int32)) (lg : (Nat → Int32)) (lh : (Nat → Int32)) (ls : Array Slot) (H : Heap) (locs : List Loc), va_P D cl (mW mi cI cJ cB o ad th tp st fk fp ac si fr tt kd nu fa pl fo wd ci gr lm om nw rd aa kp ta nm rn gv gt rw rh lg lh ou) H → va_S (mA o ad) s.heap H locs → lv_has ls 6 [(0, .ref o), (1, .int x1), (2, .int x2), (3, .int x3), (4, .int x4)] → f_X3_movesOn_114 k3 (f_X3_movesOn 8 nw) nw x1 x2 x3 x4 lm rw rh lg lh = some out → W p l e (rM 13 310) s m ([.ref o, .int a0, .int a1, .int a2] : List Value).toArray below meth c H locs 0 0 (MQ below (gQ D cl none True (mW mi cI cJ cB o ad th tp st fk fp ac si fr tt kd nu fa pl fo wd ci gr out.1 om nw rd aa kp ta nm rn gv gt out.2.1 out.2.2.1 out.2.2.2.1 out.2.2.2.2 ou) (mA o ad)) ([.ref o, .int a0, .int a1, .int a2] : List Value).toArray s 0 0 (mA o ad)) (F0 m 114 ls []) := by
    intro k3 hk3 x1 x2 x3 x4 lm rw rh lg lh ls H locs hP hS hl hf
    rw [f_X3_movesOn_114] at hf
    refine lv_aload_n hx hb dX3_movesOn_114 rfl (lv_at hl 0 rfl) ?_
    refine lv_iload hx hb dX3_movesOn_115 (lv_at hl 4 rfl) ?_
    refine lv_iconst hx hb dX3_movesOn_117 kc_i4 ?_
    obtain ⟨v1, hv1, hf⟩ := ob_s hf
    refine mc_X3_X3_of S hC hK hP hv1 hl.1 ⟨Nat.le_of_ble_eq_true rfl, Nat.le_of_ble_eq_true rfl⟩ (Nat.le_of_ble_eq_true rfl) ⟨Nat.zero_le _, Nat.zero_le _⟩ dX3_movesOn_118 (fun _ => ?_)
    refine lv_iconst hx hb dX3_movesOn_121 kc_im1 ?_
    refine lv_icmp_eq (tgt := 145) hx hb dX3_movesOn_122 (by decide) (fun c2 => ?_) (fun c2 => ?_)
    · replace hf := it_t c2 hf
      refine lv_iinc (v := (x4 + 1)) (lv' := [(4, .int (x4 + 1)), (0, .ref o), (1, .int x1), (2, .int x2), (3, .int x3)]) hx hb dX3_movesOn_145 hl (k := 4) rfl rfl (by decide) rfl (fun ls hl => ?_)
      refine lv_goto (tgt := 3) hx hb dX3_movesOn_148 (by decide) ?_
      exact hk3 x1 x2 x3 (x4 + 1) lm rw rh lg lh ls H locs hP hS (lv_sub (l' := [(0, .ref o), (1, .int x1), (2, .int x2), (3, .int x3), (4, .int (x4 + 1))]) hl [1, 2, 3, 4, 0] rfl) hf
    · replace hf := it_f c2 hf
      refine lv_aload_n hx hb dX3_movesOn_125 rfl (lv_at hl 0 rfl) ?_
      refine lv_aload_n hx hb dX3_movesOn_126 rfl (lv_at hl 0 rfl) ?_
      refine lv_iload hx hb dX3_movesOn_127 (lv_at hl 4 rfl) ?_
      refine lv_iconst hx hb dX3_movesOn_129 kc_i4 ?_
      obtain ⟨v3, hv3, hf⟩ := ob_s hf
      refine mc_X3_X3_of S hC hK hP hv3 hl.1 ⟨Nat.le_of_ble_eq_true rfl, Nat.le_of_ble_eq_true rfl⟩ (Nat.le_of_ble_eq_true rfl) ⟨Nat.zero_le _, Nat.zero_le _⟩ dX3_movesOn_130 (fun _ => ?_)
      refine lv_iload_n hx hb dX3_movesOn_133 rfl (lv_at hl 2 rfl) ?_
      refine lv_iconst hx hb dX3_movesOn_134 kc_i1 ?_
      refine lv_iadd hx hb dX3_movesOn_135 ?_
      refine lv_iload_n hx hb dX3_movesOn_136 rfl (lv_at hl 3 rfl) ?_
      refine lv_iconst hx hb dX3_movesOn_137 kc_i1 ?_
      refine lv_iload hx hb dX3_movesOn_138 (lv_at hl 4 rfl) ?_
      refine lv_ishl hx hb dX3_movesOn_140 ?_
      refine lv_ior hx hb dX3_movesOn_141 ?_
      obtain ⟨v4, hv4, hf⟩ := ob_s hf
      refine mc_X3_X3_movesOn_8 S hC hD hK hP hS hv4 hl.1 ⟨Nat.le_of_ble_eq_true rfl, Nat.le_of_ble_eq_true rfl⟩ (Nat.le_of_ble_eq_true rfl) ⟨Nat.zero_le _, Nat.zero_le _⟩ dX3_movesOn_142 (fun H locs _ hP hS => ?_)
      refine lv_iinc (v := (x4 + 1)) (lv' := [(4, .int (x4 + 1)), (0, .ref o), (1, .int x1), (2, .int x2), (3, .int x3)]) hx hb dX3_movesOn_145 hl (k := 4) rfl rfl (by decide) rfl (fun ls hl => ?_)
      refine lv_goto (tgt := 3) hx hb dX3_movesOn_148 (by decide) ?_
      exact hk3 x1 x2 x3 (x4 + 1) v4.1 v4.2.1 v4.2.2.1 v4.2.2.2.1 v4.2.2.2.2 ls H locs hP hS (lv_sub (l' := [(0, .ref o), (1, .int x1), (2, .int x2), (3, .int x3), (4, .int (x4 + 1))]) hl [1, 2, 3, 4, 0] rfl) hf
  have w3 : ∀ (n : Nat) , ∀ (x1 : Int32) (x2 : Int32) (x3 : Int32) (x4 : Int32) (lm : Int32) (rw : (Nat → Int32)) (rh : (Nat → Int32)) (lg : (Nat → Int32)) (lh : (Nat → Int32)) (ls : Array Slot) (H : Heap) (locs : List Loc), va_P D cl (mW mi cI cJ cB o ad th tp st fk fp ac si fr tt kd nu fa pl fo wd ci gr lm om nw rd aa kp ta nm rn gv gt rw rh lg lh ou) H → va_S (mA o ad) s.heap H locs → lv_has ls 6 [(0, .ref o), (1, .int x1), (2, .int x2), (3, .int x3), (4, .int x4)] → f_X3_movesOn_3 n (f_X3_movesOn 8 nw) nw x1 x2 x3 x4 lm rw rh lg lh = some out → W p l e (rM 13 310) s m ([.ref o, .int a0, .int a1, .int a2] : List Value).toArray below meth c H locs 0 0 (MQ below (gQ D cl none True (mW mi cI cJ cB o ad th tp st fk fp ac si fr tt kd nu fa pl fo wd ci gr out.1 om nw rd aa kp ta nm rn gv gt out.2.1 out.2.2.1 out.2.2.2.1 out.2.2.2.2 ou) (mA o ad)) ([.ref o, .int a0, .int a1, .int a2] : List Value).toArray s 0 0 (mA o ad)) (F0 m 3 ls []) := by
    intro n
    induction n with
    | zero =>
      intro x1 x2 x3 x4 lm rw rh lg lh ls H locs hP hS hl hf
      exact absurd hf (by rw [f_X3_movesOn_3]; exact nofun)
    | succ n ih =>
      intro x1 x2 x3 x4 lm rw rh lg lh ls H locs hP hS hl hf
      rw [f_X3_movesOn_3] at hf
      refine lv_iload hx hb dX3_movesOn_3 (lv_at hl 4 rfl) ?_
      refine lv_aload_n hx hb dX3_movesOn_5 rfl (lv_at hl 0 rfl) ?_
      refine mg_1 S hC hK hP dX3_movesOn_6 ?_
      refine lv_sipush hx hb dX3_movesOn_9 kc_s231 ?_
      refine ma_1 S hC hK hP kv_231_390 kn_231 dX3_movesOn_12 ?_
      refine lv_icmp_ge (tgt := 151) hx hb dX3_movesOn_13 (by decide) (fun c1 => ?_) (fun c1 => ?_)
      · replace hf := it_t c1 hf
        have hE := Option.some.inj hf
        subst hE
        exact gt_wv S hr hlocks trivial hP hS dX3_movesOn_151
      · replace hf := it_f c1 hf
        refine lv_iload_n hx hb dX3_movesOn_16 rfl (lv_at hl 3 rfl) ?_
        refine lv_iload hx hb dX3_movesOn_17 (lv_at hl 4 rfl) ?_
        refine lv_ishr hx hb dX3_movesOn_19 ?_
        refine lv_iconst hx hb dX3_movesOn_20 kc_i1 ?_
        refine lv_iand hx hb dX3_movesOn_21 ?_
        refine lv_iconst hx hb dX3_movesOn_22 kc_i1 ?_
        refine lv_icmp_eq (tgt := 145) hx hb dX3_movesOn_23 (by decide) (fun c2 => ?_) (fun c2 => ?_)
        · replace hf := it_t c2 hf
          refine lv_iinc (v := (x4 + 1)) (lv' := [(4, .int (x4 + 1)), (0, .ref o), (1, .int x1), (2, .int x2), (3, .int x3)]) hx hb dX3_movesOn_145 hl (k := 4) rfl rfl (by decide) rfl (fun ls hl => ?_)
          refine lv_goto (tgt := 3) hx hb dX3_movesOn_148 (by decide) ?_
          exact (ih) x1 x2 x3 (x4 + 1) lm rw rh lg lh ls H locs hP hS (lv_sub (l' := [(0, .ref o), (1, .int x1), (2, .int x2), (3, .int x3), (4, .int (x4 + 1))]) hl [1, 2, 3, 4, 0] rfl) hf
        · replace hf := it_f c2 hf
          refine lv_aload_n hx hb dX3_movesOn_26 rfl (lv_at hl 0 rfl) ?_
          refine lv_iload hx hb dX3_movesOn_27 (lv_at hl 4 rfl) ?_
          refine lv_iload_n hx hb dX3_movesOn_29 rfl (lv_at hl 1 rfl) ?_
          obtain ⟨v3, hv3, hf⟩ := ob_s hf
          refine mc_X3_X3_couldHave S hC hK hP hv3 hl.1 ⟨Nat.le_of_ble_eq_true rfl, Nat.le_of_ble_eq_true rfl⟩ (Nat.le_of_ble_eq_true rfl) ⟨Nat.zero_le _, Nat.zero_le _⟩ dX3_movesOn_30 (fun hnv3 => ?_)
          refine lv_if_ne (tgt := 39) hx hb dX3_movesOn_33 (by decide) (fun c4 => ?_) (fun c4 => ?_)
          · replace hf := it_f c4 hf
            refine lv_aload_n hx hb dX3_movesOn_39 rfl (lv_at hl 0 rfl) ?_
            refine mg_26 S hC hK hP dX3_movesOn_40 ?_
            refine lv_iload_n hx hb dX3_movesOn_43 rfl (lv_at hl 2 rfl) ?_
            refine lv_iload hx hb dX3_movesOn_44 (lv_at hl 4 rfl) ?_
            obtain ⟨g5, hf⟩ := gd_t hf
            refine ms_26 S hC hD hK hP hS (inR_vp g5) rfl dX3_movesOn_46 (fun H locs hP hS => ?_)
            refine lv_aload_n hx hb dX3_movesOn_47 rfl (lv_at hl 0 rfl) ?_
            refine mg_27 S hC hK hP dX3_movesOn_48 ?_
            refine lv_iload_n hx hb dX3_movesOn_51 rfl (lv_at hl 2 rfl) ?_
            refine lv_iload_n hx hb dX3_movesOn_52 rfl (lv_at hl 1 rfl) ?_
            obtain ⟨g6, hf⟩ := gd_t hf
            refine ms_27 S hC hD hK hP hS (inR_vp g6) rfl dX3_movesOn_53 (fun H locs hP hS => ?_)
            refine lv_iload_n hx hb dX3_movesOn_54 rfl (lv_at hl 2 rfl) ?_
            refine lv_iconst hx hb dX3_movesOn_55 kc_i1 ?_
            refine lv_iadd hx hb dX3_movesOn_56 ?_
            refine lv_aload_n hx hb dX3_movesOn_57 rfl (lv_at hl 0 rfl) ?_
            refine mg_30 S hC hK hP dX3_movesOn_58 ?_
            refine lv_icmp_le (tgt := 114) hx hb dX3_movesOn_61 (by decide) (fun c7 => ?_) (fun c7 => ?_)
            · replace hf := it_t c7 hf
              exact (w114 (f_X3_movesOn_3 n (f_X3_movesOn 8 nw) nw) (ih)) x1 x2 x3 x4 lm (upd rw x2.toNatClampNeg x4) (upd rh x2.toNatClampNeg x1) lg lh ls H locs hP hS hl hf
            · replace hf := it_f c7 hf
              refine lv_aload_n hx hb dX3_movesOn_64 rfl (lv_at hl 0 rfl) ?_
              refine lv_iload_n hx hb dX3_movesOn_65 rfl (lv_at hl 2 rfl) ?_
              refine lv_iconst hx hb dX3_movesOn_66 kc_i1 ?_
              refine lv_iadd hx hb dX3_movesOn_67 ?_
              refine mp_30 S hC hD hK hP hS dX3_movesOn_68 (fun H locs hP hS => ?_)
              refine lv_iconst hx hb dX3_movesOn_71 kc_i0 ?_
              refine lv_istore (lv' := [(5, .int 0), (0, .ref o), (1, .int x1), (2, .int x2), (3, .int x3), (4, .int x4)]) hx hb dX3_movesOn_72 hl (by decide) rfl (fun ls hl => ?_)
              exact (w74 FU (f_X3_movesOn_114 (f_X3_movesOn_3 n (f_X3_movesOn 8 nw) nw) (f_X3_movesOn 8 nw) nw) (w114 (f_X3_movesOn_3 n (f_X3_movesOn 8 nw) nw) (ih))) x1 x2 x3 x4 0 (x2 + 1) (upd rw x2.toNatClampNeg x4) (upd rh x2.toNatClampNeg x1) lg lh ls H locs hP hS (lv_sub (l' := [(0, .ref o), (1, .int x1), (2, .int x2), (3, .int x3), (4, .int x4), (5, .int 0)]) hl [1, 2, 3, 4, 5, 0] rfl) hf
          · replace hf := it_t c4 hf
            refine lv_goto (tgt := 145) hx hb dX3_movesOn_36 (by decide) ?_
            refine lv_iinc (v := (x4 + 1)) (lv' := [(4, .int (x4 + 1)), (0, .ref o), (1, .int x1), (2, .int x2), (3, .int x3)]) hx hb dX3_movesOn_145 hl (k := 4) rfl rfl (by decide) rfl (fun ls hl => ?_)
            refine lv_goto (tgt := 3) hx hb dX3_movesOn_148 (by decide) ?_
            exact (ih) x1 x2 x3 (x4 + 1) lm rw rh lg lh ls H locs hP hS (lv_sub (l' := [(0, .ref o), (1, .int x1), (2, .int x2), (3, .int x3), (4, .int (x4 + 1))]) hl [1, 2, 3, 4, 0] rfl) hf
  suffices hg : ∀ (H : Heap) (locs : List Loc), va_P D cl (mW mi cI cJ cB o ad th tp st fk fp ac si fr tt kd nu fa pl fo wd ci gr lm om nw rd aa kp ta nm rn gv gt rw rh lg lh ou) H → va_S (mA o ad) s.heap H locs → W p l e (rM 13 310) s m ([.ref o, .int a0, .int a1, .int a2] : List Value).toArray below meth c H locs 0 0 (MQ below (gQ D cl none True (mW mi cI cJ cB o ad th tp st fk fp ac si fr tt kd nu fa pl fo wd ci gr out.1 om nw rd aa kp ta nm rn gv gt out.2.1 out.2.2.1 out.2.2.2.1 out.2.2.2.2 ou) (mA o ad)) ([.ref o, .int a0, .int a1, .int a2] : List Value).toArray s 0 0 (mA o ad)) (F0 m 0 ls []) from hg s.heap [] hP va_S.rf
  clear hP
  intro H locs hP hS
  have hf : f_X3_movesOn (8 + 1) nw lm rw rh lg lh a0 a1 a2 = some out := hf
  rw [f_X3_movesOn] at hf
  refine lv_iconst hx hb dX3_movesOn_0 kc_i0 ?_
  refine lv_istore (lv' := [(4, .int 0), (0, .ref o), (1, .int a0), (2, .int a1), (3, .int a2)]) hx hb dX3_movesOn_1 hl (by decide) rfl (fun ls hl => ?_)
  exact (w3 FU) a0 a1 a2 0 lm rw rh lg lh ls H locs hP hS (lv_sub (l' := [(0, .ref o), (1, .int a0), (2, .int a1), (3, .int a2), (4, .int 0)]) hl [1, 2, 3, 4, 0] rfl) hf
set_option maxRecDepth 100000 in
theorem mc_X3_X3_movesOn_9 {a0 : Int32} {a1 : Int32} {a2 : Int32} {out : Int32 × (Nat → Int32) × (Nat → Int32) × (Nat → Int32) × (Nat → Int32)} (S : CallFix p m c cc nL s args lw_all RX3) (hC : mC cl tys mi cI cJ cB) (hD : mD o ad) (hK : va_K D cl tys s) (hP : va_P D cl (mW mi cI cJ cB o ad th tp st fk fp ac si fr tt kd nu fa pl fo wd ci gr lm om nw rd aa kp ta nm rn gv gt rw rh lg lh ou) H) (hS : va_S (mA o ad) H0 H locs) (hf : f_X3_movesOn 9 nw lm rw rh lg lh a0 a1 a2 = some out) (hsz : ls.size = nL) (hR : 13 + 1 ≤ R.frames ∧ 8 + (6 + 11) + 310 ≤ R.locals) (hW : (rest.map fun v => v.category).sum ≤ 8) (hcs : cells ≤ R.cells ∧ slots ≤ R.slots) (hdg : decode cc pc = .ok (.invokevirtual 386, 3)) (kk : ∀ (H1 : Heap) (locs1 : List Loc), True → va_P D cl (mW mi cI cJ cB o ad th tp st fk fp ac si fr tt kd nu fa pl fo wd ci gr out.1 om nw rd aa kp ta nm rn gv gt out.2.1 out.2.2.1 out.2.2.2.1 out.2.2.2.2 ou) H1 → va_S (mA o ad) H0 H1 locs1 → W p l e R s m args below meth c H1 locs1 cells slots Q (F0 m (pc + 3) ls (rest))) : W p l e R s m args below meth c H locs cells slots Q (F0 m pc ls (.int a2 :: .int a1 :: .int a0 :: .ref o :: rest)) :=
  gc_Vv (As := [.int a0, .int a1, .int a2]) S (mm_X3_movesOn_9 hC hD hf) (cwV 3 S.2.2.2.2 (lw_V q2558 q2560 qs164 q189 q2561) rfl rfl rfl hd_X3_movesOn hR) (gPreV hK hP hC.1 (q0 := 0) rfl) rfl hsz rfl hW hdg hcs hS kk
theorem hd_X3_longest : yX3_longest.cls = RX3 ∧ yX3_longest.cls ≠ "java/lang/invoke/MethodHandle" ∧ yX3_longest.cls ≠ "java/lang/invoke/VarHandle" ∧ (parseMethodDescriptor yX3_longest.desc).map (fun d => d.parameters.length) = some 2 := by decide +kernel
set_option maxHeartbeats 4000000 in
set_option maxRecDepth 100000 in
theorem mm_X3_longest {a0 : Int32} {a1 : Int32} {out : Int32 × Int32 × Int32 × Int32 × (Nat → Int32) × (Nat → Int32) × (Nat → Int32) × (Nat → Int32)} (hC : mC cl tys mi cI cJ cB) (hD : mD o ad) (hf : f_X3_longest nw th st lm rw rh lg lh a0 a1 = some out) : Met l yX3_longest (ws_ yX3_longest cX3_longest 4 (some .int)) (rM 14 335) (gPc D cl tys [.ref o, .int a0, .int a1] (mW mi cI cJ cB o ad th tp st fk fp ac si fr tt kd nu fa pl fo wd ci gr lm om nw rd aa kp ta nm rn gv gt rw rh lg lh ou)) (gQ D cl (some (.int out.1)) True (mW mi cI cJ cB o ad out.2.1 tp out.2.2.1 fk fp ac si fr tt kd nu fa pl fo wd ci gr out.2.2.2.1 om nw rd aa kp ta nm rn gv gt out.2.2.2.2.1 out.2.2.2.2.2.1 out.2.2.2.2.2.2.1 out.2.2.2.2.2.2.2 ou) (mA o ad)) 0 0 (mA o ad) := by
  refine gGo (by decide +kernel) (Nat.le_of_ble_eq_true rfl) (fun p e s m below meth c ls S hr hlocks hK hP hl => ?_)
  have S : CallFix p m c cX3_longest 4 s _ lw_all RX3 := S
  obtain ⟨hx, hb, hml, hown, hts⟩ := id S
  have hl : lv_has ls 4 [(0, .ref o), (1, .int a0), (2, .int a1)] := hl
  have w93 : ∀ (y1 : Int32) (th : Int32) (st : Int32) (lm : Int32) (rw : (Nat → Int32)) (rh : (Nat → Int32)) (lg : (Nat → Int32)) (lh : (Nat → Int32)) (ls : Array Slot) (H : Heap) (locs : List Loc), va_P D cl (mW mi cI cJ cB o ad th tp st fk fp ac si fr tt kd nu fa pl fo wd ci gr lm om nw rd aa kp ta nm rn gv gt rw rh lg lh ou) H → va_S (mA o ad) s.heap H locs → lv_has ls 4 [] → f_X3_longest_93 nw y1 th st lm rw rh lg lh = some out → W p l e (rM 14 335) s m ([.ref o, .int a0, .int a1] : List Value).toArray below meth c H locs 0 0 (MQ below (gQ D cl (some (.int out.1)) True (mW mi cI cJ cB o ad out.2.1 tp out.2.2.1 fk fp ac si fr tt kd nu fa pl fo wd ci gr out.2.2.2.1 om nw rd aa kp ta nm rn gv gt out.2.2.2.2.1 out.2.2.2.2.2.1 out.2.2.2.2.2.2.1 out.2.2.2.2.2.2.2 ou) (mA o ad)) ([.ref o, .int a0, .int a1] : List Value).toArray s 0 0 (mA o ad)) (F0 m 93 ls [.int y1, .ref o]) := by
    intro y1 th st lm rw rh lg lh ls H locs hP hS hl hf
    rw [f_X3_longest_93] at hf
    obtain ⟨v1, hv1, hf⟩ := ob_s hf
    refine mc_X3_X3_gives S hC hD hK hP hS hv1 hl.1 ⟨Nat.le_of_ble_eq_true rfl, Nat.le_of_ble_eq_true rfl⟩ (Nat.le_of_ble_eq_true rfl) ⟨Nat.zero_le _, Nat.zero_le _⟩ dX3_longest_93 (fun H locs _ hP hS => ?_)
    refine lv_goto (tgt := 104) hx hb dX3_longest_96 (by decide) ?_
    have hE := Option.some.inj hf
    subst hE
    exact gt_wi S hr hlocks trivial hP hS dX3_longest_104
  have w18 : ∀ (n : Nat) , ∀ (x1 : Int32) (x2 : Int32) (x3 : Int32) (th : Int32) (st : Int32) (lm : Int32) (rw : (Nat → Int32)) (rh : (Nat → Int32)) (lg : (Nat → Int32)) (lh : (Nat → Int32)) (ls : Array Slot) (H : Heap) (locs : List Loc), va_P D cl (mW mi cI cJ cB o ad th tp st fk fp ac si fr tt kd nu fa pl fo wd ci gr lm om nw rd aa kp ta nm rn gv gt rw rh lg lh ou) H → va_S (mA o ad) s.heap H locs → lv_has ls 4 [(0, .ref o), (1, .int x1), (2, .int x2), (3, .int x3)] → f_X3_longest_18 n nw x1 x2 x3 th st lm rw rh lg lh = some out → W p l e (rM 14 335) s m ([.ref o, .int a0, .int a1] : List Value).toArray below meth c H locs 0 0 (MQ below (gQ D cl (some (.int out.1)) True (mW mi cI cJ cB o ad out.2.1 tp out.2.2.1 fk fp ac si fr tt kd nu fa pl fo wd ci gr out.2.2.2.1 om nw rd aa kp ta nm rn gv gt out.2.2.2.2.1 out.2.2.2.2.2.1 out.2.2.2.2.2.2.1 out.2.2.2.2.2.2.2 ou) (mA o ad)) ([.ref o, .int a0, .int a1] : List Value).toArray s 0 0 (mA o ad)) (F0 m 18 ls []) := by
    intro n
    induction n with
    | zero =>
      intro x1 x2 x3 th st lm rw rh lg lh ls H locs hP hS hl hf
      exact absurd hf (by rw [f_X3_longest_18]; exact nofun)
    | succ n ih =>
      intro x1 x2 x3 th st lm rw rh lg lh ls H locs hP hS hl hf
      rw [f_X3_longest_18] at hf
      refine lv_iload_n hx hb dX3_longest_18 rfl (lv_at hl 3 rfl) ?_
      refine lv_aload_n hx hb dX3_longest_19 rfl (lv_at hl 0 rfl) ?_
      refine mg_1 S hC hK hP dX3_longest_20 ?_
      refine lv_sipush hx hb dX3_longest_23 kc_s230 ?_
      refine ma_1 S hC hK hP kv_230_390 kn_230 dX3_longest_26 ?_
      refine lv_icmp_ge (tgt := 51) hx hb dX3_longest_27 (by decide) (fun c1 => ?_) (fun c1 => ?_)
      · replace hf := it_t c1 hf
        refine lv_iload_n hx hb dX3_longest_51 rfl (lv_at hl 1 rfl) ?_
        refine lv_iconst hx hb dX3_longest_52 kc_im1 ?_
        refine lv_icmp_ne (tgt := 65) hx hb dX3_longest_53 (by decide) (fun c2 => ?_) (fun c2 => ?_)
        · replace hf := it_f c2 hf
          refine lv_iload_n hx hb dX3_longest_65 rfl (lv_at hl 1 rfl) ?_
          refine lv_aload_n hx hb dX3_longest_66 rfl (lv_at hl 0 rfl) ?_
          refine mg_30 S hC hK hP dX3_longest_67 ?_
          refine lv_icmp_ge (tgt := 99) hx hb dX3_longest_70 (by decide) (fun c3 => ?_) (fun c3 => ?_)
          · replace hf := it_t c3 hf
            refine lv_aload_n hx hb dX3_longest_99 rfl (lv_at hl 0 rfl) ?_
            refine lv_iconst hx hb dX3_longest_100 kc_i5 ?_
            obtain ⟨v4, hv4, hf⟩ := ob_s hf
            refine mc_X3_X3_refuse S hC hD hK hP hS hv4 hl.1 ⟨Nat.le_of_ble_eq_true rfl, Nat.le_of_ble_eq_true rfl⟩ (Nat.le_of_ble_eq_true rfl) ⟨Nat.zero_le _, Nat.zero_le _⟩ dX3_longest_101 (fun H locs _ hP hS => ?_)
            have hE := Option.some.inj hf
            subst hE
            exact gt_wi S hr hlocks trivial hP hS dX3_longest_104
          · replace hf := it_f c3 hf
            refine lv_aload_n hx hb dX3_longest_73 rfl (lv_at hl 0 rfl) ?_
            refine lv_iload_n hx hb dX3_longest_74 rfl (lv_at hl 2 rfl) ?_
            refine lv_if_eq (tgt := 87) hx hb dX3_longest_75 (by decide) (fun c5 => ?_) (fun c5 => ?_)
            · replace hf := it_t c5 hf
              refine lv_aload_n hx hb dX3_longest_87 rfl (lv_at hl 0 rfl) ?_
              refine mg_28 S hC hK hP dX3_longest_88 ?_
              refine lv_iload_n hx hb dX3_longest_91 rfl (lv_at hl 1 rfl) ?_
              obtain ⟨g6, hf⟩ := gd_t hf
              refine ma_28 S hC hK hP (inR_vp g6) rfl dX3_longest_92 ?_
              exact (w93) (lg x1.toNatClampNeg) th st lm rw rh lg lh ls H locs hP hS (lv_sub (l' := []) hl [] rfl) hf
            · replace hf := it_f c5 hf
              refine lv_aload_n hx hb dX3_longest_78 rfl (lv_at hl 0 rfl) ?_
              refine mg_29 S hC hK hP dX3_longest_79 ?_
              refine lv_iload_n hx hb dX3_longest_82 rfl (lv_at hl 1 rfl) ?_
              obtain ⟨g7, hf⟩ := gd_t hf
              refine ma_29 S hC hK hP (inR_vp g7) rfl dX3_longest_83 ?_
              refine lv_goto (tgt := 93) hx hb dX3_longest_84 (by decide) ?_
              exact (w93) (lh x1.toNatClampNeg) th st lm rw rh lg lh ls H locs hP hS (lv_sub (l' := []) hl [] rfl) hf
        · replace hf := it_t c2 hf
          refine lv_aload_n hx hb dX3_longest_56 rfl (lv_at hl 0 rfl) ?_
          refine lv_aload_n hx hb dX3_longest_57 rfl (lv_at hl 0 rfl) ?_
          refine mg_30 S hC hK hP dX3_longest_58 ?_
          obtain ⟨v8, hv8, hf⟩ := ob_s hf
          refine mc_X3_X3_gives S hC hD hK hP hS hv8 hl.1 ⟨Nat.le_of_ble_eq_true rfl, Nat.le_of_ble_eq_true rfl⟩ (Nat.le_of_ble_eq_true rfl) ⟨Nat.zero_le _, Nat.zero_le _⟩ dX3_longest_61 (fun H locs _ hP hS => ?_)
          have hE := Option.some.inj hf
          subst hE
          exact gt_wi S hr hlocks trivial hP hS dX3_longest_64
      · replace hf := it_f c1 hf
        refine lv_aload_n hx hb dX3_longest_30 rfl (lv_at hl 0 rfl) ?_
        refine lv_iload_n hx hb dX3_longest_31 rfl (lv_at hl 3 rfl) ?_
        obtain ⟨v9, hv9, hf⟩ := ob_s hf
        refine mc_X3_X3_isFree S hC hK hP hv9 hl.1 ⟨Nat.le_of_ble_eq_true rfl, Nat.le_of_ble_eq_true rfl⟩ (Nat.le_of_ble_eq_true rfl) ⟨Nat.zero_le _, Nat.zero_le _⟩ dX3_longest_32 (fun hnv9 => ?_)
        refine lv_if_eq (tgt := 45) hx hb dX3_longest_35 (by decide) (fun c10 => ?_) (fun c10 => ?_)
        · replace hf := it_t c10 hf
          refine lv_iinc (v := (x3 + 1)) (lv' := [(3, .int (x3 + 1)), (0, .ref o), (1, .int x1), (2, .int x2)]) hx hb dX3_longest_45 hl (k := 3) rfl rfl (by decide) rfl (fun ls hl => ?_)
          refine lv_goto (tgt := 18) hx hb dX3_longest_48 (by decide) ?_
          exact (ih) x1 x2 (x3 + 1) th st lm rw rh lg lh ls H locs hP hS (lv_sub (l' := [(0, .ref o), (1, .int x1), (2, .int x2), (3, .int (x3 + 1))]) hl [1, 2, 3, 0] rfl) hf
        · replace hf := it_f c10 hf
          refine lv_aload_n hx hb dX3_longest_38 rfl (lv_at hl 0 rfl) ?_
          refine lv_iload_n hx hb dX3_longest_39 rfl (lv_at hl 3 rfl) ?_
          refine lv_iconst hx hb dX3_longest_40 kc_i0 ?_
          refine lv_iconst hx hb dX3_longest_41 kc_i0 ?_
          obtain ⟨v11, hv11, hf⟩ := ob_s hf
          refine mc_X3_X3_movesOn_9 S hC hD hK hP hS hv11 hl.1 ⟨Nat.le_of_ble_eq_true rfl, Nat.le_of_ble_eq_true rfl⟩ (Nat.le_of_ble_eq_true rfl) ⟨Nat.zero_le _, Nat.zero_le _⟩ dX3_longest_42 (fun H locs _ hP hS => ?_)
          refine lv_iinc (v := (x3 + 1)) (lv' := [(3, .int (x3 + 1)), (0, .ref o), (1, .int x1), (2, .int x2)]) hx hb dX3_longest_45 hl (k := 3) rfl rfl (by decide) rfl (fun ls hl => ?_)
          refine lv_goto (tgt := 18) hx hb dX3_longest_48 (by decide) ?_
          exact (ih) x1 x2 (x3 + 1) th st v11.1 v11.2.1 v11.2.2.1 v11.2.2.2.1 v11.2.2.2.2 ls H locs hP hS (lv_sub (l' := [(0, .ref o), (1, .int x1), (2, .int x2), (3, .int (x3 + 1))]) hl [1, 2, 3, 0] rfl) hf
  suffices hg : ∀ (H : Heap) (locs : List Loc), va_P D cl (mW mi cI cJ cB o ad th tp st fk fp ac si fr tt kd nu fa pl fo wd ci gr lm om nw rd aa kp ta nm rn gv gt rw rh lg lh ou) H → va_S (mA o ad) s.heap H locs → W p l e (rM 14 335) s m ([.ref o, .int a0, .int a1] : List Value).toArray below meth c H locs 0 0 (MQ below (gQ D cl (some (.int out.1)) True (mW mi cI cJ cB o ad out.2.1 tp out.2.2.1 fk fp ac si fr tt kd nu fa pl fo wd ci gr out.2.2.2.1 om nw rd aa kp ta nm rn gv gt out.2.2.2.2.1 out.2.2.2.2.2.1 out.2.2.2.2.2.2.1 out.2.2.2.2.2.2.2 ou) (mA o ad)) ([.ref o, .int a0, .int a1] : List Value).toArray s 0 0 (mA o ad)) (F0 m 0 ls []) from hg s.heap [] hP va_S.rf
  clear hP
  intro H locs hP hS
  rw [f_X3_longest] at hf
  refine lv_iload_n hx hb dX3_longest_0 rfl (lv_at hl 1 rfl) ?_
  refine lv_iconst hx hb dX3_longest_1 kc_im1 ?_
  refine lv_icmp_ge (tgt := 11) hx hb dX3_longest_2 (by decide) (fun c1 => ?_) (fun c1 => ?_)
  · replace hf := it_t c1 hf
    refine lv_aload_n hx hb dX3_longest_11 rfl (lv_at hl 0 rfl) ?_
    refine lv_iconst hx hb dX3_longest_12 kc_i0 ?_
    refine mp_30 S hC hD hK hP hS dX3_longest_13 (fun H locs hP hS => ?_)
    refine lv_iconst hx hb dX3_longest_16 kc_i0 ?_
    refine lv_istore_n (i := 3) (lv' := [(3, .int 0), (0, .ref o), (1, .int a0), (2, .int a1)]) hx hb dX3_longest_17 rfl hl (by decide) rfl (fun ls hl => ?_)
    exact (w18 FU) a0 a1 0 th st 0 rw rh lg lh ls H locs hP hS (lv_sub (l' := [(0, .ref o), (1, .int a0), (2, .int a1), (3, .int 0)]) hl [1, 2, 3, 0] rfl) hf
  · replace hf := it_f c1 hf
    refine lv_aload_n hx hb dX3_longest_5 rfl (lv_at hl 0 rfl) ?_
    refine lv_iconst hx hb dX3_longest_6 kc_i1 ?_
    obtain ⟨v2, hv2, hf⟩ := ob_s hf
    refine mc_X3_X3_refuse S hC hD hK hP hS hv2 hl.1 ⟨Nat.le_of_ble_eq_true rfl, Nat.le_of_ble_eq_true rfl⟩ (Nat.le_of_ble_eq_true rfl) ⟨Nat.zero_le _, Nat.zero_le _⟩ dX3_longest_7 (fun H locs _ hP hS => ?_)
    have hE := Option.some.inj hf
    subst hE
    exact gt_wi S hr hlocks trivial hP hS dX3_longest_10
end
