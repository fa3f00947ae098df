/-! the law's out: returns what is there, or catches -/
section B3
variable {p : Program} {l : Launch} {e : Env} {R : Room} {s : State} {m : MethodId} {args : Array Value} {below : List Frame} {meth : Method} {c : Code} {H : Heap} {locs : List Loc} {cells slots mc ms : Nat} {Q : State → Prop} {pc : Nat} {ls : Array Slot} {rest st0 : List Value} {G : hG} {A : Nat → Prop} {h : AH} {nx : Nat}
theorem br_n (hr : wx_Run p l e R s m args below meth c H locs cells slots 1 6 (F0 m pc ls st0) rest (fun _ _ _ => False) (xN nx) (AA h nx)) (hB : BI G A s.heap h nx H locs) (hn : nx = s.heap.size + cells)
    (kx : ∀ (H1 : Heap) (locs1 : List Loc) (ce : Cell), H1[nx]? = some ce → ce.vm = .none → s.vm.findClass RJ18 = some ce.cls → BI G A s.heap h (nx + 1) H1 locs1 → wx_W p l e R s m args below meth c H1 locs1 (cells + 1) (slots + 6) Q (F0 m pc ls rest) nx) : W p l e R s m args below meth c H locs cells slots Q (F0 m pc ls st0) := by
  intro T hT X
  rcases hr T hT X with ⟨v, st₀, t, T', Lo, h0, X', hL, e1, e2, hq, st⟩ | ⟨q, st₀, t, T', Lo, E, ce, h0, X', hL, e1, e2, hx, hce, hcv, hcl, st⟩
  · exact hq.elim
  · obtain ⟨rfl, rfl, hz, hk⟩ := hx
    rw [h0] at hz hk
    have hgt : @LT.lt Nat _ q t.heap.size := (Array.getElem?_eq_some_iff.mp hce).1
    have hnn : @Eq Nat q (s.heap.size + cells) := hn
    have hle : T'.heap.size ≤ s.heap.size + (cells + 1) := X'.heapSize
    have hsz : @Eq Nat t.heap.size (q + 1) := by rw [e1] at hle; omega
    have hb : BI G A s.heap h (q + 1) T'.heap (locs ++ Lo) := by
      refine ⟨fun a x hx => ?_, by rw [e1]; exact hsz, fun a x hx => hB.2.2.1 a x hx, ⟨by rw [e1, hsz]; omega, fun a g1 g2 => ?_, fun z hz => ?_⟩, hB.2.2.2.2⟩
      · have hl := (hB.1 a x hx).lt
        rw [hB.2.1] at hl
        exact (hB.1 a x hx).kept (by rw [e1]; exact hk a hl)
      · rw [e1, hk a (by omega)]
        exact hB.2.2.2.1.2.1 a g1 g2
      · rcases List.mem_append.mp hz with h1 | h1
        · exact hB.2.2.2.1.2.2 z h1
        · exact hB.sub _ (hL z h1)
    obtain ⟨t2, a1, b1⟩ := kx T'.heap (locs ++ Lo) ce (by rw [e1]; exact hce) hcv hcl hb T' rfl X'
    exact ⟨t2, st.trans a1, b1⟩
end B3
/-- as bGoH, with the two statics -/
theorem bGoH2 {l : Launch} {y : MethodName} {cc : ByteArray} {maxL : Nat} {ret : Option FieldType} {hh : List (Nat × Nat × Nat × Nat)} {rm : Room} {G : hG} {zs : Nat → Nat} {L : List hL} {h : AH} {nx : Nat} {av : List Value} {Qc : Array Value → State → Outcome → State → Prop} {free : Addr → Prop} {mc ms : Nat} (hy : plainFor y = true) (hlen : (lg_sl av).length ≤ maxL)
    (body : ∀ (p : Program) (e : Env) (s : State) (m : MethodId) (below : List Frame) (meth : Method) (c : Code) (ls : Array Slot), CallFix p m c cc maxL s av.toArray lw_all y.cls → meth.sig.returnType = ret → meth.locks = false → c.exceptionTable.toList.map (fun h => (h.startPc, h.endPc, h.handlerPc, h.catchType)) = hh → SK G zs L (AA h nx) s → ZL (AA h nx) s s.heap → BI G (AA h nx) s.heap h nx s.heap [] → lv_has ls maxL (lv_args 0 av) → W p l e rm s m av.toArray below meth c s.heap [] 0 0 (MQ below Qc av.toArray s mc ms free) (F0 m 0 ls [])) : Met l y (wsW_ y cc maxL ret hh) rm (bPc2 G zs L h nx av) Qc mc ms free := by
  refine MetFree.of_bodySF (code := cc) (maxLocals := maxL) (ret := ret) hy ?_ ?_
  · intro args s m h hn
    obtain ⟨m9, meth, c, hn9, h1, h2, h3, h4, -, h5, h6, -⟩ := Cond.codeWith_spec (atoms_spec (ws := wsW_ y cc maxL ret hh) h _ List.mem_cons_self)
    cases hn.symm.trans hn9
    exact ⟨meth, c, h1, h2, h3, h4, h5, h6⟩
  · intro p e s m args below meth c s₁ B hml hv _
    have hh0 : s₁.heap = s.heap := by rw [B.state]; rfl
    obtain ⟨rfl, ⟨hP, hz, hK⟩, hZ⟩ := hv
    have hts0 := atoms_spec (ws := wsW_ y cc maxL ret hh) B.pre
    have hts : ∀ w ∈ lw_all, w.before _ s = true := fun w h => hts0 w (List.mem_cons_of_mem _ h)
    obtain ⟨m9, meth2, c2, hn9, h1, h2, -, -, hex, -, -, -⟩ := Cond.codeWith_spec (hts0 _ List.mem_cons_self)
    cases B.named.symm.trans hn9
    cases B.method.symm.trans h1
    cases (Stand.of_body B).code.symm.trans h2
    have hl := lv_entry av (n := maxL) hlen
    have hW := body p e s m below meth c _ ⟨B.exec, B.bytes, hml, findClass_of_methodNamed B.named, hts⟩ B.returns B.notSynchronized hex hK hZ ⟨hP, hz, fun q e he => Or.inl ⟨e, he⟩, va_S.rf, fun q hq => Or.inr (by rw [← hz]; exact hq)⟩ hl
    rw [← lg_entry_eq] at hW
    obtain ⟨t, a1, o, b1, b2, b3⟩ := hW s₁ hh0 (Stand.of_body B)
    exact ⟨t, o, a1, b1, b2, ⟨b3.1, b3.2⟩⟩
section OUT0
variable {l : Launch} {G : hG} {E : bE} {h : AH} {nx fE lE : Nat}
set_option maxHeartbeats 4000000 in
set_option maxRecDepth 100000 in
/-- a byte is there -/
theorem mm_X0_out {x eJ : Nat} {a0 v : Int32} {h1 : AH} (hX : isO h x 0 = true) (hf : f_X1_out E h x a0 = some v) (hj : sJ h eJ 1 0 v.toInt64 = some h1) : Met l yX0_out (wsW_ yX0_out cX0_out 4 (some .int) [(0, 9, 12, 13)]) (rC (fE + 8) (lE + 220) 0 0) (bPc G E.1 hSites h nx [.ref x, .int a0, .ref eJ]) (bQ G (some (.int 0)) True h1 (nx + 0) (AA h nx)) 0 0 (AA h nx) := by
  refine bGoH (by decide +kernel) (Nat.le_of_ble_eq_true rfl) (fun p e s m below meth c ls S hr hlocks hin hnm hcw hS hB hl => ?_)
  have S : CallFix p m c cX0_out 4 s _ lw_all RX0 := S
  obtain ⟨hx, hb, hml, hown, hts⟩ := id S
  have hl : lv_has ls 4 [(0, .ref x), (1, .int a0), (2, .ref eJ)] := hl
  obtain ⟨fs, he⟩ := isO_s hX
  refine lv_aload_n hx hb dX0_out_0 rfl (lv_at hl 2 rfl) ?_
  refine lv_iconst hx hb dX0_out_1 kc_i0 ?_
  refine lv_aload_n hx hb dX0_out_2 rfl (lv_at hl 0 rfl) ?_
  refine lv_iload_n hx hb dX0_out_3 rfl (lv_at hl 1 rfl) ?_
  refine br_r (va_runV (As := [.int a0]) S (mm_X1_out (l := l) (G := G) (nx := nx) (fE := fE) (lE := lE) hf) (cwV 1 S.2.2.2.2 (lw_V q1971 q1972 q1973 q174 q1974) rfl rfl rfl hd_X1_out ⟨(by show fE + 4 + 1 ≤ fE + 8; omega), (by show 8 + (2 + 11) + (lE + 88) ≤ lE + 220; omega)⟩) (bPreV hS hB (ci := 0) rfl he) rfl rfl hl.1 rfl (lv_room (Nat.le_of_ble_eq_true rfl)) dX0_out_4 ⟨Nat.zero_le _, Nat.zero_le _⟩) (fun _ => ?_)
  refine lv_i2l hx hb dX0_out_7 rfl ?_
  refine b_last S hS.1 hB hj dX0_out_8 (fun H1 locs1 hB => ?_)
  refine lv_goto (tgt := 15) hx hb dX0_out_9 rfl ?_
  refine lv_iconst hx hb dX0_out_15 kc_i0 ?_
  exact bt_i S hr hlocks hB rfl trivial dX0_out_16
set_option maxHeartbeats 4000000 in
set_option maxRecDepth 100000 in
/-- nothing is there: thrown and caught -/
theorem mm_X0_outN (hst : l.stackTraces = false) {x eJ : Nat} {a0 : Int32} (hX : isO h x 0 = true) (hf : f_X1_outN E h x a0 = some ()) : Met l yX0_out (wsW_ yX0_out cX0_out 4 (some .int) [(0, 9, 12, 13)]) (rC (fE + 8) (lE + 220) 1 6) (bPc2 G E.1 hSites h nx [.ref x, .int a0, .ref eJ]) (bQ G (some (.int 1)) True h (nx + 1) (AA h nx)) 1 6 (AA h nx) := by
  refine bGoH2 (by decide +kernel) (Nat.le_of_ble_eq_true rfl) (fun p e s m below meth c ls S hr hlocks hcw hS hZ hB hl => ?_)
  have S : CallFix p m c cX0_out 4 s _ lw_all RX0 := S
  obtain ⟨hx, hb, hml, hown, hts⟩ := id S
  have hl : lv_has ls 4 [(0, .ref x), (1, .int a0), (2, .ref eJ)] := hl
  obtain ⟨fs, he⟩ := isO_s hX
  refine lv_aload_n hx hb dX0_out_0 rfl (lv_at hl 2 rfl) ?_
  refine lv_iconst hx hb dX0_out_1 kc_i0 ?_
  refine lv_aload_n hx hb dX0_out_2 rfl (lv_at hl 0 rfl) ?_
  refine lv_iload_n hx hb dX0_out_3 rfl (lv_at hl 1 rfl) ?_
  refine br_n (rest := [.int 0, .ref eJ]) (wx_runV (As := [.int a0]) S (mx_X1_out (l := l) (G := G) (nx := nx) (fE := fE) (lE := lE) hst hf) (cwV 1 S.2.2.2.2 (lw_V q1971 q1972 q1973 q174 q1974) rfl rfl rfl hd_X1_out ⟨(by show fE + 6 + 1 ≤ fE + 8; omega), (by show 8 + (2 + 11) + (lE + 150) ≤ lE + 220; omega)⟩) (bPreV2 hS hZ hB (ci := 0) rfl he) rfl rfl hl.1 rfl (lv_room (Nat.le_of_ble_eq_true rfl)) dX0_out_4 ⟨Nat.le_refl _, Nat.le_refl _⟩) hB hB.2.1.symm (fun H1 locs1 ce g1 g2 g3 hB => ?_)
  obtain ⟨z, zs', hl9, z1, z2⟩ := List.map_eq_cons_iff.mp hcw
  have hxs : zs' = [] := List.map_eq_nil_iff.mp z2
  subst hxs
  obtain ⟨x1, x2, x3, x4⟩ := z
  cases z1
  refine wx_catch (own := RX0) (name := RJ18) (E := RJ18) hown [] ⟨0, 9, 12, 13⟩ [] hl9 (fun z hz => by cases hz) (by decide) (by decide) (hts _ q1970) (va_Nw.use rfl (hS.2.1 _ q1025 rfl)) g1 g2 g3 ?_
  refine lv_astore_n (lv' := [(3, .ref nx), (0, .ref x), (1, .int a0), (2, .ref eJ)]) hx hb dX0_out_12 rfl hl (by decide) rfl (fun ls2 hl2 => ?_)
  refine lv_iconst hx hb dX0_out_13 kc_i1 ?_
  exact bt_i S hr hlocks hB rfl trivial dX0_out_14
end OUT0
