/-! MY LAYER: pure words for what the bytecode computes (guards, binds), contracts that say just 'returns v, the world is ws'', and rows for calls and returns of such contracts. -/
def gd {α : Type} (b : Bool) (k : Option α) : Option α := if b = true then k else none
theorem gd_t {α : Type} {b : Bool} {k : Option α} {x : α} (h : gd b k = some x) : b = true ∧ k = some x := by
  unfold gd at h
  by_cases hb : b = true
  · rw [if_pos hb] at h; exact ⟨hb, h⟩
  · rw [if_neg hb] at h; cases h
theorem gd_e {α : Type} {b : Bool} {k : Option α} (h : b = true) : gd b k = k := by unfold gd; rw [if_pos h]
def bd {α β : Type} (x : α) (k : α → β) : β := k x
theorem bd_e {α β : Type} {x y : α} {k : α → β} {z : β} (e : y = x) (h : bd x k = z) : k y = z := by subst e; exact h
theorem ob_s {α β : Type} {o : Option α} {k : α → Option β} {z : β} (h : o.bind k = some z) : ∃ a, o = some a ∧ k a = some z := Option.bind_eq_some_iff.mp h
theorem it_t {α : Type} {c : Prop} [Decidable c] {a b x : α} (h : c) (hf : (if c then a else b) = x) : a = x := (if_pos h).symm.trans hf
theorem it_f {α : Type} {c : Prop} [Decidable c] {a b x : α} (h : ¬ c) (hf : (if c then a else b) = x) : b = x := (if_neg h).symm.trans hf
def inR (i : Int32) (n : Nat) : Bool := decide (0 ≤ i.toInt ∧ i.toInt < (n : Int))
theorem inR_vp {i : Int32} {n : Nat} (h : inR i n = true) : vp_in i n := vp_in_iff.mpr (of_decide_eq_true h)
def nz32 (y : Int32) : Bool := decide (¬ y = 0)
theorem nz32_t {y : Int32} (h : nz32 y = true) : ¬ y = 0 := of_decide_eq_true h
def nz64 (y : Int64) : Bool := decide (¬ y = 0)
theorem nz64_t {y : Int64} (h : nz64 y = true) : ¬ y = 0 := of_decide_eq_true h
/-- fuel of a loop: more than any loop of the two programs takes -/
def FU : Nat := 10000
def rM (fr lo : Nat) : Room := { frames := fr, cells := 0, slots := 0, locals := lo }
def rC (fr lo ce sl : Nat) : Room := { frames := fr, cells := ce, slots := sl, locals := lo }
/-- a contract's start: the arguments, the world's cells, the classes as the tables have them -/
def gPc (D : va_G) (cl : List vw_C) (tys : List (ClassId × FieldType)) (av : List Value) (ws : va_W) : Array Value → State → Prop := va_Pc av (fun U => va_P D cl ws U.heap ∧ va_K D cl tys U)
/-- ends: nothing changed; the world is ws', nothing outside A changed -/
def gR (v : Option Value) (P : Prop) : Array Value → State → Outcome → State → Prop := fun _ st oc t => oc = .returned v ∧ P ∧ t.heap = st.heap
def gQ (D : va_G) (cl : List vw_C) (v : Option Value) (P : Prop) (ws' : va_W) (A : Nat → Prop) : Array Value → State → Outcome → State → Prop := fun _ st oc t => oc = .returned v ∧ P ∧ va_P D cl ws' t.heap ∧ va_F A st t
theorem gBlind {D : va_G} {cl : List vw_C} {tys : List (ClassId × FieldType)} {av : List Value} {ws : va_W} : FrameBlind (gPc D cl tys av ws) :=
  fun a U g mk q => ⟨q.1, q.2.1, va_K.moved (u := U) (U := U.calling g mk a) (Vm.Alike.refl U.vm) q.2.2⟩
theorem gPreV {s : State} {H : Heap} {D : va_G} {cl : List vw_C} {tys : List (ClassId × FieldType)} {ws : va_W} {As : List Value} {b q0 ci : Nat} {fs : List Value} {C : String} {Tb : u_T} {N : Nat} (hK : va_K D cl tys s) (hP : va_P D cl ws H) (hc : cl[ci]? = some (C, Tb, N)) (he : ws[q0]? = some (b, .inr (ci, fs))) : PreV s H C b (gPc D cl tys (.ref b :: As) ws) As :=
  ⟨gBlind, va_recv hK hP hc he, fun U hU hW => ⟨rfl, by rw [hU]; exact hP, va_K.moved hW.alike hK⟩⟩
theorem gPreS {s : State} {H : Heap} {D : va_G} {cl : List vw_C} {tys : List (ClassId × FieldType)} {ws : va_W} {As : List Value} (hK : va_K D cl tys s) (hP : va_P D cl ws H) : PreS s H (gPc D cl tys As ws) As :=
  ⟨gBlind, fun U hU hW => ⟨rfl, by rw [hU]; exact hP, va_K.moved hW.alike hK⟩⟩
theorem gP0 {D : va_G} {cl : List vw_C} {H : Heap} : va_P D cl [] H := fun k q h => by simp at h
section GL
variable {p : Program} {l : Launch} {e : Env} {R : Room} {s : State} {m : MethodId} {args : Array Value} {below : List Frame} {meth : Method} {c : Code} {H : Heap} {locs : List Loc} {cells slots : Nat} {Q : State → Prop}
variable {y : MethodName} {bytes cc : ByteArray} {maxL nL mc ms n index pc : Nat} {ret : Option FieldType} {ws : List Cond} {rm : Room} {Pc : Array Value → State → Prop} {free : Addr → Prop} {Ts : List Cond} {own C : String} {b : Addr} {As rest st0 : List Value} {ls : Array Slot} {v : Value} {P : Prop} {D : va_G} {cl : List vw_C} {ws' : va_W} {A : Nat → Prop} {H0 : Heap}
theorem gc_Vr (S : CallFix p m c cc nL s args Ts own) (hM : Met l y ws rm Pc (gR (some v) P) 0 0 (fun _ => False)) (cw : CallW R s args own C index y bytes maxL ret ws rm 0 0 n) (hp : PreV s H C b Pc As) (hn : As.length = n) (hsize : ls.size = nL) (hst : st0 = As.reverse ++ .ref b :: rest) (hW : (rest.map fun v => v.category).sum ≤ 8) (hdg : decode cc pc = .ok (.invokevirtual index, 3)) (hf : cells ≤ R.cells ∧ slots ≤ R.slots)
    (kk : P → W p l e R s m args below meth c H locs cells slots Q (F0 m (pc + 3) ls (v :: rest))) : W p l e R s m args below meth c H locs cells slots Q (F0 m pc ls st0) := by
  intro T hT X
  obtain ⟨vv, st₀, t, T', L, h0, X', hL, e1, e2, ⟨hv, hp', hh⟩, st⟩ := va_runV (g := F0 m pc ls st0) S hM cw hp rfl hn hsize hst (lv_room hW) hdg hf T hT X
  cases hv
  obtain ⟨t2, a1, b1⟩ := kk hp' T' (by rw [e1, hh, h0]) (Stand.forget X' (fun q h => (hL q h).elim))
  exact ⟨t2, st t2 a1, b1⟩
theorem gc_Sr (S : CallFix p m c cc nL s args Ts own) (hM : Met l y ws rm Pc (gR (some v) P) 0 0 (fun _ => False)) (cw : CallB R s args own index y bytes maxL ret ws rm 0 0 n ∧ (Cond.static y).before args s = true) (hp : PreS s H Pc As) (hn : As.length = n) (hsize : ls.size = nL) (hst : st0 = As.reverse ++ rest) (hW : (rest.map fun v => v.category).sum ≤ 8) (hdg : decode cc pc = .ok (.invokestatic index, 3)) (hf : cells ≤ R.cells ∧ slots ≤ R.slots)
    (kk : P → W p l e R s m args below meth c H locs cells slots Q (F0 m (pc + 3) ls (v :: rest))) : W p l e R s m args below meth c H locs cells slots Q (F0 m pc ls st0) := by
  intro T hT X
  obtain ⟨vv, st₀, t, T', L, h0, X', hL, e1, e2, ⟨hv, hp', hh⟩, st⟩ := va_runS (g := F0 m pc ls st0) S hM cw hp rfl hn hsize hst (lv_room hW) hdg hf T hT X
  cases hv
  obtain ⟨t2, a1, b1⟩ := kk hp' T' (by rw [e1, hh, h0]) (Stand.forget X' (fun q h => (hL q h).elim))
  exact ⟨t2, st t2 a1, b1⟩
theorem gS_call {st₀ t T' : State} {L : List Loc} (h0 : st₀.heap = H) (e1 : T'.heap = t.heap) (hS : va_S A H0 H locs) (hL : ∀ q ∈ L, A q.base) (hF : va_F A st₀ t) : va_S A H0 T'.heap (locs ++ L) := by
  obtain ⟨hz, hk⟩ := hF
  rw [h0] at hz hk
  exact ⟨Nat.le_trans hS.1 (by rw [e1]; exact hz), fun q h1 h2 => by rw [e1, hk q (Nat.lt_of_lt_of_le h1 hS.1) h2]; exact hS.2.1 q h1 h2, fun q hq => by
    rcases List.mem_append.mp hq with h | h
    · exact hS.2.2 q h
    · exact hL q h⟩
theorem gc_Vw (S : CallFix p m c cc nL s args Ts own) (hM : Met l y ws rm Pc (gQ D cl (some v) P ws' A) 0 0 A) (cw : CallW R s args own C index y bytes maxL ret ws rm 0 0 n) (hp : PreV s H C b Pc As) (hn : As.length = n) (hsize : ls.size = nL) (hst : st0 = As.reverse ++ .ref b :: rest) (hW : (rest.map fun v => v.category).sum ≤ 8) (hdg : decode cc pc = .ok (.invokevirtual index, 3)) (hf : cells ≤ R.cells ∧ slots ≤ R.slots) (hS : va_S A H0 H locs)
    (kk : ∀ (H1 : Heap) (locs1 : List Loc), P → va_P D cl ws' H1 → va_S A H0 H1 locs1 → W p l e R s m args below meth c H1 locs1 cells slots Q (F0 m (pc + 3) ls (v :: rest))) : W p l e R s m args below meth c H locs cells slots Q (F0 m pc ls st0) := by
  intro T hT X
  obtain ⟨vv, st₀, t, T', L, h0, X', hL, e1, e2, ⟨hv, hp', hP', hF⟩, st⟩ := va_runV (g := F0 m pc ls st0) S hM cw hp rfl hn hsize hst (lv_room hW) hdg hf T hT X
  cases hv
  obtain ⟨t2, a1, b1⟩ := kk T'.heap (locs ++ L) hp' (by rw [e1]; exact hP') (gS_call h0 e1 hS hL hF) T' rfl X'
  exact ⟨t2, st t2 a1, b1⟩
theorem gc_Vv (S : CallFix p m c cc nL s args Ts own) (hM : Met l y ws rm Pc (gQ D cl none P ws' A) 0 0 A) (cw : CallW R s args own C index y bytes maxL ret ws rm 0 0 n) (hp : PreV s H C b Pc As) (hn : As.length = n) (hsize : ls.size = nL) (hst : st0 = As.reverse ++ .ref b :: rest) (hW : (rest.map fun v => v.category).sum ≤ 8) (hdg : decode cc pc = .ok (.invokevirtual index, 3)) (hf : cells ≤ R.cells ∧ slots ≤ R.slots) (hS : va_S A H0 H locs)
    (kk : ∀ (H1 : Heap) (locs1 : List Loc), P → va_P D cl ws' H1 → va_S A H0 H1 locs1 → W p l e R s m args below meth c H1 locs1 cells slots Q (F0 m (pc + 3) ls rest)) : W p l e R s m args below meth c H locs cells slots Q (F0 m pc ls st0) := by
  intro T hT X
  obtain ⟨vv, st₀, t, T', L, h0, X', hL, e1, e2, ⟨hv, hp', hP', hF⟩, st⟩ := va_runV (g := F0 m pc ls st0) S hM cw hp rfl hn hsize hst (lv_room hW) hdg hf T hT X
  cases hv
  obtain ⟨t2, a1, b1⟩ := kk T'.heap (locs ++ L) hp' (by rw [e1]; exact hP') (gS_call h0 e1 hS hL hF) T' rfl X'
  exact ⟨t2, st t2 a1, b1⟩
theorem gc_Sw (S : CallFix p m c cc nL s args Ts own) (hM : Met l y ws rm Pc (gQ D cl (some v) P ws' A) 0 0 A) (cw : CallB R s args own index y bytes maxL ret ws rm 0 0 n ∧ (Cond.static y).before args s = true) (hp : PreS s H Pc As) (hn : As.length = n) (hsize : ls.size = nL) (hst : st0 = As.reverse ++ rest) (hW : (rest.map fun v => v.category).sum ≤ 8) (hdg : decode cc pc = .ok (.invokestatic index, 3)) (hf : cells ≤ R.cells ∧ slots ≤ R.slots) (hS : va_S A H0 H locs)
    (kk : ∀ (H1 : Heap) (locs1 : List Loc), P → va_P D cl ws' H1 → va_S A H0 H1 locs1 → W p l e R s m args below meth c H1 locs1 cells slots Q (F0 m (pc + 3) ls (v :: rest))) : W p l e R s m args below meth c H locs cells slots Q (F0 m pc ls st0) := by
  intro T hT X
  obtain ⟨vv, st₀, t, T', L, h0, X', hL, e1, e2, ⟨hv, hp', hP', hF⟩, st⟩ := va_runS (g := F0 m pc ls st0) S hM cw hp rfl hn hsize hst (lv_room hW) hdg hf T hT X
  cases hv
  obtain ⟨t2, a1, b1⟩ := kk T'.heap (locs ++ L) hp' (by rw [e1]; exact hP') (gS_call h0 e1 hS hL hF) T' rfl X'
  exact ⟨t2, st t2 a1, b1⟩
theorem gc_Sv (S : CallFix p m c cc nL s args Ts own) (hM : Met l y ws rm Pc (gQ D cl none P ws' A) 0 0 A) (cw : CallB R s args own index y bytes maxL ret ws rm 0 0 n ∧ (Cond.static y).before args s = true) (hp : PreS s H Pc As) (hn : As.length = n) (hsize : ls.size = nL) (hst : st0 = As.reverse ++ rest) (hW : (rest.map fun v => v.category).sum ≤ 8) (hdg : decode cc pc = .ok (.invokestatic index, 3)) (hf : cells ≤ R.cells ∧ slots ≤ R.slots) (hS : va_S A H0 H locs)
    (kk : ∀ (H1 : Heap) (locs1 : List Loc), P → va_P D cl ws' H1 → va_S A H0 H1 locs1 → W p l e R s m args below meth c H1 locs1 cells slots Q (F0 m (pc + 3) ls rest)) : W p l e R s m args below meth c H locs cells slots Q (F0 m pc ls st0) := by
  intro T hT X
  obtain ⟨vv, st₀, t, T', L, h0, X', hL, e1, e2, ⟨hv, hp', hP', hF⟩, st⟩ := va_runS (g := F0 m pc ls st0) S hM cw hp rfl hn hsize hst (lv_room hW) hdg hf T hT X
  cases hv
  obtain ⟨t2, a1, b1⟩ := kk T'.heap (locs ++ L) hp' (by rw [e1]; exact hP') (gS_call h0 e1 hS hL hF) T' rfl X'
  exact ⟨t2, st t2 a1, b1⟩
/-! returns -/
theorem gt_ri {v : Int32} (S : CallFix p m c cc nL s args Ts own) (hr : meth.sig.returnType = some .int) (hlocks : meth.locks = false) {P : Prop} (hP : P) (hdg : decode cc pc = .ok (.ireturn, 1)) : W p l e R s m args below meth c s.heap [] cells slots (MQ below (gR (some (.int v)) P) args s cells slots (fun _ => False)) (F0 m pc ls [.int v]) :=
  W.iret S.1 S.2.1 hr (fun t ht _ => ⟨rfl, hP, ht⟩) (fun q h => by cases h) hdg hlocks
theorem gt_rz {v : Int32} (S : CallFix p m c cc nL s args Ts own) (hr : meth.sig.returnType = some .boolean) (hlocks : meth.locks = false) (hn : narrow .boolean (.int v) = .int v) (hdg : decode cc pc = .ok (.ireturn, 1)) : W p l e R s m args below meth c s.heap [] cells slots (MQ below (gR (some (.int v)) (narrow .boolean (.int v) = .int v)) args s cells slots (fun _ => False)) (F0 m pc ls [.int v]) :=
  W.zret S.1 S.2.1 hr hn (fun t ht _ => ⟨rfl, hn, ht⟩) (fun q h => by cases h) hdg hlocks
theorem gt_rl {v : Int64} (S : CallFix p m c cc nL s args Ts own) (hr : meth.sig.returnType = some .long) (hlocks : meth.locks = false) {P : Prop} (hP : P) (hdg : decode cc pc = .ok (.lreturn, 1)) : W p l e R s m args below meth c s.heap [] cells slots (MQ below (gR (some (.long v)) P) args s cells slots (fun _ => False)) (F0 m pc ls [.long v]) :=
  W.lret S.1 S.2.1 hr (fun t ht _ => ⟨rfl, hP, ht⟩) (fun q h => by cases h) hdg hlocks
theorem gt_wi {v : Int32} (S : CallFix p m c cc nL s args Ts own) (hr : meth.sig.returnType = some .int) (hlocks : meth.locks = false) {P : Prop} (hp : P) (hP : va_P D cl ws' H) (hS : va_S A s.heap H locs) (hdg : decode cc pc = .ok (.ireturn, 1)) : W p l e R s m args below meth c H locs cells slots (MQ below (gQ D cl (some (.int v)) P ws' A) args s cells slots A) (F0 m pc ls [.int v]) :=
  W.iret S.1 S.2.1 hr (fun t ht _ => ⟨rfl, hp, by rw [ht]; exact hP, hS.F ht⟩) hS.2.2 hdg hlocks
theorem gt_wz {v : Int32} (S : CallFix p m c cc nL s args Ts own) (hr : meth.sig.returnType = some .boolean) (hlocks : meth.locks = false) (hn : narrow .boolean (.int v) = .int v) (hP : va_P D cl ws' H) (hS : va_S A s.heap H locs) (hdg : decode cc pc = .ok (.ireturn, 1)) : W p l e R s m args below meth c H locs cells slots (MQ below (gQ D cl (some (.int v)) (narrow .boolean (.int v) = .int v) ws' A) args s cells slots A) (F0 m pc ls [.int v]) :=
  W.zret S.1 S.2.1 hr hn (fun t ht _ => ⟨rfl, hn, by rw [ht]; exact hP, hS.F ht⟩) hS.2.2 hdg hlocks
theorem gt_wl {v : Int64} (S : CallFix p m c cc nL s args Ts own) (hr : meth.sig.returnType = some .long) (hlocks : meth.locks = false) {P : Prop} (hp : P) (hP : va_P D cl ws' H) (hS : va_S A s.heap H locs) (hdg : decode cc pc = .ok (.lreturn, 1)) : W p l e R s m args below meth c H locs cells slots (MQ below (gQ D cl (some (.long v)) P ws' A) args s cells slots A) (F0 m pc ls [.long v]) :=
  W.lret S.1 S.2.1 hr (fun t ht _ => ⟨rfl, hp, by rw [ht]; exact hP, hS.F ht⟩) hS.2.2 hdg hlocks
theorem gt_wv (S : CallFix p m c cc nL s args Ts own) (hr : meth.sig.returnType = none) (hlocks : meth.locks = false) {P : Prop} (hp : P) (hP : va_P D cl ws' H) (hS : va_S A s.heap H locs) (hdg : decode cc pc = .ok (.return_, 1)) : W p l e R s m args below meth c H locs cells slots (MQ below (gQ D cl none P ws' A) args s cells slots A) (F0 m pc ls []) :=
  W.vret S.1 S.2.1 hr (fun t ht _ => ⟨rfl, hp, by rw [ht]; exact hP, hS.F ht⟩) hS.2.2 hdg hlocks
end GL
/-- as Met.ofW, for a method that no entry of the machine runs instead (java/lang/Math has such: by the method, not by the class) -/
theorem gOfW {l : Launch} {y : MethodName} {ws ws2 : List Cond} {rm : Room} {Pc : Array Value → State → Prop} {Qc : Array Value → State → Outcome → State → Prop} {mc ms : Nat} {free : Addr → Prop} {cc : ByteArray} {maxL : Nat} {ret : Option FieldType}
    (hy : plainFor y = true) (hw : ws = Cond.code y cc maxL ret :: ws2)
    (body : ∀ p e s m args below meth c s₁, BodyLoose p l y (headSpec ws rm) cc maxL ret e s m args below meth c s₁ → c.maxLocals = maxL → Pc args s →
      W p l e (headSpec ws rm).room s m args below meth c s.heap [] 0 0 (MQ below Qc args s mc ms free) (entryFrame m args maxL)) : Met l y ws rm Pc Qc mc ms free := by
  refine MetFree.of_bodySF (code := cc) (maxLocals := maxL) (ret := ret) hy ?_ ?_
  · intro args s m h hn
    obtain ⟨meth, c, h1, h2, h3, h4, h5, h6, -, -⟩ := Cond.code_spec hn (atoms_spec (ws := ws) h _ (by rw [hw]; exact List.mem_cons_self))
    exact ⟨meth, c, h1, h2, h3, h4, h5, h6⟩
  · intro p e s m args below meth c s₁ B hml hP _
    have hh0 : s₁.heap = s.heap := by rw [B.state]; rfl
    obtain ⟨t, a1, o, b1, b2, b3⟩ := body p e s m args below meth c s₁ B hml hP s₁ hh0 (Stand.of_body B)
    exact ⟨t, o, a1, b1, b2, ⟨b3.1, b3.2⟩⟩
/-- a method's walk from its entry -/
theorem gGo {l : Launch} {y : MethodName} {cc : ByteArray} {maxL : Nat} {ret : Option FieldType} {rm : Room} {D : va_G} {cl : List vw_C} {tys : List (ClassId × FieldType)} {av : List Value} {ws : va_W} {Qc : Array Value → State → Outcome → State → Prop} {free : Addr → Prop} {mc ms : Nat} (hy : plainFor y = true) (hlen : (lg_sl av).length ≤ maxL)
    (body : ∀ (p : Program) (e : Env) (s : State) (m : MethodId) (below : List Frame) (meth : Method) (c : Code) (ls : Array Slot), CallFix p m c cc maxL s av.toArray lw_all y.cls → meth.sig.returnType = ret → meth.locks = false → va_K D cl tys s → va_P D cl ws s.heap → lv_has ls maxL (lv_args 0 av) → W p l e rm s m av.toArray below meth c s.heap [] 0 0 (MQ below Qc av.toArray s mc ms free) (F0 m 0 ls [])) : Met l y (ws_ y cc maxL ret) rm (gPc D cl tys av ws) Qc mc ms free := by
  refine gOfW (cc := cc) (maxL := maxL) (ret := ret) hy rfl ?_
  intro p e s m args below meth c s₁ B hml hv
  obtain ⟨rfl, hP, hK⟩ := hv
  have hts := atoms_spec (ws := ws_ y cc maxL ret) B.pre
  have hts : ∀ w ∈ lw_all, w.before _ s = true := fun w h => hts w (List.mem_cons_of_mem _ h)
  have hl := lv_entry av (n := maxL) hlen
  rw [lg_entry_eq]
  exact body p e s m below meth c _ ⟨B.exec, B.bytes, hml, findClass_of_methodNamed B.named, hts⟩ B.returns B.notSynchronized hK hP hl
/-- the cells' addresses are apart and of a kind -/
theorem gD {A : Nat → Prop} {ws : va_W} {L : List Nat} (hm : ws.map (fun q => q.1) = L) (hn : ∀ (i j a : Nat), L[i]? = some a → L[j]? = some a → i = j) (hA : ∀ a ∈ L, A a) : va_D A ws := by
  have key : ∀ (k : Nat) (q : Nat × va_E), ws[k]? = some q → L[k]? = some q.1 := fun k q h => by rw [← hm, List.getElem?_map, h]; rfl
  exact ⟨fun i j p q hi hj h => hn i j p.1 (key i p hi) (by rw [h]; exact key j q hj), fun k q h => hA _ (List.mem_of_getElem? (key k q h))⟩
theorem nb0 : narrow .boolean (.int 0) = .int 0 := rfl
theorem nb1 : narrow .boolean (.int 1) = .int 1 := rfl
