/-! inside a made class's forwarder: entries that are resolved -/
theorem fr_warm {s : State} {vm : Vm} (hW : s.WarmedH vm) {cur index c : Nat} {f : Field} (h : s.vm.fieldReady cur index c f) : vm.fieldReady cur index c f := by
  obtain ⟨k, i, kc, hk, hres, hkc, hfi⟩ := h
  obtain ⟨k', hk', he⟩ := hW.alike.2.2 _ _ hk
  obtain ⟨kc', hkc', hec⟩ := hW.alike.2.2 _ _ hkc
  refine ⟨k', i, kc', hk', ?_, hkc', by rw [hec]; exact hfi⟩
  rcases hW.entry hk hk' index with h | ⟨h, -⟩
  · rw [h]; exact hres
  · rw [hres] at h; cases h
theorem mr_warm {s : State} {vm : Vm} (hW : s.WarmedH vm) {cur index : Nat} {t : MethodId} (h : s.vm.methodReady cur index t) : vm.methodReady cur index t := by
  obtain ⟨k, hk, hres⟩ := h
  obtain ⟨k', hk', he⟩ := hW.alike.2.2 _ _ hk
  refine ⟨k', hk', ?_⟩
  rcases hW.entry hk hk' index with h | ⟨h, -⟩
  · rw [h]; exact hres
  · rw [hres] at h; cases h
theorem cr_warm {s : State} {vm : Vm} (hW : s.WarmedH vm) {cur index c : Nat} (h : s.vm.classReady cur index c) : vm.classReady cur index c := by
  obtain ⟨k, hk, hres⟩ := h
  obtain ⟨k', hk', he⟩ := hW.alike.2.2 _ _ hk
  refine ⟨k', hk', ?_⟩
  rcases hW.entry hk hk' index with h | ⟨h, -⟩
  · rw [h]; exact hres
  · rw [hres] at h; cases h
section BLF
variable {p : Program} {l : Launch} {e : Env} {R : Room} {s : State} {m : MethodId} {args : Array Value} {below : List Frame} {meth : Method} {c : Code} {H : Heap} {locs : List Loc} {cells slots : Nat} {Q : State → Prop} {cc : ByteArray} {pc : Nat} {ls : Array Slot} {rest : List Value}
theorem wl_get (hexec : p.tables.exec = Jvm.exec) (hb : c.code = cc) {index a cF : Nat} {f : Field} {cell : Cell} {v : Value} (hf : s.vm.fieldReady m.cls index cF f) (hs : f.isStatic = false) (hcell : H[a]? = some cell) (hk : cell.vm = .none) (hv : cell.slots[f.slot]? = some v) (hdg : decode cc pc = .ok (.getfield index, 3))
    (kk : W p l e R s m args below meth c H locs cells slots Q (F0 m (pc + 3) ls (v :: rest))) : W p l e R s m args below meth c H locs cells slots Q (F0 m pc ls (.ref a :: rest)) := by
  intro T hT X
  obtain ⟨t, a1, b1⟩ := kk T hT X
  refine ⟨t, ?_, b1⟩
  have hdg' : decode c.code pc = .ok (.getfield index, 3) := by rw [hb]; exact hdg
  jvm_step X.here [hexec, hdg', getfield.wp_ready (e := e) (s := T) (c := cF) (field := f) (a := a) (rest := rest) (cell := cell) (v := v) (f := F0 m pc ls (.ref a :: rest)) X.here.top (fr_warm X.warmed hf) hs rfl (by rw [hT]; exact hcell) (by rw [hk]; exact nofun) hv]
  exact a1
end BLF
theorem nc_warm {s T : State} (hW : s.WarmedH T.vm) {cur index : Nat} (h : namesAClass s cur index) : namesAClass T cur index := by
  obtain ⟨kc, cf, ci, n, c', k', h1, h2, h3, h4, h5, h6⟩ := h
  obtain ⟨kc', hk', he⟩ := hW.alike.2.2 _ _ h1
  obtain ⟨k2, hk2, he2⟩ := hW.alike.2.2 _ _ h5
  exact ⟨kc', cf, ci, n, c', k2, hk', by rw [he]; exact h2, h3, cr_warm hW h4, hk2, by rw [he2]; exact h6⟩
section BLC
variable {p : Program} {l : Launch} {e : Env} {R : Room} {s : State} {m : MethodId} {args : Array Value} {below : List Frame} {meth : Method} {c : Code} {H : Heap} {locs : List Loc} {cells slots mc ms : Nat} {cc bytes : ByteArray} {nL maxL index : Nat} {ws ws' : List Cond} {rm : Room} {ret : Option FieldType} {Pc : Array Value → State → Prop} {Qc : Array Value → State → Outcome → State → Prop} {free : Addr → Prop} {y : MethodName} {C : String} {b : Addr} {As rest : List Value} {g : JFrame} {r : MethodId}
theorem b_runLV (hx : p.tables.exec = Jvm.exec) (hb : c.code = cc) (hml : c.maxLocals = nL) (ht : ∀ w ∈ lw_all, w.before args s = true) (hnc : namesAClass s m.cls index) (hready : s.vm.methodReady m.cls index r) (hki : ∀ k, s.vm.classes[r.cls]? = some k → k.isInterface = false) (hnr : s.methodNamed? y = some r) (hpr : (Cond.privateMethod y).before #[] s = true)
    (hM : Met l y ws rm Pc Qc mc ms free) (hrc : rm.cells = mc) (hrs : rm.slots = ms) (hR : rm.frames + 1 ≤ R.frames ∧ 8 + (maxL + 11) + rm.locals ≤ R.locals) (hG : GoodIn lw_all ws) (hw : ws = Cond.code y bytes maxL ret :: ws') (hini : Cond.initialized y.cls ∈ lw_all) (hin : Cond.instanceMethod y ∈ lw_all) (hy : y.cls ≠ "java/lang/invoke/MethodHandle" ∧ y.cls ≠ "java/lang/invoke/VarHandle") (hn : (parseMethodDescriptor y.desc).map (fun d => d.parameters.length) = some As.length) (hp : PreV s H C b Pc As)
    (hg : g.method = m) (hsize : g.locals.size = nL) (hstack : g.stack = As.reverse ++ .ref b :: rest) (hW : 2 * g.monitorRoom + (rest.map fun v => v.category).sum ≤ 8) (hdg : decode cc g.pc = .ok (.invokevirtual index, 3)) (hf : cells + mc ≤ R.cells ∧ slots + ms ≤ R.slots) :
    va_Run p l e R s m args below meth c H locs cells slots mc ms g rest (Qc (Value.ref b :: As).toArray) (free) := by
  have hc : Cond.code y bytes maxL ret ∈ ws := by rw [hw]; exact List.mem_cons_self
  have hK : Back l R p e below s args y 3 8 (PreOf R mc ms Pc) (PostOf Qc mc ms free) := back_of (bytes := bytes) (maxL := maxL) (ret := ret) hM hp.1 hrc hrs hR.1 hR.2 (pay_in ht hG) hc (fun a' U hW => word_at hW (Or.inl (by first | rfl | simp [Cond.onTables, Cond.keeps, Cond.steady])) (ht _ hini))
  obtain ⟨-, ⟨cellB, hcB, hoB, hclB⟩, hPc⟩ := hp
  intro T hT X
  obtain ⟨mk, methM, hnamed, hmethM, hstM, habM⟩ := Cond.instanceMethod_spec (ht _ hin)
  cases hnr.symm.trans hnamed
  obtain ⟨methM', cM, hmethM', hcodeM', -, hlocalsM, -, -, -, hsigM⟩ := Cond.code_spec hnamed (ht _ (hG _ hc).1)
  cases hmethM.symm.trans hmethM'
  obtain ⟨kr, hkr, hkn⟩ := className_of_methodNamed hnamed
  obtain ⟨kr', hkr', her⟩ := X.warmed.alike.2.2 _ _ hkr
  obtain ⟨kc, cf, ci, n, c', k', i1, i2, i3, i4, i5, i6⟩ := hnc
  have hpriv : methM.isPrivate = true := Cond.privateMethod_at hpr _ methM hnamed hmethM
  have hmT : T.vm.method? r = some methM := by rw [X.warmed.alike.method?]; exact hmethM
  have hselT : selectMethod e.platform T.vm cellB.cls r = .method r := selectMethod_private hmT hpriv
  have hlen : As.length = methM.sig.parameters.length := by
    rw [hsigM] at hn
    exact (Option.some.inj hn).symm
  subst hg
  have hdg' : decode c.code g.pc = .ok (.invokevirtual index, 3) := by rw [hb]; exact hdg
  obtain ⟨v, ⟨U', l2, c2, s2⟩, X', ⟨g', mk', t, Lo, e1, e2, hq, h1, hL, h2, h3⟩, hsteps⟩ := hK g.method meth c ⟨T, locs, cells, slots⟩ { g with stack := rest } (.invokevirtual index) r (Value.ref b :: As).toArray X rfl (hsize.trans hml.symm) hdg' hW (X.named hnamed) ⟨hf.1, hf.2, hPc T hT X.warmed⟩
  dsimp only [Pt.U, Pt.locs, Pt.cells, Pt.slots] at X' e1 e2 h1 h2 h3 hsteps
  subst h1; subst h2; subst h3
  have hitf : kr'.isInterface = false := by rw [her]; exact hki kr hkr
  refine ⟨v, T.calling g' mk' (Value.ref b :: As).toArray, t, U', Lo, hT, X', hL, e1, e2, hq, fun target h => ?_⟩
  jvm_step X.here [hx, hdg', invokevirtual.wp_ready (e := e) (s := T) (r := r) (m := r) (k := kr') (mk := kr') (rmeth := methM) (meth := methM) (a := b) (args := As) (rest := rest) (cell := cellB) (f := g) X.here.top (nc_warm X.warmed ⟨kc, cf, ci, n, c', k', i1, i2, i3, i4, i5, i6⟩) (mr_warm X.warmed hready) hkr' hmT (signaturePolymorphic_of_name (by rw [her]; show kr.name ≠ _ ∧ kr.name ≠ _; rw [hkn]; exact hy) _) hstM hlen hstack (by rw [hT]; exact hcB) (fun z h => by rw [h] at hoB; cases hoB) hselT hmT habM hkr' hitf]
  intro acts
  rw [doInvoke_state]
  exact hsteps.trans h
end BLC
/-- the entry names a static method of a class that isn't a handle's -/
def nsC (s : State) (cur index : Nat) : Prop := ∃ (kc : Class) (cf : ClassFile) (ci n : Nat) (name desc : String) (c' : Nat) (k' : Class), s.vm.classes[cur]? = some kc ∧ kc.cf = some cf ∧ cf.constantPool[index]? = some (.methodref ci n) ∧ cf.constantPool.nameAndType? n = some (name, desc) ∧ s.vm.classReady cur ci c' ∧ s.vm.classes[c']? = some k' ∧ k'.name ≠ "java/lang/invoke/MethodHandle" ∧ k'.name ≠ "java/lang/invoke/VarHandle"
theorem nsC_ref {s T : State} {e : Env} (hW : s.WarmedH T.vm) {cur index : Nat} (h : nsC s cur index) : plainRef T e cur index := by
  obtain ⟨kc, cf, ci, n, name, desc, c', k', h1, h2, h3, h4, h5, h6, h7, h8⟩ := h
  obtain ⟨kc', hk', he⟩ := hW.alike.2.2 _ _ h1
  obtain ⟨k2, hk2, he2⟩ := hW.alike.2.2 _ _ h6
  obtain ⟨b, hb⟩ := memberRef_ask' (e := e) (vm := T.vm) (d := cur) (index := index) hk' (by rw [he]; exact h2) (Or.inl h3) h4
  refine ⟨ci, name, desc, b, c', k2, hb, cr_warm hW h5, hk2, ?_⟩
  have hp : ∀ x : Method, signaturePolymorphic k2 x = false := signaturePolymorphic_of_name (by rw [he2]; exact ⟨h7, h8⟩)
  simp [hp]
section BLS
variable {p : Program} {l : Launch} {e : Env} {R : Room} {s : State} {m : MethodId} {args : Array Value} {below : List Frame} {meth : Method} {c : Code} {H : Heap} {locs : List Loc} {cells slots mc ms : Nat} {cc bytes : ByteArray} {nL maxL index : Nat} {ws ws' : List Cond} {rm : Room} {ret : Option FieldType} {Pc : Array Value → State → Prop} {Qc : Array Value → State → Outcome → State → Prop} {free : Addr → Prop} {y : MethodName} {As rest : List Value} {g : JFrame} {r : MethodId}
theorem b_runLS (hx : p.tables.exec = Jvm.exec) (hb : c.code = cc) (hml : c.maxLocals = nL) (ht : ∀ w ∈ lw_all, w.before args s = true) (hnc : nsC s m.cls index) (hready : s.vm.methodReady m.cls index r) (hnr : s.methodNamed? y = some r)
    (hM : Met l y ws rm Pc Qc mc ms free) (hrc : rm.cells = mc) (hrs : rm.slots = ms) (hR : rm.frames + 1 ≤ R.frames ∧ 8 + (maxL + 11) + rm.locals ≤ R.locals) (hG : GoodIn lw_all ws) (hw : ws = Cond.code y bytes maxL ret :: ws') (hini : Cond.initialized y.cls ∈ lw_all) (hin : Cond.static y ∈ lw_all) (hy : y.cls ≠ "java/lang/invoke/MethodHandle" ∧ y.cls ≠ "java/lang/invoke/VarHandle") (hn : (parseMethodDescriptor y.desc).map (fun d => d.parameters.length) = some As.length) (hp : PreS s H Pc As)
    (hg : g.method = m) (hsize : g.locals.size = nL) (hstack : g.stack = As.reverse ++ rest) (hW : 2 * g.monitorRoom + (rest.map fun v => v.category).sum ≤ 8) (hdg : decode cc g.pc = .ok (.invokestatic index, 3)) (hf : cells + mc ≤ R.cells ∧ slots + ms ≤ R.slots) :
    va_Run p l e R s m args below meth c H locs cells slots mc ms g rest (Qc As.toArray) (free) := by
  have hc : Cond.code y bytes maxL ret ∈ ws := by rw [hw]; exact List.mem_cons_self
  have hinW : ∀ (a' : Array Value) (U : State), s.WarmedH U.vm → (Cond.initialized y.cls).before a' U = true := fun a' U hW => word_at hW (Or.inl (by first | rfl | simp [Cond.onTables, Cond.keeps, Cond.steady])) (ht _ hini)
  have hK : Back l R p e below s args y 3 8 (PreOf R mc ms Pc) (PostOf Qc mc ms free) := back_of (bytes := bytes) (maxL := maxL) (ret := ret) hM hp.1 hrc hrs hR.1 hR.2 (pay_in ht hG) hc hinW
  intro T hT X
  obtain ⟨methM, cM, hmethM, hcodeM', -, hlocalsM, -, -, -, hsigM⟩ := Cond.code_spec hnr (ht _ (hG _ hc).1)
  have hstM : methM.isStatic = true := Cond.static_spec hnr hmethM (ht _ hin)
  obtain ⟨kr, hkr, hkn⟩ := className_of_methodNamed hnr
  obtain ⟨kr', hkr', her⟩ := X.warmed.alike.2.2 _ _ hkr
  have hmT : T.vm.method? r = some methM := by rw [X.warmed.alike.method?]; exact hmethM
  have hlen : As.length = methM.sig.parameters.length := by
    rw [hsigM] at hn
    exact (Option.some.inj hn).symm
  have hinit : kr'.init = .initialized := Cond.initialized_spec (s := T) (findClass_of_methodNamed (X.named hnr)) hkr' (hinW args T X.warmed)
  subst hg
  have hdg' : decode c.code g.pc = .ok (.invokestatic index, 3) := by rw [hb]; exact hdg
  obtain ⟨v, ⟨U', l2, c2, s2⟩, X', ⟨g', mk', t, Lo, e1, e2, hq, h1, hL, h2, h3⟩, hsteps⟩ := hK g.method meth c ⟨T, locs, cells, slots⟩ { g with stack := rest } (.invokestatic index) r As.toArray X rfl (hsize.trans hml.symm) hdg' hW (X.named hnr) ⟨hf.1, hf.2, hp.2 T hT X.warmed⟩
  dsimp only [Pt.U, Pt.locs, Pt.cells, Pt.slots] at X' e1 e2 h1 h2 h3 hsteps
  subst h1; subst h2; subst h3
  refine ⟨v, T.calling g' mk' As.toArray, t, U', Lo, hT, X', hL, e1, e2, hq, fun target h => ?_⟩
  jvm_step X.here [hx, hdg', invokestatic.wp_ready (e := e) (s := T) (m := r) (k := kr') (meth := methM) (args := As) (rest := rest) (f := g) X.here.top (nsC_ref X.warmed hnc) (mr_warm X.warmed hready) hkr' hmT (signaturePolymorphic_of_name (by rw [her]; show kr.name ≠ _ ∧ kr.name ≠ _; rw [hkn]; exact hy) _) hstM hinit hlen hstack]
  intro acts
  rw [doInvoke_state]
  exact hsteps.trans h
end BLS
/-! the forwarder of a made class, by its site's shape -/
def fwM (σ : Lambda.Shape) (cls : String) : Option Method := (σ.file cls).bind fun D => (layoutMethods D).bind fun ms => ms[1]?
def fwB (σ : Lambda.Shape) (cls : String) : ByteArray := match (fwM σ cls).bind (fun m => m.code) with
  | some c => c.code
  | none => ⟨#[]⟩
def fwF (laid : Array Field) (D : ClassFile) (i j : Nat) : Bool := match D.constantPool[i]? with
  | some (.fieldref _ nt) => (match D.constantPool.nameAndType? nt with
    | some q => decide (laid.findIdx? (fun f => f.name == q.1) = some j) && decide ((laid[j]?).map (fun f => (f.isStatic, f.slot)) = some (false, j))
    | none => false)
  | _ => false
def fwI (σ : Lambda.Shape) (D : ClassFile) (mi : Nat) : Bool := match D.constantPool[mi]? with
  | some (.methodref ci nt) => decide (D.constantPool.className? ci = some σ.implClass) && decide (D.constantPool.nameAndType? nt = some (σ.implName, σ.implDesc.toString)) && decide (ci ≠ D.thisClass) && (match D.constantPool[ci]? with
    | some (.class_ n) => decide (D.constantPool.string? n = some σ.implClass)
    | _ => false)
  | _ => false
def fwOK (σ : Lambda.Shape) (cls : String) (mi : Nat) (fi : Nat → Nat) : Bool := match σ.file cls with
  | none => false
  | some D => match layoutFields D 0, fwM σ cls with
    | some laid, some f => (match f.code with | some c => decide (c.maxLocals = σ.sam.parameters.length + 1) | none => false) && decide (f.accessFlags = 1) && decide (f.sig.returnType = σ.sam.returnType) && fwI σ D mi && (List.range σ.captured.length).all fun j => fwF laid.1 D (fi j) j
    | _, _ => false
theorem fw_facts {e : Setting} {vm : Vm} {d c : ClassId} {dk : Class} {σ : Lambda.Shape} {mi : Nat} {fi : Nat → Nat} (hd : vm.classes[d]? = some dk) (h : Lambda.isMade e vm d σ c = true)
    (hO : ∀ o ok, vm.findClass "java/lang/Object" = some o → vm.classes[o]? = some ok → ok.instanceTypes.size = 0) (hck : fwOK σ dk.name mi fi = true) (hit : σ.implItf = false) :
    ∃ (k tk : Class) (file : ClassFile) (methk : Method) (ck : Code) (toy : ClassId) (t : MethodId) (ci nt : Nat),
      vm.classes[c]? = some k ∧ k.name = dk.name ++ "$$Lambda" ∧ k.cf = some file ∧ vm.method? ⟨c, 1⟩ = some methk ∧ methk.code = some ck ∧ ck.code = fwB σ dk.name ∧ ck.maxLocals = σ.sam.parameters.length + 1 ∧ methk.locks = false ∧ methk.accessFlags = 1 ∧ methk.sig.returnType = σ.sam.returnType ∧
      vm.findClass σ.implClass = some toy ∧ vm.classes[toy]? = some tk ∧ tk.isInterface = false ∧ ((methodIn toy σ.implName σ.implDesc.toString tk.isInterface none).ask e vm).1 = .ok t ∧
      vm.methodReady c mi t ∧ file.constantPool[mi]? = some (.methodref ci nt) ∧ file.constantPool.nameAndType? nt = some (σ.implName, σ.implDesc.toString) ∧ vm.classReady c ci toy ∧
      ∀ j, j < σ.captured.length → ∃ f : Field, vm.fieldReady c (fi j) c f ∧ f.isStatic = false ∧ f.slot = j := by
  obtain ⟨dk', k, ok, tk, file, cf, object, iface, toy, lay, methods, target, found, hd', hk, hfile, hcf, hobj, -, hok, hlay, hms, ht, htk, hg, -, hrec, -, -, -, hitf, hpool, hmeth, hfields, -, hres, -⟩ := Lambda.isMade_spec h
  cases hd.symm.trans hd'
  rw [hO object ok hobj hok] at hlay
  unfold fwOK at hck
  rw [hcf] at hck
  simp only [hlay] at hck
  cases hfm : fwM σ dk.name with
  | none => simp [hfm] at hck
  | some f =>
    simp only [hfm] at hck
    have hf1 : methods[1]? = some f := by
      have h9 := hfm
      unfold fwM at h9
      rw [hcf] at h9
      simp only [Option.bind_some, hms] at h9
      exact h9
    obtain ⟨b, hb, hsame⟩ := hmeth 1 f hf1
    simp only [Lambda.sameMethod, Bool.and_eq_true, decide_eq_true_eq] at hsame
    obtain ⟨⟨hn, -, hsig, hfl⟩, hcode⟩ := hsame
    simp only [Bool.and_eq_true, decide_eq_true_eq] at hck
    obtain ⟨⟨⟨⟨c1, c2⟩, c3⟩, c4⟩, c5⟩ := hck
    cases hfc : f.code with
    | none => simp [hfc] at c1
    | some x =>
      simp only [hfc, decide_eq_true_eq] at c1
      cases hbc : b.code with
      | none => simp [hfc, hbc] at hcode
      | some y =>
        simp only [hfc, hbc, Bool.and_eq_true, decide_eq_true_eq] at hcode
        have hfw : fwB σ dk.name = x.code := by
          unfold fwB
          rw [hfm]
          simp [hfc]
        unfold fwI at c4
        split at c4
        · rename_i ci nt hmi
          simp only [Bool.and_eq_true, decide_eq_true_eq] at c4
          obtain ⟨⟨⟨m1, m2⟩, m3⟩, m4⟩ := c4
          split at m4
          · rename_i n hci
            have m4 := of_decide_eq_true m4
            refine ⟨k, tk, file, b, y, toy, target, ci, nt, hk, hrec.1, hfile, by simp [Vm.method?, hk, hb], hbc, ?_, by rw [← hcode.1.1.1.1.2.1]; exact c1, ?_, by rw [← hfl]; exact c2, by rw [← hsig]; exact c3, ht, htk, by rw [hitf]; exact hit, hg,
              ⟨k, hk, hres mi _ (Lambda.resolvedOf_method hmi m1 ht htk m2 hg)⟩, by rw [hpool.2.1]; exact hmi, by rw [hpool.2.1]; exact m2, ⟨k, hk, hres ci _ (Lambda.resolvedOf_class hci m3 m4 ht)⟩, fun j hj => ?_⟩
            · rw [hfw, ← hcode.1.1.1.1.2.2]
            · simp [Method.locks, Method.isSynchronized, ← hfl, c2, hasFlag, Acc.synchronized]
            · have c6 := List.all_eq_true.mp c5 j (List.mem_range.mpr hj)
              unfold fwF at c6
              split at c6
              · rename_i z nt2 hfi
                split at c6
                · rename_i q hq
                  simp only [Bool.and_eq_true, decide_eq_true_eq] at c6
                  obtain ⟨g0, hg0, hp0⟩ := Option.map_eq_some_iff.mp c6.2
                  simp only [Prod.mk.injEq] at hp0
                  exact ⟨g0, ⟨k, j, k, hk, hres (fi j) _ (Lambda.resolvedOf_field (name := q.1) (desc := q.2) hfi hq c6.1), hk, hfields j _ hg0⟩, hp0.1, hp0.2⟩
                · cases c6
              · cases c6
          · cases m4
        · cases c4
theorem mi_none {vm : Vm} {c i : Nat} {name desc : String} {ck : Class} {meth : Method} {via : Bool} (e : Setting) (hc : vm.classes[c]? = some ck) (hvia : ck.isInterface = via) (hpoly : ∀ y, signaturePolymorphic ck y = false) (hi : ck.findMethod name desc = some i) (hm : ck.methods[i]? = some meth) : (methodIn c name desc via none).Gives e vm (.ok ⟨c, i⟩) vm := by
  unfold methodIn
  refine (getClass_gives e hc).bind ?_
  have hany : ∀ j : Nat, Option.any (signaturePolymorphic ck) ck.methods[j]? = false := fun j => by cases ck.methods[j]? <;> simp [hpoly]
  have hlook : lookupInSuperclasses vm name desc (vm.classes.size + 1) c = some ⟨c, i⟩ := by simp [lookupInSuperclasses, hc, hi]
  have hgm : (getMethod ⟨c, i⟩).Gives e vm (.ok meth) vm := getMethod_gives e hc hm
  have hor : ∀ (x : MethodId) (y : Option MethodId), (some x <|> y) = some x := fun _ _ => rfl
  simp only [hvia, bne_self_eq_false, Bool.false_eq_true, if_false, hany]
  generalize (List.filter (fun i => Option.any (fun x => x.name == name) ck.methods[i]?) (List.range ck.methods.size)) = L
  rcases L with _ | ⟨j, _ | ⟨j', L⟩⟩ <;> cases via <;>
  · simp only [Option.isSome_none, Option.isNone_none, Bool.false_eq_true, if_false, Bool.and_self, if_true]
    refine VmM.Gives.getVm.bind ?_
    simp only [hlook, hor, hi]
    exact (getEnv_gives e vm).bind ((getClass_gives e hc).bind ((VmM.Gives.mark _).bind (.pure _)))
theorem tgt_is {s : State} {e : Setting} {y : MethodName} {r t : MethodId} {toy : ClassId} {tk : Class} {meth : Method} (hn : s.methodNamed? y = some r) (hm : s.vm.method? r = some meth) (htoy : s.vm.findClass y.cls = some toy) (htk : s.vm.classes[toy]? = some tk) (hnm : y.cls ≠ "java/lang/invoke/MethodHandle" ∧ y.cls ≠ "java/lang/invoke/VarHandle") (hg : ((methodIn toy y.name y.desc tk.isInterface none).ask e s.vm).1 = .ok t) : t = r := by
  have hc1 := findClass_of_methodNamed hn
  cases htoy.symm.trans hc1
  obtain ⟨k2, hk2, hkn⟩ := className_of_methodNamed hn
  cases htk.symm.trans hk2
  have hfi : tk.findMethod y.name y.desc = some r.idx := by
    have h9 := hn
    simp only [State.methodNamed?, htoy, htk, Option.bind_eq_bind, Option.bind_some, Option.pure_def] at h9
    cases hf : tk.findMethod y.name y.desc with
    | none => simp [hf] at h9
    | some i => simp only [hf, Option.bind_some, Option.some.injEq] at h9; rw [← h9]
  have hmm : tk.methods[r.idx]? = some meth := by
    simpa [Vm.method?, htk] using hm
  obtain ⟨ms', hms⟩ := mi_none (c := r.cls) e htk rfl (signaturePolymorphic_of_name (by rw [hkn]; exact hnm)) hfi hmm []
  have : ((methodIn r.cls y.name y.desc tk.isInterface none).ask e s.vm).1 = .ok ⟨r.cls, r.idx⟩ := by
    simp [VmM.ask, hms]
  rw [this] at hg
  exact (Except.ok.inj hg).symm
/-! a call of a lambda's object: into its forwarder, through it, and back -/
section BMD
variable {p : Program} {l : Launch} {e : Env} {R : Room} {s : State} {m : MethodId} {args : Array Value} {below : List Frame} {meth : Method} {c : Code} {H : Heap} {locs : List Loc} {cells slots mc ms : Nat} {cc : ByteArray} {nL index count : Nat} {rm : Room} {Qc : Array Value → State → Outcome → State → Prop} {free : Addr → Prop} {x : MethodName} {σ : Lambda.Shape} {d K : ClassId} {q : Addr} {cell : Cell} {As rest : List Value} {g : JFrame}
theorem b_runM (hx : p.tables.exec = Jvm.exec) (hb : c.code = cc) (hml : c.maxLocals = nL) {own : String} (hown : s.vm.findClass own = some m.cls) (hlink : (Cond.methodLink own index x).before args s = true) (hdecl : (Cond.declares x).before #[] s = true) (hif : ∀ (i : ClassId) (k : Class), s.vm.findClass x.cls = some i → s.vm.classes[i]? = some k → k.isInterface = true)
    (hmade : Lambda.isMade { classPath := fun _ => none } s.vm d σ cell.cls = true) (hcan : s.lambdaCallable σ cell.cls = true) (hxc : x = ⟨σ.iface, σ.name, σ.sam.toString⟩) (hxh : x.cls ≠ "java/lang/invoke/MethodHandle" ∧ x.cls ≠ "java/lang/invoke/VarHandle")
    (hcell : H[q]? = some cell) (hvm : cell.vm = .none) {methk : Method} {ck : Code} (hmk : s.vm.method? ⟨cell.cls, 1⟩ = some methk) (hck : methk.code = some ck) (hlk : methk.locks = false) (hfl : methk.accessFlags = 1) (hab : methk.isAbstract = false) (hnm : ∀ k : Class, s.vm.classes[cell.cls]? = some k → plainName k.name = true)
    (hn : (parseMethodDescriptor x.desc).map (fun d => d.parameters.length) = some As.length)
    (hR : rm.frames + 1 ≤ R.frames ∧ 8 + (ck.maxLocals + 11) + rm.locals ≤ R.locals) (hrc : rm.cells = mc) (hrs : rm.slots = ms)
    (hg : g.method = m) (hsize : g.locals.size = nL) (hstack : g.stack = As.reverse ++ .ref q :: rest) (hW : 2 * g.monitorRoom + (rest.map fun v => v.category).sum ≤ 8) (hdg : decode cc g.pc = .ok (.invokeinterface index count, 5)) (hf : cells + mc ≤ R.cells ∧ slots + ms ≤ R.slots)
    (inner : ∀ U : State, U.heap = H → s.WarmedH U.vm → ∀ below' : List Frame, W p l e rm U ⟨cell.cls, 1⟩ (Value.ref q :: As).toArray below' methk ck H [] 0 0 (MQ below' Qc (Value.ref q :: As).toArray U mc ms free) (entryFrame ⟨cell.cls, 1⟩ (Value.ref q :: As).toArray ck.maxLocals)) :
    va_Run5 p l e R s m args below meth c H locs cells slots mc ms g rest (Qc (Value.ref q :: As).toArray) free := by
  intro T hT X
  obtain ⟨r0, r, hnr, hrm, hstR, hsigR⟩ := Cond.declares_spec hdecl
  obtain ⟨kx, hkx, hnx⟩ := className_of_methodNamed hnr
  have hfc := findClass_of_methodNamed hnr
  have hii := hif _ _ hfc hkx
  obtain ⟨hnameR, hdescR⟩ := name_of_methodNamed hnr hrm
  obtain ⟨i, hi, hasg, hway⟩ := State.lambdaCallable_spec hcan
  obtain ⟨dk, k, ok, tk, file, cf, object, iface, t, lay, methods, target, found, hd', hk, -, -, -, hifc, -, -, -, -, -, -, hfound, -, -, -, -, -, -, -, -, -, -, hsel⟩ := Lambda.isMade_spec hmade
  subst hxc
  have hir : i = r0.cls := Option.some.inj (hi.symm.trans hfc)
  have hic : iface = r0.cls := Option.some.inj (hifc.symm.trans hfc)
  subst hic
  have hft : found = r0 := tgt_is (y := ⟨σ.iface, σ.name, σ.sam.toString⟩) hnr hrm hfc hkx hxh (by rw [hii]; exact hfound)
  subst hft
  have hselP : selectMethod e.platform s.vm cell.cls found = .method ⟨cell.cls, 1⟩ := by rw [Launch.admits_selectMethod X.admits]; exact hsel
  have hdg' : decode c.code g.pc = .ok (.invokeinterface index count, 5) := by rw [hb]; exact hdg
  have hlen : As.length = r.sig.parameters.length := by
    rw [hsigR] at hn
    exact (Option.some.inj hn).symm
  obtain ⟨vm₁, X₁, hstep₁⟩ := X.invokeinterface hx hown hlink hnr hrm hstR hkx hii hxh (a := q) (cell := cell) (kcell := k) (by rw [hT]; exact hcell) (fun z h => by rw [hvm] at h; cases h) hk (by rw [← hir]; exact hasg) hselP hmk (by rw [hnameR, hdescR]; exact hway) (by rw [hfl]; rfl) hab (g := g) hg (argsL := As) (rest := rest) hlen hstack hdg'
  obtain ⟨Y₀, hin⟩ := X₁.into (g := { g with stack := rest }) hg (hsize.trans hml.symm) hdg' (Value.ref q :: As).toArray (mk := ⟨cell.cls, 1⟩) (R' := rm) (by rw [X₁.warmed.alike.method?]; exact hmk) hck hlk (State.plainMethod.of_name (fun k' hk' => by
      obtain ⟨k0, hk0, he0⟩ := X₁.warmed.alike.2.2 _ _ hk
      have hk1 : k' = k0 := Option.some.inj (hk'.symm.trans hk0)
      rw [hk1, he0]
      exact hnm k hk)) hR.1 (by show 2 * g.monitorRoom + (rest.map fun v => v.category).sum + _ + _ ≤ _; have := hR.2; omega) (by rw [hrc]; exact hf.1) (by rw [hrs]; exact hf.2)
  generalize hU : ((T.setVm vm₁).setTop { g with stack := rest }).pushFrame (.java (entryFrame ⟨cell.cls, 1⟩ (Value.ref q :: As).toArray ck.maxLocals)) = U at Y₀ hin
  have hheap : U.heap = H := by rw [← hU]; exact hT
  obtain ⟨t1, st1, o, hrun, hend, hq, Lo, ⟨⟨v, hv⟩, hWe, hsame⟩, hL⟩ := inner ((T.setVm vm₁).calling { g with stack := rest } ⟨cell.cls, 1⟩ (Value.ref q :: As).toArray) hT X₁.warmed (.java { g with stack := rest } :: below) U hheap Y₀
  subst hv
  obtain ⟨T', X', hW', -, ht⟩ := X₁.outOf (g := { g with stack := rest }) hg hdg' hend hWe hsame
  refine ⟨v, (T.setVm vm₁).calling { g with stack := rest } ⟨cell.cls, 1⟩ (Value.ref q :: As).toArray, t1, T', Lo, hT, X', hL, by rw [ht]; rfl, by rw [ht]; rfl, hq, fun target h => hstep₁ _ fun acts => ?_⟩
  rw [hin acts]
  refine Steps.trans (Steps.weaken (mid := [.java { g with stack := rest }]) st1) ?_
  rw [ht]
  exact h
end BMD
