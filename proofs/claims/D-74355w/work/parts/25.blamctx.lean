/-! what is known of a lambda's class, by its site -/
theorem mi_itf {e : Setting} {vm : Vm} {c : ClassId} {ck : Class} {name desc : String} {t : MethodId} (hc : vm.classes[c]? = some ck) (h : ((methodIn c name desc true none).ask e vm).1 = .ok t) : ck.isInterface = true := by
  cases hi : ck.isInterface with
  | true => rfl
  | false =>
    exfalso
    obtain ⟨ms', hms⟩ := getClass_gives e hc []
    unfold VmM.ask methodIn at h
    simp [Bind.bind, hms, hi, VmM.failAs] at h
section BCX
variable {p : Program} {s : State} {m : MethodId} {c : Code} {cc : ByteArray} {nL : Nat} {args : Array Value} {own : String} {G : hG} {zs : Nat → Nat} {A : Nat → Prop} {j mi : Nat} {fi : Nat → Nat} {xL : MethodName} {pcL idxL : Nat} {σ : Lambda.Shape}
theorem lm_ctx (ht : ∀ w ∈ lw_all, w.before args s = true) (hS : SK G zs hSites A s) (hq : hSites[j]? = some (xL, pcL, idxL, σ)) (hok : fwOK σ xL.cls mi fi = true) (hit : σ.implItf = false) :
    ∃ (d : ClassId) (k tk : Class) (file : ClassFile) (methk : Method) (ck : Code) (toy : ClassId) (t : MethodId) (ci nt : Nat),
      Lambda.isMade { classPath := fun _ => none } s.vm d σ (G.2.2 j) = true ∧ s.lambdaCallable σ (G.2.2 j) = true ∧
      s.vm.classes[G.2.2 j]? = some k ∧ k.name = xL.cls ++ "$$Lambda" ∧ k.cf = some file ∧ s.vm.method? ⟨G.2.2 j, 1⟩ = some methk ∧ methk.code = some ck ∧ ck.code = fwB σ xL.cls ∧ ck.maxLocals = σ.sam.parameters.length + 1 ∧ methk.locks = false ∧ methk.accessFlags = 1 ∧ methk.sig.returnType = σ.sam.returnType ∧
      s.vm.findClass σ.implClass = some toy ∧ s.vm.classes[toy]? = some tk ∧ tk.isInterface = false ∧ ((methodIn toy σ.implName σ.implDesc.toString tk.isInterface none).ask { classPath := fun _ => none } s.vm).1 = .ok t ∧
      s.vm.methodReady (G.2.2 j) mi t ∧ file.constantPool[mi]? = some (.methodref ci nt) ∧ file.constantPool.nameAndType? nt = some (σ.implName, σ.implDesc.toString) ∧ s.vm.classReady (G.2.2 j) ci toy ∧
      (∀ i, i < σ.captured.length → ∃ f : Field, s.vm.fieldReady (G.2.2 j) (fi i) (G.2.2 j) f ∧ f.isStatic = false ∧ f.slot = i) ∧
      ∀ (i : ClassId) (ki : Class), s.vm.findClass σ.iface = some i → s.vm.classes[i]? = some ki → ki.isInterface = true := by
  obtain ⟨m1, kS, cfS, i0, p0, lk, hm1, hkS, hcfS, hsh, -, hfind, hmade, hcan, hlk⟩ := State.lambdaAt?_spec (hS.2.2.2.1 j _ hq)
  obtain ⟨kS2, hkS2, hnameS⟩ := className_of_methodNamed hm1
  cases hkS.symm.trans hkS2
  have hO : ∀ o ok, s.vm.findClass "java/lang/Object" = some o → s.vm.classes[o]? = some ok → ok.instanceTypes.size = 0 := by
    intro o ok h1 h2
    obtain ⟨c1, k1, g1, g2, g3, g4⟩ := Cond.instantiable_spec (ht _ q2692)
    cases h1.symm.trans g1
    cases h2.symm.trans g2
    first | exact g4 | exact g4.1 | exact g4.2.1 | exact g4.2.2
  obtain ⟨k, tk, file, methk, ck, toy, t, ci, nt, r1, r2, r3, r4, r5, r6, r7, r8, r9, r10, r11, r12, r13, r14, r15, r16, r17, r18, r19⟩ := fw_facts (mi := mi) (fi := fi) hkS hmade hO (by rw [hnameS]; exact hok) hit
  rw [hnameS] at r2 r6
  exact ⟨_, k, tk, file, methk, ck, toy, t, ci, nt, hmade, hcan, r1, r2, r3, r4, r5, r6, r7, r8, r9, r10, r11, r12, r13, r14, r15, r16, r17, r18, r19, fun i ki g1 g2 => by
    obtain ⟨dk, k, ok, tk, file, cf, object, iface, t, lay, methods, target, found, -, -, -, -, -, hifc, -, -, -, -, -, -, hfound, -, -, -, -, -, -, -, -, -, -, -⟩ := Lambda.isMade_spec hmade
    cases g1.symm.trans hifc
    exact mi_itf g2 hfound⟩
end BCX
