/-! inside a forwarder: from its entry to its return -/
theorem Met_row {l : Launch} {y : MethodName} {ws : List Cond} {rm : Room} {G : hG} {zs : Nat → Nat} {h : AH} {nx : Nat} {av : List Value} {v : Value} {P : Prop} (hM : Met l y ws rm (bPc G zs hSites h nx av) (gR (some v) P) 0 0 (fun _ => False)) : Met l y ws rm (bPc G zs hSites h nx av) (bQ G (some v) P h nx (AA h nx)) 0 0 (AA h nx) := by
  intro p e ha h1 h2 s m args below hfr happ hP hK
  obtain ⟨n, o, w1, w2, w3, ⟨q1, q2, q3⟩, L, w5, w6⟩ := hM p e ha h1 h2 s m args below hfr happ hP hK
  obtain ⟨-, b1, b2, b3⟩ := hP
  exact ⟨n, o, w1, w2, w3, ⟨q1, q2, fun q e he => by rw [q3]; exact b1 q e he, by rw [q3]; exact b2, fun q e he => Or.inl ⟨e, he⟩, ⟨by rw [q3]; exact Nat.le_refl _, fun q _ _ => by rw [q3]⟩⟩, L, w5, fun q hq => (w6 q hq).elim⟩
section BIN
variable {p : Program} {l : Launch} {e : Env} {R : Room} {s : State} {m : MethodId} {args : Array Value} {below : List Frame} {meth : Method} {c : Code} {H : Heap} {locs : List Loc} {cells slots : Nat} {Q : State → Prop} {cc : ByteArray} {ls : Array Slot} {fi : Nat → Nat} {vs : List Value} {q : Nat} {cell : Cell} {cF : Nat}
theorem lm_caps (hx : p.tables.exec = Jvm.exec) (hb : c.code = cc) (hcell : H[q]? = some cell) (hk : cell.vm = .none) (hsl : cell.slots = vs.toArray) (hl : ls[0]? = some (.val (.ref q)))
    (hfs : ∀ j, j < vs.length → ∃ f : Field, s.vm.fieldReady m.cls (fi j) cF f ∧ f.isStatic = false ∧ f.slot = j)
    (hd : ∀ j, j < vs.length → decode cc (4 * j) = .ok (.aload_n 0, 1) ∧ decode cc (4 * j + 1) = .ok (.getfield (fi j), 3)) :
    ∀ n, n ≤ vs.length → W p l e R s m args below meth c H locs cells slots Q (F0 m (4 * n) ls (vs.take n).reverse) → W p l e R s m args below meth c H locs cells slots Q (F0 m 0 ls []) := by
  intro n
  induction n with
  | zero => intro _ hw; simpa using hw
  | succ n ih =>
    intro hn hw
    refine ih (by omega) ?_
    obtain ⟨f, f1, f2, f3⟩ := hfs n (by omega)
    obtain ⟨d1, d2⟩ := hd n (by omega)
    refine lv_aload_n hx hb d1 rfl hl ?_
    refine wl_get hx hb f1 f2 hcell hk (v := vs[n]) (by rw [hsl, f3]; simp) d2 ?_
    have e1 : (vs.take (n + 1)).reverse = vs[n] :: (vs.take n).reverse := by
      rw [List.take_succ_eq_append_getElem (by omega), List.reverse_append]; rfl
    rw [← e1]
    exact hw
end BIN
theorem lva_int : ∀ (sa : List Int32) (k i : Nat) (v : Int32), sa[i]? = some v → (k + i, Value.int v) ∈ lv_args k (sa.map Value.int)
  | [], _, _, _, h => by simp at h
  | x :: sa, k, 0, v, h => by
    simp at h
    subst h
    exact List.mem_cons_self
  | x :: sa, k, i + 1, v, h => by
    have h1 := lva_int sa (k + 1) i v (by simpa using h)
    show (k + (i + 1), Value.int v) ∈ (k, Value.int x) :: lv_args (k + 1) (sa.map Value.int)
    rw [show k + (i + 1) = k + 1 + i by omega]
    exact List.mem_cons_of_mem _ h1
theorem lgsl_int : ∀ (sa : List Int32), (lg_sl (sa.map Value.int)).length = sa.length
  | [] => rfl
  | x :: sa => by
    have := lgsl_int sa
    have h1 : (lg_sl ((x :: sa).map Value.int)).length = 1 + (lg_sl (sa.map Value.int)).length := by simp [lg_sl, Value.category, Nat.add_comm]
    rw [h1, this, List.length_cons]; omega
section BIM
variable {p : Program} {l : Launch} {e : Env} {R : Room} {U : State} {K : ClassId} {below : List Frame} {methk : Method} {ck : Code} {H : Heap} {cc : ByteArray} {fi : Nat → Nat} {vs : List Value} {sa : List Int32} {q mc ms nx : Nat} {cell : Cell} {G : hG} {h h' : AH} {v : Int32} {P : Prop} {aa : Array Value}
theorem lm_ils {m : MethodId} {args : Array Value} {meth : Method} {c : Code} {locs : List Loc} {cells slots : Nat} {Q : State → Prop} {ls : Array Slot} {st : List Value} {base : Nat} (hx : p.tables.exec = Jvm.exec) (hb : c.code = cc) (hl : ∀ i v, sa[i]? = some v → ls[i + 1]? = some (.val (.int v)))
    (hd : ∀ i, i < sa.length → ∃ k4 : Fin 4, (k4 : Nat) = i + 1 ∧ decode cc (base + i) = .ok (.iload_n k4, 1)) :
    ∀ n, n ≤ sa.length → W p l e R U m args below meth c H locs cells slots Q (F0 m (base + n) ls (((sa.take n).map Value.int).reverse ++ st)) → W p l e R U m args below meth c H locs cells slots Q (F0 m base ls st) := by
  intro n
  induction n with
  | zero => intro _ hw; simpa using hw
  | succ n ih =>
    intro hn hw
    refine ih (by omega) ?_
    obtain ⟨k4, hk, d1⟩ := hd n (by omega)
    refine lv_iload_n hx hb d1 hk (hl n sa[n] (by simp)) ?_
    have e1 : ((sa.take (n + 1)).map Value.int).reverse ++ st = Value.int sa[n] :: (((sa.take n).map Value.int).reverse ++ st) := by
      rw [List.take_succ_eq_append_getElem (by omega), List.map_append, List.reverse_append]; rfl
    rw [← e1]
    exact hw
theorem lm_in (hx : p.tables.exec = Jvm.exec) (hcc : ck.code = cc) (hmlk : ck.maxLocals = sa.length + 1) (hlk : methk.locks = false) (hret : methk.sig.returnType = some .int ∨ (methk.sig.returnType = some .boolean ∧ (P → narrow .boolean (.int v) = .int v)))
    (hB : BI G (AA h nx) U.heap h nx H []) (hcell : H[q]? = some cell) (hk : cell.vm = .none) (hsl : cell.slots = vs.toArray)
    (hfs : ∀ j, j < vs.length → ∃ f : Field, U.vm.fieldReady K (fi j) K f ∧ f.isStatic = false ∧ f.slot = j)
    (hdL : ∀ j, j < vs.length → decode cc (4 * j) = .ok (.aload_n 0, 1) ∧ decode cc (4 * j + 1) = .ok (.getfield (fi j), 3))
    (hdA : ∀ i, i < sa.length → ∃ k4 : Fin 4, (k4 : Nat) = i + 1 ∧ decode cc (4 * vs.length + i) = .ok (.iload_n k4, 1))
    (hdR : decode cc (4 * vs.length + sa.length + 3) = .ok (.ireturn, 1))
    (hrun : ∀ ls : Array Slot, ls.size = sa.length + 1 → va_Run p l e R U ⟨K, 1⟩ (Value.ref q :: sa.map Value.int).toArray below methk ck H [] 0 0 mc ms (F0 ⟨K, 1⟩ (4 * vs.length + sa.length) ls (vs ++ sa.map Value.int).reverse) [] (bQ G (some (.int v)) P h' (nx + mc) (AA h nx) aa) (AA h nx)) :
    W p l e R U ⟨K, 1⟩ (Value.ref q :: sa.map Value.int).toArray below methk ck H [] 0 0 (MQ below (bQ G (some (.int v)) P h' (nx + mc) (AA h nx)) (Value.ref q :: sa.map Value.int).toArray U mc ms (AA h nx)) (entryFrame ⟨K, 1⟩ (Value.ref q :: sa.map Value.int).toArray ck.maxLocals) := by
  have hlen : (lg_sl (Value.ref q :: sa.map Value.int)).length ≤ ck.maxLocals := by
    have h1 : (lg_sl (Value.ref q :: sa.map Value.int)).length = (lg_sl (sa.map Value.int)).length + 1 := rfl
    rw [h1, lgsl_int, hmlk]
    exact Nat.le_refl _
  have hl := lv_entry (Value.ref q :: sa.map Value.int) (n := ck.maxLocals) hlen
  rw [lg_entry_eq]
  generalize ((lg_sl (Value.ref q :: sa.map Value.int) ++ List.replicate (ck.maxLocals - (lg_sl (Value.ref q :: sa.map Value.int)).length) Slot.unset).toArray) = ls at hl ⊢
  have hsz : ls.size = sa.length + 1 := hl.1.trans hmlk
  refine lm_caps (m := ⟨K, 1⟩) (cF := K) (vs := vs) (fi := fi) hx hcc hcell hk hsl (lv_at hl 0 rfl) hfs hdL vs.length (Nat.le_refl _) ?_
  rw [List.take_length]
  refine lm_ils (sa := sa) hx hcc (fun i v hv => hl.2.2 (i + 1, .int v) (by
    have h1 := lva_int sa 1 i v hv
    rw [Nat.add_comm 1 i] at h1
    exact List.mem_cons_of_mem _ h1)) hdA sa.length (Nat.le_refl _) ?_
  rw [List.take_length, ← List.reverse_append]
  refine br_w (hrun ls hsz) hB ?_
  intro H1 locs1 hp hB1
  rw [Nat.zero_add, Nat.zero_add]
  rcases hret with hr | ⟨hr, hn⟩
  · exact W.iret hx hcc hr (fun t ht _ => bEnd hB1 ht rfl hp) hB1.2.2.2.1.2.2 hdR hlk
  · exact W.zret hx hcc hr (hn hp) (fun t ht _ => bEnd hB1 ht rfl hp) hB1.2.2.2.1.2.2 hdR hlk
end BIM
/-! a call through an interface, of a lambda's object -/
theorem ctx_nc {s : State} {K ci toy nt mi : Nat} {k tk : Class} {file : ClassFile} (h1 : s.vm.classes[K]? = some k) (h2 : k.cf = some file) (h3 : file.constantPool[mi]? = some (.methodref ci nt)) (h4 : s.vm.classReady K ci toy) (h5 : s.vm.classes[toy]? = some tk) (h6 : tk.isInterface = false) : namesAClass s K mi := ⟨k, file, ci, nt, toy, tk, h1, h2, h3, h4, h5, h6⟩
theorem ctx_ns {s T : State} (hW : s.WarmedH T.vm) {K ci toy nt mi : Nat} {k tk : Class} {file : ClassFile} {nm ds : String} (hn : tk.name ≠ "java/lang/invoke/MethodHandle" ∧ tk.name ≠ "java/lang/invoke/VarHandle") (h1 : s.vm.classes[K]? = some k) (h2 : k.cf = some file) (h3 : file.constantPool[mi]? = some (.methodref ci nt)) (h3' : file.constantPool.nameAndType? nt = some (nm, ds)) (h4 : s.vm.classReady K ci toy) (h5 : s.vm.classes[toy]? = some tk) : nsC T K mi := by
  obtain ⟨k1, q1, e1⟩ := hW.alike.2.2 _ _ h1
  obtain ⟨k2, q2, e2⟩ := hW.alike.2.2 _ _ h5
  exact ⟨k1, file, ci, nt, nm, ds, toy, k2, q1, by rw [e1]; exact h2, h3, h3', cr_warm hW h4, q2, by rw [e2]; exact hn.1, by rw [e2]; exact hn.2⟩
theorem nm_of_code {y : MethodName} {bytes : ByteArray} {maxL : Nat} {ret : Option FieldType} {args : Array Value} {s : State} (h : (Cond.code y bytes maxL ret).before args s = true) : ∃ m, s.methodNamed? y = some m := by
  cases hm : s.methodNamed? y with
  | some m => exact ⟨m, rfl⟩
  | none => simp [Cond.before, Cond.holds, Cond.value, hm] at h
section BIC
variable {p : Program} {l : Launch} {e : Env} {R : Room} {s : State} {m : MethodId} {args : Array Value} {below : List Frame} {meth : Method} {c : Code} {H : Heap} {locs : List Loc} {cells slots : Nat} {Q : State → Prop} {cc : ByteArray} {nL pc : Nat} {ls : Array Slot} {rest : List Value} {G : hG} {zs : Nat → Nat} {A : Nat → Prop} {h : AH} {nx : Nat} {own : String} {idx cnt : Nat}
variable {x y : MethodName} {j mi : Nat} {fi : Nat → Nat} {xL : MethodName} {pcL idxL : Nat} {σ : Lambda.Shape} {vs cap : List Value} {sa : List Int32} {b q : Nat} {bytes : ByteArray} {maxL : Nat} {ret : Option FieldType} {rmI : Room} {out : Int32 × AH × Nat × Nat} {P : Prop} {C : String} {ci : Nat} {fs : List Value} {Tb : u_T} {N : Nat}
theorem lm_call5 (S : CallFix p m c cc nL s args lw_all own) (hS : SK G zs hSites A s) (hB : BI G A s.heap h nx H locs) (hlink : (Cond.methodLink own idx x).before args s = true) (hdecl : Cond.declares x ∈ lw_tbl) (hxc : x = ⟨σ.iface, σ.name, σ.sam.toString⟩) (hxh : x.cls ≠ "java/lang/invoke/MethodHandle" ∧ x.cls ≠ "java/lang/invoke/VarHandle")
    (hq : hSites[j]? = some (xL, pcL, idxL, σ)) (hok : fwOK σ xL.cls mi fi = true) (hit : σ.implItf = false) (hnmL : plainName (xL.cls ++ "$$Lambda") = true) (hcap : σ.captured.length = vs.length) (hsp : σ.sam.parameters.length = sa.length) (hn : (parseMethodDescriptor x.desc).map (fun d => d.parameters.length) = some sa.length)
    (hent : h q = some (.inr (.inr (j, vs)))) (hvs : vs = .ref b :: cap) (hy : y = ⟨σ.implClass, σ.implName, σ.implDesc.toString⟩) (hyh : y.cls ≠ "java/lang/invoke/MethodHandle" ∧ y.cls ≠ "java/lang/invoke/VarHandle") (hyn : (parseMethodDescriptor y.desc).map (fun d => d.parameters.length) = some (cap.length + sa.length))
    (hin : Cond.instanceMethod y ∈ lw_all) (hini : Cond.initialized y.cls ∈ lw_all) (hpr : Cond.privateMethod y ∈ lw_tbl) (hco : Cond.code y bytes maxL ret ∈ lw_all)
    (hM : Met l y (ws_ y bytes maxL ret) rmI (bPc G zs hSites h nx (.ref b :: (cap ++ sa.map Value.int))) (bQ G (some (.int out.1)) P out.2.1 (nx + out.2.2.1) (AA h nx)) out.2.2.1 out.2.2.2 (AA h nx)) (hrc : rmI.cells = out.2.2.1) (hrs : rmI.slots = out.2.2.2)
    (hcl : hCl[ci]? = some (C, Tb, N)) (hrec : h b = some (.inr (.inl (ci, fs))))
    (hdL : ∀ j, j < vs.length → decode (fwB σ xL.cls) (4 * j) = .ok (.aload_n 0, 1) ∧ decode (fwB σ xL.cls) (4 * j + 1) = .ok (.getfield (fi j), 3))
    (hdA : ∀ i, i < sa.length → ∃ k4 : Fin 4, (k4 : Nat) = i + 1 ∧ decode (fwB σ xL.cls) (4 * vs.length + i) = .ok (.iload_n k4, 1))
    (hdI : decode (fwB σ xL.cls) (4 * vs.length + sa.length) = .ok (.invokevirtual mi, 3)) (hdR : decode (fwB σ xL.cls) (4 * vs.length + sa.length + 3) = .ok (.ireturn, 1))
    (hret : σ.sam.returnType = some .int ∨ (σ.sam.returnType = some .boolean ∧ (P → narrow .boolean (.int out.1) = .int out.1)))
    (hfr : rmI.frames + 2 ≤ R.frames) (hlo : 8 + (sa.length + 1 + 11) + (8 + (maxL + 11) + rmI.locals) ≤ R.locals) (hsize : ls.size = nL) (hW : (rest.map fun v => v.category).sum ≤ 8) (hf : cells + out.2.2.1 ≤ R.cells ∧ slots + out.2.2.2 ≤ R.slots) (hdg : decode cc pc = .ok (.invokeinterface idx cnt, 5)) {st0 : List Value} (hst : st0 = (sa.map Value.int).reverse ++ .ref q :: rest)
    (kk : ∀ (H1 : Heap) (locs1 : List Loc), P → BI G A s.heap out.2.1 (nx + out.2.2.1) H1 locs1 → W p l e R s m args below meth c H1 locs1 (cells + out.2.2.1) (slots + out.2.2.2) Q (F0 m (pc + 5) ls (.int out.1 :: rest))) : W p l e R s m args below meth c H locs cells slots Q (F0 m pc ls st0) := by
  obtain ⟨d, k, tk, file, methk, ck, toy, t, ci0, nt, c1, c2, c3, c4, c5, c6, c7, c8, c9, c10, c11, c12, c13, c14, c15, c16, c17, c18, c19, c20, c21, c22⟩ := lm_ctx S.2.2.2.2 hS hq hok hit
  obtain ⟨mk, methM, hnamed, hmethM, hstM, habM⟩ := Cond.instanceMethod_spec (S.2.2.2.2 _ hin)
  have hnr : s.methodNamed? y = some t := by
    have h1 : t = mk := tgt_is hnamed hmethM (by rw [hy]; exact c13) c14 hyh (by rw [hy]; exact c16)
    rw [h1]; exact hnamed
  have hcell : H[q]? = some { cls := G.2.2 j, slots := vs.toArray, vm := .none } := hB.1 q _ hent
  have hrun := b_runM (R := R) (rm := { frames := rmI.frames + 1, cells := out.2.2.1, slots := out.2.2.2, locals := 8 + (maxL + 11) + rmI.locals }) (mc := out.2.2.1) (ms := out.2.2.2) (free := AA h nx) (Qc := bQ G (some (.int out.1)) P out.2.1 (nx + out.2.2.1) (AA h nx)) (g := F0 m pc ls st0) (cells := cells) (slots := slots) (locs := locs) (below := below) (l := l) (e := e) (meth := meth) (H := H) (count := cnt) (As := sa.map Value.int) (rest := rest)
    S.1 S.2.1 S.2.2.1 S.2.2.2.1 hlink (hS.2.1 _ hdecl rfl) (fun i ki g1 g2 => c22 i ki (by rw [hxc] at g1; exact g1) g2) c1 c2 hxc hxh hcell rfl c6 c7 c10 c11 (by simp [Method.isAbstract, c11, hasFlag, Acc.abstract]) (fun k' hk' => by
      cases hk'.symm.trans c3
      rw [c4]; exact hnmL) (by rw [List.length_map]; exact hn) ⟨by show rmI.frames + 1 + 1 ≤ _; omega, by rw [c9, hsp]; exact hlo⟩ rfl rfl rfl hsize hst (by show 2 * 0 + _ ≤ 8; omega) hdg hf (fun U hU hWU below' => ?_)
  · exact br5_w hrun hB kk
  · have htU : ∀ w ∈ lw_all, w.before (Value.ref q :: sa.map Value.int).toArray U = true := fun w hw => pay_in S.2.2.2.2 lw_self w hw _ U hWU
    have hBU : BI G (AA h nx) U.heap h nx H [] := ⟨hB.1, hB.2.1, fun q e he => Or.inl ⟨e, he⟩, by rw [hU]; exact va_S.rf, fun q' hq' => Or.inr (by rw [← hB.2.1, ← hU]; exact hq')⟩
    have hSU : SK G zs hSites (AA h nx) U := hS.move hWU (fun a h1 h2 => by rw [hU]; exact hB.2.2.2.1.2.1 a h1 h2) hB.sub
    refine lm_in (fi := fi) (vs := vs) (aa := (Value.ref b :: (cap ++ sa.map Value.int)).toArray) S.1 c8 (by rw [c9, hsp]) c10 (by rw [c12]; exact hret) hBU hcell rfl rfl (fun i hi => ?_) hdL hdA hdR (fun ls' hls' => ?_)
    · obtain ⟨f, f1, f2, f3⟩ := c21 i (by rw [hcap]; exact hi)
      exact ⟨f, fr_warm hWU f1, f2, f3⟩
    · refine b_runLV (cc := fwB σ xL.cls) (nL := sa.length + 1) (C := C) (bytes := bytes) (maxL := maxL) (ret := ret) (ws' := lw_all) S.1 c8 (by rw [c9, hsp]) htU (nc_warm hWU (ctx_nc c3 c5 c18 c20 c14 c15)) (mr_warm hWU c17) (fun k' hk' => ?_) ?_ ?_ hM hrc hrs ⟨by show rmI.frames + 1 ≤ rmI.frames + 1; exact Nat.le_refl _, Nat.le_refl _⟩ (lw_meth hco) rfl hini hin hyh (by rw [hyn]; simp) (bPreV hSU (by rw [← hU]; rw [← hU] at hBU; exact hBU) hcl hrec) rfl hls' (by rw [hvs]; simp) (by show 2 * 0 + _ ≤ 8; simp) hdI ⟨Nat.le_of_eq (Nat.zero_add _), Nat.le_of_eq (Nat.zero_add _)⟩
      · have ht : t.cls = toy := Option.some.inj ((findClass_of_methodNamed hnr).symm.trans (by rw [hy]; exact c13))
        rw [ht] at hk'
        obtain ⟨k1, q1, he⟩ := hWU.alike.2.2 _ _ c14
        cases hk'.symm.trans q1
        rw [he]; exact c15
      · have h1 := State.methodNamed?_setVm (s := s) hWU.alike y
        rw [hnr] at h1
        exact h1
      · exact hSU.2.1 _ hpr rfl
theorem lm_call6 (S : CallFix p m c cc nL s args lw_all own) (hS : SK G zs hSites A s) (hB : BI G A s.heap h nx H locs) (hlink : (Cond.methodLink own idx x).before args s = true) (hdecl : Cond.declares x ∈ lw_tbl) (hxc : x = ⟨σ.iface, σ.name, σ.sam.toString⟩) (hxh : x.cls ≠ "java/lang/invoke/MethodHandle" ∧ x.cls ≠ "java/lang/invoke/VarHandle")
    (hq : hSites[j]? = some (xL, pcL, idxL, σ)) (hok : fwOK σ xL.cls mi fi = true) (hit : σ.implItf = false) (hnmL : plainName (xL.cls ++ "$$Lambda") = true) (hcap : σ.captured.length = vs.length) (hsp : σ.sam.parameters.length = sa.length) (hn : (parseMethodDescriptor x.desc).map (fun d => d.parameters.length) = some sa.length)
    (hent : h q = some (.inr (.inr (j, vs)))) (hy : y = ⟨σ.implClass, σ.implName, σ.implDesc.toString⟩) (hyh : y.cls ≠ "java/lang/invoke/MethodHandle" ∧ y.cls ≠ "java/lang/invoke/VarHandle") (hyn : (parseMethodDescriptor y.desc).map (fun d => d.parameters.length) = some (vs.length + sa.length))
    (hin : Cond.static y ∈ lw_all) (hini : Cond.initialized y.cls ∈ lw_all) (hco : Cond.code y bytes maxL ret ∈ lw_all)
    (hM : Met l y (ws_ y bytes maxL ret) rmI (bPc G zs hSites h nx (vs ++ sa.map Value.int)) (bQ G (some (.int out.1)) P out.2.1 (nx + out.2.2.1) (AA h nx)) out.2.2.1 out.2.2.2 (AA h nx)) (hrc : rmI.cells = out.2.2.1) (hrs : rmI.slots = out.2.2.2)
    (hdL : ∀ j, j < vs.length → decode (fwB σ xL.cls) (4 * j) = .ok (.aload_n 0, 1) ∧ decode (fwB σ xL.cls) (4 * j + 1) = .ok (.getfield (fi j), 3))
    (hdA : ∀ i, i < sa.length → ∃ k4 : Fin 4, (k4 : Nat) = i + 1 ∧ decode (fwB σ xL.cls) (4 * vs.length + i) = .ok (.iload_n k4, 1))
    (hdI : decode (fwB σ xL.cls) (4 * vs.length + sa.length) = .ok (.invokestatic mi, 3)) (hdR : decode (fwB σ xL.cls) (4 * vs.length + sa.length + 3) = .ok (.ireturn, 1))
    (hret : σ.sam.returnType = some .int ∨ (σ.sam.returnType = some .boolean ∧ (P → narrow .boolean (.int out.1) = .int out.1)))
    (hfr : rmI.frames + 2 ≤ R.frames) (hlo : 8 + (sa.length + 1 + 11) + (8 + (maxL + 11) + rmI.locals) ≤ R.locals) (hsize : ls.size = nL) (hW : (rest.map fun v => v.category).sum ≤ 8) (hf : cells + out.2.2.1 ≤ R.cells ∧ slots + out.2.2.2 ≤ R.slots) (hdg : decode cc pc = .ok (.invokeinterface idx cnt, 5)) {st0 : List Value} (hst : st0 = (sa.map Value.int).reverse ++ .ref q :: rest)
    (kk : ∀ (H1 : Heap) (locs1 : List Loc), P → BI G A s.heap out.2.1 (nx + out.2.2.1) H1 locs1 → W p l e R s m args below meth c H1 locs1 (cells + out.2.2.1) (slots + out.2.2.2) Q (F0 m (pc + 5) ls (.int out.1 :: rest))) : W p l e R s m args below meth c H locs cells slots Q (F0 m pc ls st0) := by
  obtain ⟨d, k, tk, file, methk, ck, toy, t, ci0, nt, c1, c2, c3, c4, c5, c6, c7, c8, c9, c10, c11, c12, c13, c14, c15, c16, c17, c18, c19, c20, c21, c22⟩ := lm_ctx S.2.2.2.2 hS hq hok hit
  obtain ⟨mk, hnamed⟩ := nm_of_code (S.2.2.2.2 _ hco)
  obtain ⟨methM, cM, hmethM, -, -, -, -, -, -, -⟩ := Cond.code_spec hnamed (S.2.2.2.2 _ hco)
  have hnr : s.methodNamed? y = some t := by
    have h1 : t = mk := tgt_is hnamed hmethM (by rw [hy]; exact c13) c14 hyh (by rw [hy]; exact c16)
    rw [h1]; exact hnamed
  have hnmT : tk.name ≠ "java/lang/invoke/MethodHandle" ∧ tk.name ≠ "java/lang/invoke/VarHandle" := by
    obtain ⟨k2, hk2, hkn⟩ := className_of_methodNamed hnr
    have ht : t.cls = toy := Option.some.inj ((findClass_of_methodNamed hnr).symm.trans (by rw [hy]; exact c13))
    rw [ht] at hk2
    cases hk2.symm.trans c14
    rw [hkn]; exact hyh
  have hcell : H[q]? = some { cls := G.2.2 j, slots := vs.toArray, vm := .none } := hB.1 q _ hent
  have hrun := b_runM (R := R) (rm := { frames := rmI.frames + 1, cells := out.2.2.1, slots := out.2.2.2, locals := 8 + (maxL + 11) + rmI.locals }) (mc := out.2.2.1) (ms := out.2.2.2) (free := AA h nx) (Qc := bQ G (some (.int out.1)) P out.2.1 (nx + out.2.2.1) (AA h nx)) (g := F0 m pc ls st0) (cells := cells) (slots := slots) (locs := locs) (below := below) (l := l) (e := e) (meth := meth) (H := H) (count := cnt) (As := sa.map Value.int) (rest := rest)
    S.1 S.2.1 S.2.2.1 S.2.2.2.1 hlink (hS.2.1 _ hdecl rfl) (fun i ki g1 g2 => c22 i ki (by rw [hxc] at g1; exact g1) g2) c1 c2 hxc hxh hcell rfl c6 c7 c10 c11 (by simp [Method.isAbstract, c11, hasFlag, Acc.abstract]) (fun k' hk' => by
      cases hk'.symm.trans c3
      rw [c4]; exact hnmL) (by rw [List.length_map]; exact hn) ⟨by show rmI.frames + 1 + 1 ≤ _; omega, by rw [c9, hsp]; exact hlo⟩ rfl rfl rfl hsize hst (by show 2 * 0 + _ ≤ 8; omega) hdg hf (fun U hU hWU below' => ?_)
  · exact br5_w hrun hB kk
  · have htU : ∀ w ∈ lw_all, w.before (Value.ref q :: sa.map Value.int).toArray U = true := fun w hw => pay_in S.2.2.2.2 lw_self w hw _ U hWU
    have hBU : BI G (AA h nx) U.heap h nx H [] := ⟨hB.1, hB.2.1, fun q e he => Or.inl ⟨e, he⟩, by rw [hU]; exact va_S.rf, fun q' hq' => Or.inr (by rw [← hB.2.1, ← hU]; exact hq')⟩
    have hSU : SK G zs hSites (AA h nx) U := hS.move hWU (fun a h1 h2 => by rw [hU]; exact hB.2.2.2.1.2.1 a h1 h2) hB.sub
    refine lm_in (fi := fi) (vs := vs) (aa := (vs ++ sa.map Value.int).toArray) S.1 c8 (by rw [c9, hsp]) c10 (by rw [c12]; exact hret) hBU hcell rfl rfl (fun i hi => ?_) hdL hdA hdR (fun ls' hls' => ?_)
    · obtain ⟨f, f1, f2, f3⟩ := c21 i (by rw [hcap]; exact hi)
      exact ⟨f, fr_warm hWU f1, f2, f3⟩
    · refine b_runLS (cc := fwB σ xL.cls) (nL := sa.length + 1) (bytes := bytes) (maxL := maxL) (ret := ret) (ws' := lw_all) S.1 c8 (by rw [c9, hsp]) htU (ctx_ns hWU hnmT c3 c5 c18 c19 c20 c14) (mr_warm hWU c17) ?_ hM hrc hrs ⟨by show rmI.frames + 1 ≤ rmI.frames + 1; exact Nat.le_refl _, Nat.le_refl _⟩ (lw_meth hco) rfl hini hin hyh (by rw [hyn]; simp) (bPreS hSU (by rw [← hU]; rw [← hU] at hBU; exact hBU)) rfl hls' (by simp) (by show 2 * 0 + _ ≤ 8; simp) hdI ⟨Nat.le_of_eq (Nat.zero_add _), Nat.le_of_eq (Nat.zero_add _)⟩
      · have h1 := State.methodNamed?_setVm (s := s) hWU.alike y
        rw [hnr] at h1
        exact h1
end BIC
