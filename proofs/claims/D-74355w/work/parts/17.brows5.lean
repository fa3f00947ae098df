/-! lambdas: an object is made -/
theorem shape_spec {cf : ClassFile} {index : Nat} {σ : Lambda.Shape} (h : Lambda.shapeOf? cf index = some σ) : ∃ (b nt : Nat) (name desc : String) (site : MethodDescriptor), cf.constantPool[index]? = some (.invokeDynamic b nt) ∧ cf.constantPool.nameAndType? nt = some (name, desc) ∧ parseMethodDescriptor desc = some site ∧ site.parameters = σ.captured := by
  unfold Lambda.shapeOf? at h
  cases hx : cf.constantPool[index]? with
  | none => rw [hx] at h; exact absurd h (by nofun)
  | some x =>
    rw [hx] at h
    cases x with
    | invokeDynamic b nt =>
      obtain ⟨en, -, h⟩ := Option.bind_eq_some_iff.mp h
      obtain ⟨⟨bref, ⟨L⟩⟩, -, h⟩ := Option.bind_eq_some_iff.mp h
      have key : ∀ (o : Option CpInfo) (F : Nat → Option Lambda.Shape), (match o with
          | some (.methodHandle 6 r) => F r
          | _ => none) = some σ → ∃ r, F r = some σ := by
        intro o F h
        split at h
        · exact ⟨_, h⟩
        · cases h
      obtain ⟨r, h⟩ := key _ _ h
      obtain ⟨-, -, h⟩ := Option.bind_eq_some_iff.mp h
      have key2 : ∀ (o : Option CpInfo) (F : Nat → Option Lambda.Shape), (match o with
          | some (.methodType d) => F d
          | _ => none) = some σ → ∃ d, F d = some σ := by
        intro o F h
        split at h
        · exact ⟨_, h⟩
        · cases h
      have key3 : ∀ (o : Option CpInfo) (F : Nat → Nat → Option Lambda.Shape), (match o with
          | some (.methodHandle a b) => F a b
          | _ => none) = some σ → ∃ a b, F a b = some σ := by
        intro o F h
        split at h
        · exact ⟨_, _, h⟩
        · cases h
      have key4 : ∀ (o : Option FieldType) (F : String → Option Lambda.Shape), (match o with
          | some (.object a) => F a
          | _ => none) = some σ → ∃ a, F a = some σ := by
        intro o F h
        split at h
        · exact ⟨_, h⟩
        · cases h
      rcases L with _ | ⟨a0, _ | ⟨a1, _ | ⟨a2, _ | ⟨a3, L⟩⟩⟩⟩
      · exact absurd h (by nofun)
      · exact absurd h (by nofun)
      · exact absurd h (by nofun)
      · obtain ⟨d0, h⟩ := key2 _ _ h
        obtain ⟨k1, r1, h⟩ := key3 _ _ h
        obtain ⟨d2, h⟩ := key2 _ _ h
        obtain ⟨⟨name, desc⟩, hnt, h⟩ := Option.bind_eq_some_iff.mp h
        obtain ⟨site, hs, h⟩ := Option.bind_eq_some_iff.mp h
        obtain ⟨ifc, h⟩ := key4 _ _ h
        obtain ⟨mem, -, h⟩ := Option.bind_eq_some_iff.mp h
        obtain ⟨a1, -, h⟩ := Option.bind_eq_some_iff.mp h
        obtain ⟨a2, -, h⟩ := Option.bind_eq_some_iff.mp h
        obtain ⟨a3, -, h⟩ := Option.bind_eq_some_iff.mp h
        obtain ⟨a4, -, h⟩ := Option.bind_eq_some_iff.mp h
        obtain ⟨a5, -, h⟩ := Option.bind_eq_some_iff.mp h
        cases h
        exact ⟨b, nt, name, desc, site, rfl, hnt, hs, rfl⟩
      · exact absurd h (by nofun)
    | _ => exact absurd h (by nofun)
/-- the captured values as the site takes them -/
def lamV (ts : List FieldType) (vs : List Value) : Bool := decide (vs.length = ts.length) && (ts.zip vs).all fun q => fits q.1 q.2 && decide (narrow q.1 q.2 = q.2)
theorem lamV_map : ∀ (ts : List FieldType) (vs : List Value), vs.length = ts.length → (ts.zip vs).all (fun q => fits q.1 q.2 && decide (narrow q.1 q.2 = q.2)) = true → (ts.zip vs).map (fun (q : FieldType × Value) => narrow q.1 q.2) = vs
  | [], [], _, _ => rfl
  | t :: ts, v :: vs, hl, ha => by
    simp only [List.zip_cons_cons, List.all_cons, Bool.and_eq_true, decide_eq_true_eq] at ha
    simp only [List.zip_cons_cons, List.map_cons]
    rw [ha.1.2, lamV_map ts vs (by simpa using hl) ha.2]
  | [], _ :: _, hl, _ => by simp at hl
  | _ :: _, [], hl, _ => by simp at hl
theorem lamV_n : lamV [] [] = true := rfl
theorem lamV_c {t : FieldType} {v : Value} {ts : List FieldType} {vs : List Value} (h1 : narrow t v = v) (h2 : fits t v = true) (h3 : lamV ts vs = true) : lamV (t :: ts) (v :: vs) = true := by
  simp only [lamV, Bool.and_eq_true, decide_eq_true_eq] at h3 ⊢
  refine ⟨by simp [h3.1], ?_⟩
  simp only [List.zip_cons_cons, List.all_cons, Bool.and_eq_true, decide_eq_true_eq]
  exact ⟨⟨h2, h1⟩, h3.2⟩
section BLM
variable {p : Program} {l : Launch} {e : Env} {R : Room} {s : State} {m : MethodId} {args : Array Value} {below : List Frame} {meth : Method} {c : Code} {H : Heap} {locs : List Loc} {cells slots : Nat} {Q : State → Prop} {cc : ByteArray} {nL pc : Nat} {ls : Array Slot} {rest : List Value} {G : hG} {zs : Nat → Nat} {A : Nat → Prop} {h : AH} {nx : Nat} {own : String} {index k : Nat}
/-- the made class's layout at a site -/
def lamL (q : hL) : Prop := ((q.2.2.2.file q.1.cls).bind fun D => (layoutFields D 0).map fun z => z.2.1) = some q.2.2.2.captured.toArray
theorem b_lam (S : CallFix p m c cc nL s args lw_all own) (hS : SK G zs hSites A s) (hB : BI G A s.heap h nx H locs) {x : MethodName} {σ : Lambda.Shape} (hnm : s.methodNamed? x = some m) (hq : hSites[k]? = some (x, pc, index, σ)) (hly : lamL (x, pc, index, σ)) {vs st0 : List Value} (hv : lamV σ.captured vs = true) (hst : st0 = vs.reverse ++ rest) (hsz : ls.size = nL) (hW : (st0.map fun v => v.category).sum + 3072 ≤ R.locals) (hcells : cells + 1 ≤ R.cells) (hslots : slots + vs.length ≤ R.slots) (hdg : decode cc pc = .ok (.invokedynamic index, 5))
    (kk : ∀ H1 : Heap, BI G A s.heap (hu h nx (.inr (.inr (k, vs)))) (nx + 1) H1 locs → W p l e R s m args below meth c H1 locs (cells + 1) (slots + vs.length) Q (F0 m (pc + 5) ls (.ref nx :: rest))) : W p l e R s m args below meth c H locs cells slots Q (F0 m pc ls st0) := by
  intro T hT X
  have hat := hS.2.2.2.1 k _ hq
  obtain ⟨m1, kS, cfS, i0, p0, lk, hm1, hkS, hcfS, hsh, -, hfind, hmade, hcan, hlk⟩ := State.lambdaAt?_spec hat
  cases hnm.symm.trans hm1
  obtain ⟨rfl, -, -⟩ : lk = .makes (G.2.2 k) ∧ (none : Option Addr) = none ∧ σ.captured ≠ [] := by
    rcases hlk with ⟨a, cell, -, h, -⟩ | h
    · cases h
    · exact h
  obtain ⟨bsm, nt, name, desc, site, hc7, hnt7, hsig, hpar⟩ := shape_spec hsh
  obtain ⟨dk, kK, ok, tk, file, cf, object, iface, toy, lay, methods, target, found, hdk, hkK, hfile, hcf, hobj, -, hok, hlay, hms, ht, htk, hg, -, hrec, -, -, -, hitf, hpool, hmeth, hfields, hity, hres, -⟩ := Lambda.isMade_spec hmade
  obtain ⟨kS2, hkS2, hnameS⟩ := className_of_methodNamed hnm
  cases hkS.symm.trans hkS2
  cases hkS.symm.trans hdk
  have hO : ok.instanceTypes.size = 0 := by
    obtain ⟨c1, k1, g1, g2, g3, g4⟩ := Cond.instantiable_spec (S.2.2.2.2 _ q2692)
    cases hobj.symm.trans g1
    cases hok.symm.trans g2
    first | exact g4 | exact g4.1 | exact g4.2.1 | exact g4.2.2
  have hoe : ok.instanceTypes = #[] := Array.eq_empty_of_size_eq_zero hO
  have hty : kK.instanceTypes = σ.captured.toArray := by
    rw [hity.1, hoe]
    have h1 : lamL (x, pc, index, σ) := hly
    unfold lamL at h1
    rw [hnameS] at hcf
    simp only [hcf, Option.bind_some] at h1
    rw [hO] at hlay
    rw [hlay] at h1
    simp only [Option.map_some, Option.some.injEq] at h1
    rw [h1]
    simp
  simp only [lamV, Bool.and_eq_true, decide_eq_true_eq] at hv
  have hmap : ((kK.instanceTypes.toList.zip vs).map fun (t, v) => narrow t v) = vs := by
    rw [hty]
    exact lamV_map σ.captured vs hv.1 hv.2
  have hkind : kK.kind = .ordinary := hrec.2.1
  obtain ⟨X1, st1⟩ := X.lambdaMakes S.1 (g := F0 m pc ls st0) rfl (by show ls.size = _; rw [hsz]; exact S.2.2.1.symm) (by rw [S.2.1]; exact hdg) (vals := vs) (rest := rest) hkS hfind hcfS hc7 hnt7 (parseLong_of_parse hsig) (by rw [hpar]; exact hv.1) hst hkK
    (by rw [X.admits.platform]; show 2 * 0 + _ + 3072 ≤ _; simpa using hW) hcells (by rw [hmap]; exact hslots)
    (fun i v hiv => by
      rw [hmap] at hiv
      have hi : vs[i]? = some v := by simpa using hiv
      have hlt : i < vs.length := (List.getElem?_eq_some_iff.mp hi).1
      have hlt2 : i < σ.captured.length := by rw [← hv.1]; exact hlt
      have hmem : (σ.captured[i], v) ∈ σ.captured.zip vs := by
        refine List.mem_of_getElem? (i := i) ?_
        rw [List.getElem?_zip_eq_some]
        exact ⟨List.getElem?_eq_getElem hlt2, hi⟩
      have hf := List.all_eq_true.mp hv.2 _ hmem
      simp only [Bool.and_eq_true] at hf
      have hti : kK.instanceTypes[i]? = some σ.captured[i] := by rw [hty]; simp [hlt2]
      simp only [State.fitsSlot, State.slotType?, hkK, hkind]
      simp [hti, hkind, hf.1])
  rw [hmap] at X1 st1
  have hnx := hB.2.1
  have hTs : T.heap.size = nx := by rw [hT]; exact hnx
  rw [hTs] at st1
  obtain ⟨t, a1, b1⟩ := kk (T.pushCell { cls := G.2.2 k, slots := vs.toArray, vm := .none }).heap (hB.push (by
      show (T.heap.push _)[nx]? = some _
      rw [← hTs, Array.getElem?_push_size]) (by show (T.heap.push _).size = nx + 1; rw [Array.size_push, hTs]) (fun q hq => by
      show (T.heap.push _)[q]? = _
      rw [Array.getElem?_push, if_neg (by omega), hT])) _ rfl (by simpa using X1)
  exact ⟨t, st1 t a1, b1⟩
end BLM
