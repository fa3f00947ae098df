/-! the strings' rows: private methods of a superclass, clones, instanceof, narrow answers -/
section BST
variable {p : Program} {l : Launch} {e : Env} {R : Room} {s : State} {m : MethodId} {args : Array Value} {below : List Frame} {meth : Method} {c : Code} {H H0 : Heap} {locs : List Loc} {cells slots : Nat} {Q : State → Prop} {cc : ByteArray} {nL pc : Nat} {ls : Array Slot} {rest : List Value} {G : hG} {zs : Nat → Nat} {L : List hL} {A : Nat → Prop} {h h' h1 : AH} {nx : Nat} {own C : String} {T : u_T} {N ci index a : Nat}
theorem b_instO (S : CallFix p m c cc nL s args lw_all own) (hK : va_K G.1 hCl (hTy G) s) (hB : BI G A H0 h nx H locs) (hc : hCl[ci]? = some (C, T, N)) (hlink : (Cond.classLink own index C).before args s = true) (hv : isO h a ci = true) (hdg : decode cc pc = .ok (.instanceof index, 3)) (kk : W p l e R s m args below meth c H locs cells slots Q (F0 m (pc + 3) ls (.int 1 :: rest))) : W p l e R s m args below meth c H locs cells slots Q (F0 m pc ls (.ref a :: rest)) := by
  obtain ⟨fs, he⟩ := isO_s hv
  exact va_instS S.1 S.2.1 S.2.2.2.1 hlink (hK.1 ci _ hc).2 (bRecv hK hB hc he) hdg kk
def isC (v : Int32) : Bool := decide (narrow .char (.int v) = .int v)
theorem isC_n {v : Int32} (h : isC v = true) : narrow .char (.int v) = .int v := of_decide_eq_true h
theorem bt_n {nx0 : Nat} {v : Int32} {ty : FieldType} (S : CallFix p m c cc nL s args lw_all own) (hr : meth.sig.returnType = some ty) (hlocks : meth.locks = false) (hB : BI G (AA h nx0) s.heap h' nx H locs) (hn : nx = nx0 + cells) (hp : narrow ty (.int v) = .int v) (hdg : decode cc pc = .ok (.ireturn, 1)) : W p l e R s m args below meth c H locs cells slots (MQ below (bQ G (some (.int v)) True h' (nx0 + cells) (AA h nx0)) args s cells slots (AA h nx0)) (F0 m pc ls [.int v]) :=
  W.zret S.1 S.2.1 hr hp (fun t ht _ => bEnd hB ht hn trivial) hB.2.2.2.1.2.2 hdg hlocks
theorem gt_rn {v : Int32} {ty : FieldType} {Ts : List Cond} (S : CallFix p m c cc nL s args Ts own) (hr : meth.sig.returnType = some ty) (hlocks : meth.locks = false) (hn : narrow ty (.int v) = .int v) (hdg : decode cc pc = .ok (.ireturn, 1)) : W p l e R s m args below meth c s.heap [] cells slots (MQ below (gR (some (.int v)) True) args s cells slots (fun _ => False)) (F0 m pc ls [.int v]) :=
  W.zret S.1 S.2.1 hr hn (fun t ht _ => ⟨rfl, trivial, ht⟩) (fun q h => by cases h) hdg hlocks
/-- a clone of an array of bytes -/
def clB (h : AH) (a nx : Nat) : Option (AH × Nat) := (arI h a 2).bind fun x => some (hu h nx (.inl (2, x.1, .inl x.2)), x.1)
theorem b_clone (S : CallFix p m c cc nL s args lw_all own) (hS : SK G zs L A s) (hB : BI G A H0 h nx H locs) (hml : c.maxLocals = ls.size) (hlink : (Cond.methodLink own index ⟨"[B", "clone", "()Ljava/lang/Object;"⟩).before args s = true) (hsame : (Cond.sameMethod "[B" "java/lang/Object" "clone" "()Ljava/lang/Object;").before args s = true)
    (hnat : (Cond.native ⟨"java/lang/Object", "clone", "()Ljava/lang/Object;"⟩).before args s = true) (hinst : (Cond.instanceMethod ⟨"java/lang/Object", "clone", "()Ljava/lang/Object;"⟩).before args s = true)
    (hsel : (Cond.selects "[B" ⟨"[B", "clone", "()Ljava/lang/Object;"⟩ ⟨"java/lang/Object", "clone", "()Ljava/lang/Object;"⟩).before args s = true) (hcl : (Cond.castable "[B" "java/lang/Cloneable") ∈ lw_tbl)
    {out : AH × Nat} (hv : clB h a nx = some out) (hframes : 1 ≤ R.frames) (hlocals : (rest.map fun v => v.category).sum + 14 ≤ R.locals) (hcells : cells + 1 ≤ R.cells) (hslots : slots + out.2 ≤ R.slots) (hdg : decode cc pc = .ok (.invokevirtual index, 3))
    (kk : ∀ H1 : Heap, BI G A H0 out.1 (nx + 1) H1 locs → W p l e R s m args below meth c H1 locs (cells + 1) (slots + out.2) Q (F0 m (pc + 3) ls (.ref nx :: rest))) : W p l e R s m args below meth c H locs cells slots Q (F0 m pc ls (.ref a :: rest)) := by
  obtain ⟨⟨n, f⟩, hx, hv⟩ := ob_s hv
  cases hv
  have he := arI_s hx
  have hK := hS.1
  obtain ⟨c1, hcellH, hl, hfit⟩ := bArr hB (t := 2) rfl he
  have hnm : s.vm.findClass "[B" = some (G.2.1 2) := (hK.2 2 _ rfl).2
  have hcl1 : c1.cls = G.2.1 2 := hl.1
  have hsl1 : c1.slots = (vp_cell (G.2.1 2) (n, .inl f)).slots := hl.2.1
  have hsz : c1.slots.size = n := by rw [hsl1]; exact arrV_size _ _ _
  have hcellE : ({ cls := c1.cls, slots := c1.slots } : Cell) = vp_cell (G.2.1 2) (n, .inl f) := by rw [hcl1, hsl1]; rfl
  obtain ⟨c0, t0', f1, f2, f3⟩ := Cond.castable_spec (va_Nw.use (A := args) rfl (hS.2.1 _ hcl rfl))
  cases hnm.symm.trans f1
  intro T hT X
  have hcellT : T.heap[a]? = some c1 := by rw [hT]; exact hcellH
  obtain ⟨-, kA, hkA, comp, hkind⟩ := State.isArrayOf_alike X.warmed.alike ((hK.2 2 _ rfl).1 0 (fun _ => .null))
  obtain ⟨-, kS, hkS, compS, hkindS⟩ := (hK.2 2 _ rfl).1 0 (fun _ => .null)
  obtain ⟨vm', X', st⟩ := X.cloneArray S.1 S.2.2.2.1 hlink hsame hnat hinst hsel (a := a) (cell := c1) hcellT (fun k => hl.2.2.ns k) hl.2.2.1 (by rw [hcl1]; exact hnm) f2 (by rw [hcl1]; exact f3)
    (fun i v hv => by
      have hk' : T.vm.classes[G.2.1 2]? = some kA := hkA
      have hfv : fits .byte v = true := by
        by_cases hi : i < n
        · rw [hsl1, show (vp_cell (G.2.1 2) (n, .inl f)).slots[i]? = _ from arrV_read _ _ hi] at hv
          cases hv
          exact hfit i
        · rw [Array.getElem?_eq_none (by rw [hsz]; omega)] at hv
          cases hv
      rw [hcl1]
      simpa [State.fitsSlot, State.slotType?, hk', hkind] using hfv)
    (g := F0 m pc ls (.ref a :: rest)) rfl (by rw [hml]) rfl (by rw [S.2.1]; exact hdg) hframes (by show 2 * 0 + _ + 14 ≤ _; omega) hcells (by rw [hsz]; exact hslots) (hloader := by rw [hcl1]; exact Vm.clonesLoader_of_array hkS hkindS)
  rw [hcellE, hsz] at X'
  have hTs : T.heap.size = nx := by rw [hT]; exact hB.2.1
  obtain ⟨t, b1, b2⟩ := kk ((T.setVm vm').pushCell (vp_cell (G.2.1 2) (n, .inl f))).heap (hB.push ⟨_, rfl, ⟨_, (by
      show (T.heap.push _)[nx]? = some _
      rw [← hTs, Array.getElem?_push_size]), cLo.rf (vp_cell_vm _ _)⟩, hfit⟩ (by show (T.heap.push _).size = nx + 1; rw [Array.size_push, hTs]) (fun q hq => by
      show (T.heap.push _)[q]? = _
      rw [Array.getElem?_push, if_neg (by omega), hT])) _ rfl X'
  refine ⟨t, st t ?_, b2⟩
  rw [hcellE, hTs]
  exact b1
/-- a private method: the receiver's class selects nothing else -/
theorem b_runP {y : MethodName} {bytes : ByteArray} {maxL mc ms n : Nat} {ret : Option FieldType} {ws : List Cond} {rm : Room} {Pc : Array Value → State → Prop} {Qc : Array Value → State → Outcome → State → Prop} {free : Addr → Prop} {b : Addr} {As : List Value} {g : JFrame}
    (S : CallFix p m c cc nL s args lw_all own) (hpr : (Cond.privateMethod y).before #[] s = true) (hM : Met l y ws rm Pc Qc mc ms free) (hcb : CallB R s args own index y bytes maxL ret ws rm mc ms n) (hsame : (Cond.sameMethod y.cls y.cls y.name y.desc).before args s = true) (hinst : (Cond.instanceMethod y).before args s = true) (hp : PreV s H C b Pc As)
    (hg : g.method = m) (hn : As.length = n) (hsize : g.locals.size = nL) (hstack : g.stack = As.reverse ++ .ref b :: rest) (hW : 2 * g.monitorRoom + (rest.map fun v => v.category).sum ≤ 8) (hdg : decode cc g.pc = .ok (.invokevirtual index, 3)) (hf : cells + mc ≤ R.cells ∧ slots + ms ≤ R.slots) :
    va_Run p l e R s m args below meth c H locs cells slots mc ms g rest (Qc (Value.ref b :: As).toArray) (free) := by
  have hK : Back l R p e below s args y 3 8 (PreOf R mc ms Pc) (PostOf Qc mc ms free) := callBack hcb hM hp.1
  obtain ⟨-, -, -, -, -, -, hcode, -, hy, hlen, hl⟩ := hcb
  obtain ⟨hx, hb, hml, ho, -⟩ := S
  obtain ⟨-, ⟨cellB, hcB, hoB, hclB⟩, hPc⟩ := hp
  intro T hT X
  obtain ⟨mk, methM, hnamed, hmethM, hstM, habM⟩ := Cond.instanceMethod_spec hinst
  obtain ⟨cn, ck, r1, hcn, hck, hni, hf1, hn1⟩ := Cond.sameMethod_found hsame
  cases hnamed.symm.trans hn1
  obtain ⟨methM', cM, hmethM', hcodeM', -, hlocalsM, -, -, -, hsigM⟩ := Cond.code_spec hnamed hcode
  cases hmethM.symm.trans hmethM'
  cases (findClass_of_methodNamed hnamed).symm.trans hcn
  have hselP : selectMethod e.platform s.vm cellB.cls mk = .method mk := selectMethod_private hmethM (Cond.privateMethod_at hpr mk methM hnamed hmethM)
  obtain ⟨vm₁, X₁, hstep₁⟩ := X.invokevirtualUp hx ho hl hsame hy hnamed hmethM hstM (a := b) (cell := cellB) (by rw [hT]; exact hcB)
    (fun z h => by rw [h] at hoB; cases hoB) hselP hmethM habM hck hni (g := g) hg (argsL := As) (rest := rest) (hn.trans (hlen _ hsigM)) hstack (by rw [hb]; exact hdg)
  obtain ⟨v, ⟨U', l2, c2, s2⟩, X', hpost, hsteps⟩ := hK m meth c ⟨T.setVm vm₁, locs, cells, slots⟩ { g with stack := rest } (.invokevirtual index) mk (Value.ref b :: As).toArray X₁ hg (hsize.trans hml.symm) (by rw [hb]; exact hdg) hW (X₁.named hnamed) ⟨hf.1, hf.2, hPc (T.setVm vm₁) hT X₁.warmed⟩
  obtain ⟨g', mk', t, Lo, e1, e2, hq, h1, hL, h2, h3⟩ := hpost
  dsimp only [Pt.U, Pt.locs, Pt.cells, Pt.slots] at X' e1 e2 h1 h2 h3
  subst h1; subst h2; subst h3
  exact ⟨v, (T.setVm vm₁).calling g' mk' (Value.ref b :: As).toArray, t, U', Lo, hT, X', hL, e1, e2, hq, fun target h => hstep₁ _ fun acts => by rw [doInvoke_state]; exact hsteps.trans h⟩
end BST
theorem b_ldcwS {p : Program} {l : Launch} {e : Env} {R : Room} {s : State} {m : MethodId} {args : Array Value} {below : List Frame} {meth : Method} {c : Code} {T : State} {locs : List Loc} {cells slots : Nat}
    (X : Stand p l e R s m args below meth c T locs cells slots) (hexec : p.tables.exec = Jvm.exec) {own text : String} {index : Nat} {a : Addr} (hown : s.vm.findClass own = some m.cls)
    (hconst : (Cond.stringRef own index text).before args s = true) (hev : (Term.string own index).eval args s none [] s = some (.ref a)) {g : JFrame} (hg : g.method = m) (hdg : decode c.code g.pc = .ok (.ldc_w index, 3)) :
    ∀ target, Steps p.tables e below (T.setTop { g with pc := g.pc + 3, stack := .ref a :: g.stack }) target → Steps p.tables e below (T.setTop g) target := by
  obtain ⟨k, cf, i, a', hk, hcf, hcp, -, hr, hev'⟩ := Cond.stringRef_spec hown hconst
  cases hev.symm.trans hev'
  obtain ⟨k', hk', he⟩ := X.warmed.alike.2.2 _ _ hk
  have hr' : k'.resolved[index]? = some (some (.string a)) := by
    rcases X.warmed.entry hk hk' index with h | ⟨h, -⟩
    · rw [h]; exact hr
    · rw [hr] at h; cases h
  intro target hrest
  subst hg
  jvm_step X.here [hexec, hdg, ldc_w.wp_string (e := e) (s := T) (f := g) X.here.top hk' (by rw [he]; exact hcf) hcp hr']
  exact hrest
theorem b_ldcSW {p : Program} {l : Launch} {e : Env} {R : Room} {s : State} {m : MethodId} {args : Array Value} {below : List Frame} {meth : Method} {c : Code} {H : Heap} {locs : List Loc} {cells slots : Nat} {Q : State → Prop} {cc : ByteArray} {nL pc : Nat} {ls : Array Slot} {rest : List Value} {G : hG} {zs : Nat → Nat} {L : List hL} {A : Nat → Prop} {own : String} {index : Nat} (S : CallFix p m c cc nL s args lw_all own) (hS : SK G zs L A s) (i : Nat) {q : String × Nat × String} (hq : hStr[i]? = some q) (ho : q.1 = own) (hx : q.2.1 = index) (hdg : decode cc pc = .ok (.ldc_w index, 3)) (kk : W p l e R s m args below meth c H locs cells slots Q (F0 m (pc + 3) ls (.ref (zs (20 + i)) :: rest))) : W p l e R s m args below meth c H locs cells slots Q (F0 m pc ls rest) := by
  subst ho; subst hx
  have hZ := hS.2.2.2.2.2.2.2 i q hq
  intro T hT X
  obtain ⟨t, a1, b1⟩ := kk T hT X
  exact ⟨t, b_ldcwS X S.1 S.2.2.2.1 (text := q.2.2) (a := zs (20 + i)) hZ.1 hZ.2 (g := F0 m pc ls rest) rfl (by rw [S.2.1]; exact hdg) t a1, b1⟩
