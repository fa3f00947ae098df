/-! wrappers for the generator -/
abbrev tIS : Type := AH → Nat → Nat → Int32 → Option (Int32 × AH × Nat × Nat)
abbrev tBY : Type := AH → Nat → Nat → Int32 → Int32 → Option (Int32 × AH × Nat × Nat)
/-- a run's environment: the statics' addresses, what Check.is, Step.by, Number.of do -/
abbrev bE : Type := (Nat → Nat) × tIS × tBY × tIS
def isB (v : Int32) : Bool := decide (v = 0 ∨ v = 1)
theorem isB_n {v : Int32} (h : isB v = true) : narrow .boolean (.int v) = .int v := by
  rcases of_decide_eq_true h with rfl | rfl <;> rfl
theorem isB_f {v : Int32} (h : isB v = true) : fits .boolean (.int v) = true := by
  rcases of_decide_eq_true h with rfl | rfl <;> rfl
theorem nar_f {v : Int32} (h : narrow .boolean (.int v) = .int v) : fits .boolean (.int v) = true := by
  have h1 : v &&& 1 = v := Value.int.inj h
  rw [← h1]
  exact vp_fit_boolean v
def isY (v : Int32) : Bool := decide (v.toInt8.toInt32 = v)
theorem isY_n {v : Int32} (h : isY v = true) : narrow .byte (.int v) = .int v := congrArg Value.int (of_decide_eq_true h)
theorem isY_f {v : Int32} (h : isY v = true) : fits .byte (.int v) = true := by
  have h1 := of_decide_eq_true h
  rw [← h1]
  exact pk_fb v
section BW
variable {p : Program} {l : Launch} {e : Env} {R : Room} {s : State} {m : MethodId} {args : Array Value} {below : List Frame} {meth : Method} {c : Code} {H H0 : Heap} {locs : List Loc} {cells slots : Nat} {Q : State → Prop} {cc : ByteArray} {nL pc : Nat} {ls : Array Slot} {rest : List Value} {G : hG} {zs : Nat → Nat} {L : List hL} {A : Nat → Prop} {h h1 : AH} {nx : Nat} {own C : String} {index a : Nat}
theorem lb_acmp_eq (hexec : p.tables.exec = Jvm.exec) (hb : c.code = cc) {x y : Nat} {off : Int} {tgt : Nat} (hdg : decode cc pc = .ok (.if_acmp .eq off, 3)) (ht : (pc : Int) + off = (tgt : Int)) (kt : x = y → W p l e R s m args below meth c H locs cells slots Q (F0 m tgt ls rest)) (kf : ¬ x = y → W p l e R s m args below meth c H locs cells slots Q (F0 m (pc + 3) ls rest)) : W p l e R s m args below meth c H locs cells slots Q (F0 m pc ls (.ref y :: .ref x :: rest)) :=
  lv_acmp_eq (rx := some x) (ry := some y) hexec hb hdg ht (fun q => kt (Option.some.inj q)) (fun q => kf (fun z => q (by rw [z])))
theorem lb_acmp_ne (hexec : p.tables.exec = Jvm.exec) (hb : c.code = cc) {x y : Nat} {off : Int} {tgt : Nat} (hdg : decode cc pc = .ok (.if_acmp .ne off, 3)) (ht : (pc : Int) + off = (tgt : Int)) (kt : ¬ x = y → W p l e R s m args below meth c H locs cells slots Q (F0 m tgt ls rest)) (kf : x = y → W p l e R s m args below meth c H locs cells slots Q (F0 m (pc + 3) ls rest)) : W p l e R s m args below meth c H locs cells slots Q (F0 m pc ls (.ref y :: .ref x :: rest)) :=
  lv_acmp_ne (rx := some x) (ry := some y) hexec hb hdg ht (fun q => kt (fun z => q (by rw [z]))) (fun q => kf (Option.some.inj q))
def z32 : Nat → (Nat → Int32) ⊕ (Nat → Int64) ⊕ (Nat → UInt32) ⊕ (Nat → UInt64) ⊕ (Nat → Option Nat) := fun _ => .inl (fun _ => 0)
def z64 : Nat → (Nat → Int32) ⊕ (Nat → Int64) ⊕ (Nat → UInt32) ⊕ (Nat → UInt64) ⊕ (Nat → Option Nat) := fun _ => .inr (.inl (fun _ => 0))
theorem b_newI (S : CallFix p m c cc nL s args lw_all own) (hS : SK G zs L A s) (hB : BI G A H0 h nx H locs) {n : Int32} {N : Nat} (hN : n.toNatClampNeg = N) (hn : nA n = true) (hcells : cells + 1 ≤ R.cells) (hslots : slots + N ≤ R.slots) (hdg : decode cc pc = .ok (.newarray .int, 2)) (kk : ∀ H1 : Heap, BI G A H0 (hu h nx (.inl (0, N, .inl (fun _ => 0)))) (nx + 1) H1 locs → W p l e R s m args below meth c H1 locs (cells + 1) (slots + N) Q (F0 m (pc + 2) ls (.ref nx :: rest))) : W p l e R s m args below meth c H locs cells slots Q (F0 m pc ls (.int n :: rest)) := by
  subst hN
  exact b_newa S hS.1 hB (atype := .int) (a0 := z32) 0 rfl rfl (fun q => q) (S.2.2.2.2 _ q535) (fun _ => rfl) (fun _ => rfl) (by decide) hn hcells hslots hdg kk
theorem b_newZ (S : CallFix p m c cc nL s args lw_all own) (hS : SK G zs L A s) (hB : BI G A H0 h nx H locs) {n : Int32} {N : Nat} (hN : n.toNatClampNeg = N) (hn : nA n = true) (hcells : cells + 1 ≤ R.cells) (hslots : slots + N ≤ R.slots) (hdg : decode cc pc = .ok (.newarray .boolean, 2)) (kk : ∀ H1 : Heap, BI G A H0 (hu h nx (.inl (3, N, .inl (fun _ => 0)))) (nx + 1) H1 locs → W p l e R s m args below meth c H1 locs (cells + 1) (slots + N) Q (F0 m (pc + 2) ls (.ref nx :: rest))) : W p l e R s m args below meth c H locs cells slots Q (F0 m pc ls (.int n :: rest)) := by
  subst hN
  exact b_newa S hS.1 hB (atype := .boolean) (a0 := z32) 3 rfl rfl (fun q => q) (S.2.2.2.2 _ q536) (fun _ => rfl) (fun _ => rfl) (by decide) hn hcells hslots hdg kk
theorem b_newB (S : CallFix p m c cc nL s args lw_all own) (hS : SK G zs L A s) (hB : BI G A H0 h nx H locs) {n : Int32} {N : Nat} (hN : n.toNatClampNeg = N) (hn : nA n = true) (hcells : cells + 1 ≤ R.cells) (hslots : slots + N ≤ R.slots) (hdg : decode cc pc = .ok (.newarray .byte, 2)) (kk : ∀ H1 : Heap, BI G A H0 (hu h nx (.inl (2, N, .inl (fun _ => 0)))) (nx + 1) H1 locs → W p l e R s m args below meth c H1 locs (cells + 1) (slots + N) Q (F0 m (pc + 2) ls (.ref nx :: rest))) : W p l e R s m args below meth c H locs cells slots Q (F0 m pc ls (.int n :: rest)) := by
  subst hN
  exact b_newa S hS.1 hB (atype := .byte) (a0 := z32) 2 rfl rfl (fun q => q) (S.2.2.2.2 _ q581) (fun _ => rfl) (fun _ => rfl) (by decide) hn hcells hslots hdg kk
theorem b_newL (S : CallFix p m c cc nL s args lw_all own) (hS : SK G zs L A s) (hB : BI G A H0 h nx H locs) {n : Int32} {N : Nat} (hN : n.toNatClampNeg = N) (hn : nA n = true) (hcells : cells + 1 ≤ R.cells) (hslots : slots + N ≤ R.slots) (hdg : decode cc pc = .ok (.newarray .long, 2)) (kk : ∀ H1 : Heap, BI G A H0 (hu h nx (.inl (1, N, .inr (.inl (fun _ => 0))))) (nx + 1) H1 locs → W p l e R s m args below meth c H1 locs (cells + 1) (slots + N) Q (F0 m (pc + 2) ls (.ref nx :: rest))) : W p l e R s m args below meth c H locs cells slots Q (F0 m pc ls (.int n :: rest)) := by
  subst hN
  exact b_newa S hS.1 hB (atype := .long) (a0 := z64) 1 rfl rfl (fun q => q) (S.2.2.2.2 _ q2095) (fun _ => rfl) trivial (by decide) hn hcells hslots hdg kk
theorem b_anewN (S : CallFix p m c cc nL s args lw_all own) (hS : SK G zs L A s) (hB : BI G A H0 h nx H locs) (t : Nat) {cA : ClassId} (ht : (hTy G)[t]? = some (cA, .object C)) (hcl : (Cond.classLink own index C).before args s = true) (hov : (Cond.arrayOver (.object C)) ∈ lw_tbl) {n : Int32} {N : Nat} (hN : n.toNatClampNeg = N) (hn : nA n = true) (hcells : cells + 1 ≤ R.cells) (hslots : slots + N ≤ R.slots) (hdg : decode cc pc = .ok (.anewarray index, 3)) (kk : ∀ H1 : Heap, BI G A H0 (hu h nx (.inl (t, N, .inr (.inr (.inr (.inr (fun _ => none))))))) (nx + 1) H1 locs → W p l e R s m args below meth c H1 locs (cells + 1) (slots + N) Q (F0 m (pc + 3) ls (.ref nx :: rest))) : W p l e R s m args below meth c H locs cells slots Q (F0 m pc ls (.int n :: rest)) := by
  subst hN
  exact b_anew S hS.1 hB t ht hcl (hS.2.1 _ hov rfl) hn hcells hslots hdg kk
theorem b_anewM (S : CallFix p m c cc nL s args lw_all own) (hS : SK G zs L A s) (hB : BI G A H0 h nx H locs) (hcl : (Cond.classLink own index "[I").before args s = true) {n : Int32} {N : Nat} (hN : n.toNatClampNeg = N) (hn : nA n = true) (hcells : cells + 1 ≤ R.cells) (hslots : slots + N ≤ R.slots) (hdg : decode cc pc = .ok (.anewarray index, 3)) (kk : ∀ H1 : Heap, BI G A H0 (hu h nx (.inl (7, N, .inr (.inr (.inr (.inr (fun _ => none))))))) (nx + 1) H1 locs → W p l e R s m args below meth c H1 locs (cells + 1) (slots + N) Q (F0 m (pc + 3) ls (.ref nx :: rest))) : W p l e R s m args below meth c H locs cells slots Q (F0 m pc ls (.int n :: rest)) := by
  subst hN
  exact b_anewA S hS.1 hB hcl (hS.2.1 _ q1381 rfl) hn hcells hslots hdg kk
end BW
/-- what the interface calls do (E), with the room fE lE -/
def okI1 (l : Launch) (G : hG) (E : bE) (F : tIS) (x : MethodName) (P : Int32 → Prop) (fE lE : Nat) : Prop := ∀ (p : Program) (e : Env) (R : Room) (s : State) (m : MethodId) (args : Array Value) (below : List Frame) (meth : Method) (c : Code) (cc : ByteArray) (nL : Nat) (own : String) (H : Heap) (locs : List Loc) (cells slots : Nat) (Q : State → Prop) (pc : Nat) (ls : Array Slot) (rest : List Value) (A : Nat → Prop) (h : AH) (nx idx cnt q : Nat) (k : Int32) (out : Int32 × AH × Nat × Nat),
  CallFix p m c cc nL s args lw_all own → SK G E.1 hSites A s → BI G A s.heap h nx H locs → (Cond.methodLink own idx x).before args s = true → F h nx q k = some out → ls.size = nL → (fE + 1 ≤ R.frames ∧ 8 + (2 + 11) + lE ≤ R.locals) → (rest.map fun v => v.category).sum ≤ 8 → (cells + out.2.2.1 ≤ R.cells ∧ slots + out.2.2.2 ≤ R.slots) → decode cc pc = .ok (.invokeinterface idx cnt, 5) →
  (∀ (H1 : Heap) (locs1 : List Loc), P out.1 → BI G A s.heap out.2.1 (nx + out.2.2.1) H1 locs1 → W p l e R s m args below meth c H1 locs1 (cells + out.2.2.1) (slots + out.2.2.2) Q (F0 m (pc + 5) ls (.int out.1 :: rest))) → W p l e R s m args below meth c H locs cells slots Q (F0 m pc ls (.int k :: .ref q :: rest))
def okI2 (l : Launch) (G : hG) (E : bE) (F : tBY) (x : MethodName) (fE lE : Nat) : Prop := ∀ (p : Program) (e : Env) (R : Room) (s : State) (m : MethodId) (args : Array Value) (below : List Frame) (meth : Method) (c : Code) (cc : ByteArray) (nL : Nat) (own : String) (H : Heap) (locs : List Loc) (cells slots : Nat) (Q : State → Prop) (pc : Nat) (ls : Array Slot) (rest : List Value) (A : Nat → Prop) (h : AH) (nx idx cnt q : Nat) (k k2 : Int32) (out : Int32 × AH × Nat × Nat),
  CallFix p m c cc nL s args lw_all own → SK G E.1 hSites A s → BI G A s.heap h nx H locs → (Cond.methodLink own idx x).before args s = true → F h nx q k k2 = some out → ls.size = nL → (fE + 1 ≤ R.frames ∧ 8 + (3 + 11) + lE ≤ R.locals) → (rest.map fun v => v.category).sum ≤ 8 → (cells + out.2.2.1 ≤ R.cells ∧ slots + out.2.2.2 ≤ R.slots) → decode cc pc = .ok (.invokeinterface idx cnt, 5) →
  (∀ (H1 : Heap) (locs1 : List Loc), True → BI G A s.heap out.2.1 (nx + out.2.2.1) H1 locs1 → W p l e R s m args below meth c H1 locs1 (cells + out.2.2.1) (slots + out.2.2.2) Q (F0 m (pc + 5) ls (.int out.1 :: rest))) → W p l e R s m args below meth c H locs cells slots Q (F0 m pc ls (.int k2 :: .int k :: .ref q :: rest))
def mIs : MethodName := ⟨"HomesQueue$Check", "is", "(I)Z"⟩
def mBy : MethodName := ⟨"HomesQueue$Step", "by", "(II)I"⟩
def mOf : MethodName := ⟨"HomesQueue$Number", "of", "(I)I"⟩
def IfOK (l : Launch) (G : hG) (E : bE) (fE lE : Nat) : Prop := okI1 l G E E.2.1 mIs (fun v => narrow .boolean (.int v) = .int v) fE lE ∧ okI2 l G E E.2.2.1 mBy fE lE ∧ okI1 l G E E.2.2.2 mOf (fun _ => True) fE lE

/-! a call with up to sixteen words below it -/
section BWD
variable {p : Program} {l : Launch} {e : Env} {R : Room} {s : State} {m : MethodId} {args : Array Value} {below : List Frame} {meth : Method} {c : Code} {H : Heap} {locs : List Loc} {cells slots : Nat} {Ts ws : List Cond} {cc bytes : ByteArray} {nL maxL index n mc ms : Nat} {own C : String} {y : MethodName} {ret : Option FieldType} {rm : Room} {Pc : Array Value → State → Prop} {Qc : Array Value → State → Outcome → State → Prop} {free : Addr → Prop} {b : Addr} {As rest : List Value} {g : JFrame}
theorem b_room16 {pc : Nat} {ls : Array Slot} {st0 st : List Value} (h : (st.map fun v => v.category).sum ≤ 16) : 2 * (F0 m pc ls st0).monitorRoom + (st.map fun v => v.category).sum ≤ 16 := by
  show 2 * 0 + _ ≤ 16
  omega
theorem b_runV16 (hlo : 16 + (maxL + 11) + rm.locals ≤ R.locals) (S : CallFix p m c cc nL s args Ts own) (hM : Met l y ws rm Pc Qc mc ms free) (cw : CallW R s args own C index y bytes maxL ret ws rm mc ms n) (hp : PreV s H C b Pc As)
    (hg : g.method = m) (hn : As.length = n) (hsize : g.locals.size = nL) (hstack : g.stack = As.reverse ++ .ref b :: rest) (hW : 2 * g.monitorRoom + (rest.map fun v => v.category).sum ≤ 16) (hdg : decode cc g.pc = .ok (.invokevirtual index, 3)) (hf : cells + mc ≤ R.cells ∧ slots + ms ≤ R.slots) :
    va_Run p l e R s m args below meth c H locs cells slots mc ms g rest (Qc (Value.ref b :: As).toArray) (free) := by
  obtain ⟨⟨hrc, hrs, hfr, -, hws, hcw, hcode, hini, hy, hlen, hl⟩, hin, hse⟩ := cw
  have hK : Back l R p e below s args y 3 16 (PreOf R mc ms Pc) (PostOf Qc mc ms free) := back_of (bytes := bytes) (maxL := maxL) (ret := ret) hM hp.1 hrc hrs hfr hlo hws hcw (fun a' U hW => word_at hW (Or.inl (by first | rfl | simp [Cond.onTables, Cond.keeps, Cond.steady])) hini)
  obtain ⟨hx, hb, hml, ho, -⟩ := S
  obtain ⟨-, ⟨cellB, hcB, hoB, hclB⟩, hPc⟩ := hp
  intro T hT X
  obtain ⟨v, vm₁, ⟨U', l2, c2, s2⟩, hW₁, X', ⟨g', mk, t, L, e1, e2, hq, h1, hL, h2, h3⟩, st⟩ := callV X hx (C := C) (bytes := bytes) (maxL := maxL) (ret := ret) ho hl hin hse hcode hy hK (by rw [hT]; exact hcB) hoB hclB hg (hsize.trans hml.symm) (argsL := As) (rest := rest) (fun sig h => hn.trans (hlen sig h)) hstack hW (by rw [hb]; exact hdg)
    (fun vm₁ hW₁ => ⟨hf.1, hf.2, hPc (T.setVm vm₁) hT hW₁⟩)
  dsimp only [Pt.U, Pt.locs, Pt.cells, Pt.slots] at X' e1 e2 h1 h2 h3 st
  subst h1; subst h2; subst h3
  exact ⟨v, (T.setVm vm₁).calling g' mk (Value.ref b :: As).toArray, t, U', L, hT, X', hL, e1, e2, hq, st⟩
end BWD
