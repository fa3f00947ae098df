/-! THE COMPONENT'S LAYER: the heap as a partial map of entries (arrays by kind, objects by class, lambda objects by site); rows over it. -/
abbrev hE : Type := (Nat × vp_A) ⊕ ((Nat × List Value) ⊕ (Nat × List Value))
abbrev AH : Type := Nat → Option hE
def hu (h : AH) (a : Nat) (e : hE) : AH := fun q => if q = a then some e else h q
theorem hu_s {h : AH} {a : Nat} {e : hE} : hu h a e a = some e := if_pos rfl
theorem hu_n {h : AH} {a q : Nat} {e : hE} (hq : q ≠ a) : hu h a e q = h q := if_neg hq
/-- static: the classes' numbers and slots; the array classes; the lambdas' classes -/
abbrev hG : Type := va_G × (Nat → ClassId) × (Nat → ClassId)
def hCl : List vw_C := [(RX1, TX1, 13), (RX2, TX2, 27), (RX3, TX3, 33), (RX4, TX4, 10), (RX5, TX5, 8), (RX6, TX6, 3), (RX7, TX7, 2), (RX8, TX8, 10), (RX9, TX9, 4), (RX10, TX10, 4), (RX11, TX11, 6), (RJ2, TJ2, 3), (RJ8, TJ8, 4), (RJ9, TJ9, 4), (RJ16, TJ16, 4), (RJ18, TJ18, 6)]
def hTy (G : hG) : List (ClassId × FieldType) := [(G.2.1 0, .int), (G.2.1 1, .long), (G.2.1 2, .byte), (G.2.1 3, .boolean), (G.2.1 4, .object "java/lang/Object"), (G.2.1 5, .object "HomesQueue$Check"), (G.2.1 6, .object "HomesQueue$Step"), (G.2.1 7, .array .int), (G.2.1 8, .object "java/lang/String")]
def hFit (ty : FieldType) (a : vp_A) : Prop := match a.2 with
  | .inl f => ∀ j : Nat, fits ty (.int (f j)) = true
  | _ => True
/-- what an old cell may be marked with -/
def okV (v : VmData) : Prop := v ≠ .unknown ∧ v.isStatics = false
theorem okV.no {v : VmData} (h : v = .none) : okV v := by subst h; exact ⟨(fun q => by cases q), rfl⟩
theorem okV.ns {v : VmData} (h : okV v) (k : ClassId) : v ≠ .statics k := fun q => by have h2 := h.2; rw [q] at h2; cases h2
theorem okV.fit {s : State} {cls : ClassId} {v : VmData} {i : Nat} {x : Value} (h : okV v) (q : s.fitsSlot cls .none i x = true) : s.fitsSlot cls v i x = true := by
  have h2 := h.2
  cases v <;> first | exact q | cases h2
/-- the cell c is d, but for its monitor, hash and mark (an old cell's may be any) -/
def cLo (c d : Cell) : Prop := c.cls = d.cls ∧ c.slots = d.slots ∧ okV c.vm
theorem cLo.rf {c : Cell} (h : c.vm = .none) : cLo c c := ⟨rfl, rfl, okV.no h⟩
theorem cLo.trans {c d d2 : Cell} (h : cLo c d) (e : d = d2) : cLo c d2 := e ▸ h
theorem cLo.set {c d : Cell} (h : cLo c d) (k : Nat) (v : Value) : cLo (c.setSlot k v) (d.setSlot k v) := ⟨h.1, by show c.slots.setIfInBounds k v = d.slots.setIfInBounds k v; rw [h.2.1], h.2.2⟩
theorem cLo.arr {s : State} {c d : Cell} {t : FieldType} (h : cLo c d) (q : s.isArrayOf d t) : s.isArrayOf c t := ⟨fun k => h.2.2.ns k, by obtain ⟨k, h1, h2⟩ := q.2; exact ⟨k, by rw [h.1]; exact h1, h2⟩⟩
theorem cLo.pairs {c d : Cell} (h : cLo c d) (at_ : Nat) (vs : List (Value × Nat)) : cLo (c.storePairs at_ vs) (d.storePairs at_ vs) := by
  induction vs generalizing c d with
  | nil => exact h
  | cons x r ih => exact ih (h.set (at_ + x.2) x.1)
theorem cLo.copied {c0 d0 c1 d1 : Cell} (h0 : cLo c0 d0) (h1 : cLo c1 d1) (sp dp n : Int32) : cLo (copied c0 c1 sp dp n) (copied d0 d1 sp dp n) := by
  have e : c0.stretch sp.toNatClampNeg n.toNatClampNeg = d0.stretch sp.toNatClampNeg n.toNatClampNeg := by unfold Cell.stretch; rw [h0.2.1]
  show cLo (c1.storePairs _ (c0.stretch _ _).zipIdx) (d1.storePairs _ (d0.stretch _ _).zipIdx)
  rw [e]
  exact h1.pairs _ _
/-- an object's mark: only an old String may bear one -/
def oV (ci : Nat) (v : VmData) : Prop := okV v ∧ (ci ≠ 13 → v = .none)
/-- an object: its class, its fields -/
def hOb (G : hG) (q : Nat) (o : Nat × List Value) (H : Heap) : Prop := ∃ r : vw_C, hCl[o.1]? = some r ∧ ∃ cell : Cell, H[q]? = some cell ∧ cell.cls = G.1.1 o.1 ∧ oV o.1 cell.vm ∧ ∀ k, k < r.2.2 → cell.slots[G.1.2 o.1 k]? = some (vp_V o.2 k)
theorem hOb.of {G : hG} {q ci : Nat} {r : vw_C} {fs : List Value} {H : Heap} (hc : hCl[ci]? = some r) (h : t_OB q (G.1.1 ci) r.2.2 (G.1.2 ci) H (vp_V fs)) : hOb G q (ci, fs) H := by
  obtain ⟨cell, q1, q2, q3, q4⟩ := h
  exact ⟨r, hc, cell, q1, q2, ⟨okV.no q3, fun _ => q3⟩, q4⟩
def hAt (G : hG) (q : Nat) (e : hE) (H : Heap) : Prop := match e with
  | .inl x => ∃ y : ClassId × FieldType, (hTy G)[x.1]? = some y ∧ (∃ c : Cell, H[q]? = some c ∧ cLo c (vp_cell y.1 x.2)) ∧ hFit y.2 x.2
  | .inr (.inl o) => hOb G q o H
  | .inr (.inr k) => H[q]? = some { cls := G.2.2 k.1, slots := k.2.toArray, vm := .none }
theorem hAt.kept {G : hG} {q : Nat} {e : hE} {H H1 : Heap} (h : hAt G q e H) (hq : H1[q]? = H[q]?) : hAt G q e H1 := by
  rcases e with x | o | k
  · obtain ⟨y, h1, ⟨c, h2, h4⟩, h3⟩ := h
    exact ⟨y, h1, ⟨c, hq.trans h2, h4⟩, h3⟩
  · obtain ⟨r, h1, cell, h2, h3⟩ := h
    exact ⟨r, h1, cell, hq.trans h2, h3⟩
  · exact hq.trans h
theorem hAt.lt {G : hG} {q : Nat} {e : hE} {H : Heap} (h : hAt G q e H) : q < H.size := by
  rcases e with x | o | k
  · obtain ⟨y, h1, ⟨c, h2, h4⟩, h3⟩ := h
    exact (Array.getElem?_eq_some_iff.mp h2).1
  · obtain ⟨r, h1, cell, h2, h3⟩ := h
    exact (Array.getElem?_eq_some_iff.mp h2).1
  · exact (Array.getElem?_eq_some_iff.mp h).1
/-- words of the tables that aren't among lw_all, but stay true all the same -/
def nwK (w : Cond) : Bool := match w with
  | .fieldLinkNest .. => true
  | .methodLinkNest .. => true
  | .declares _ => true
  | .castable .. => true
  | .arrayOver _ => true
  | .privateMethod _ => true
  | _ => false
def NK (U : State) : Prop := ∀ w ∈ lw_tbl, nwK w = true → w.before #[] U = true
theorem ao_moved {t : FieldType} {u U : State} (hvm : u.vm.Alike U.vm) (h : (Cond.arrayOver t).before #[] u = true) : (Cond.arrayOver t).before #[] U = true := by
  have hW : (Cond.arrayOver t).before #[] (u.setVm U.vm) = true := by rw [Cond.arrayOver_setVmC hvm]; exact h
  exact hW
theorem pm_warm {x : MethodName} {s U : State} (hW : s.WarmedH U.vm) (h : (Cond.privateMethod x).before #[] s = true) : (Cond.privateMethod x).before #[] U = true := va_tabs rfl (rfl : (s.setVm U.vm).vm = U.vm) (by rw [Cond.privateMethod_setVm hW.alike]; exact h)
theorem NK.warm {s U : State} (hW : s.WarmedH U.vm) (h : NK s) : NK U := by
  intro w hw hk
  have h0 := h w hw hk
  cases w <;> first | exact va_Nw.warmF hW h0 | exact va_Nw.warmM hW h0 | exact va_Nw.warmD hW h0 | exact va_Nw.warmC hW h0 | exact pm_warm hW h0 | exact ao_moved hW.alike h0 | exact Bool.noConfusion hk
theorem NK.vm {s U : State} (hv : s.vm = U.vm) (h : NK s) : NK U := by
  intro w hw hk
  have h0 := h w hw hk
  cases w <;> first | exact va_tabs rfl hv h0 | exact ao_moved (hv ▸ Vm.Alike.refl s.vm) h0 | exact Bool.noConfusion hk
def AA (h : AH) (nx : Nat) : Nat → Prop := fun q => (∃ e, h q = some e) ∨ nx ≤ q
/-- statics: class, field, descriptor, value -/
abbrev hZ : Type := String × String × String × Value
def ZK (Z : List hZ) (A : Nat → Prop) (U : State) (H : Heap) : Prop := ∀ z ∈ Z, va_Z z.1 z.2.1 z.2.2.1 z.2.2.2 A U H
/-- the lambdas' sites: method, pc, pool index, shape -/
abbrev hL : Type := MethodName × Nat × Nat × Lambda.Shape
def LK (G : hG) (L : List hL) (U : State) : Prop := ∀ (k : Nat) (q : hL), L[k]? = some q → U.lambdaAt? q.1 q.2.1 q.2.2.1 q.2.2.2 = some (G.2.2 k, none)
def mCol : MethodName := ⟨"java/util/Collection", "toArray", "()[Ljava/lang/Object;"⟩
def mHas : MethodName := ⟨"java/util/Iterator", "hasNext", "()Z"⟩
def mNxt : MethodName := ⟨"java/util/Iterator", "next", "()Ljava/lang/Object;"⟩
def FK (U : State) : Prop := va_Fw RJ2 mCol yJ2_toArray U ∧ va_Fw RJ16 mHas yJ16_hasNext U ∧ va_Fw RJ16 mNxt yJ16_next U
/-- rows of rows of ints: their class's component -/
def AK (G : hG) (U : State) : Prop := ∃ kA : Class, U.vm.classes[G.2.1 7]? = some kA ∧ kA.kind = .array (G.2.1 0) (.array .int)
theorem AK.moved {G : hG} {u U : State} (hvm : u.vm.Alike U.vm) (h : AK G u) : AK G U := by
  obtain ⟨kA, h1, h2⟩ := h
  obtain ⟨k1, q1, he⟩ := hvm.2.2 _ _ h1
  exact ⟨k1, q1, by rw [he]; exact h2⟩
/-- the statics' values: arrays at zs 0 .. zs 6; the mirror of Object[] is zs 9; the String constants zs 20 .. -/
def zqo (zs : Nat → Nat) : Option Nat := if zs 7 = 0 then none else some (zs 7)
def zqk (zs : Nat → Nat) (k : Nat) : Option Nat := if zs k = 0 then none else some (zs k)
def zqv (zs : Nat → Nat) : Value := va_rf (zqo zs)
def hZs (zs : Nat → Nat) : List hZ := [("HomesQueue", "LOWS", "[I", .ref (zs 0)), ("HomesQueue", "HIGHS", "[I", .ref (zs 1)), ("HomesQueue", "PLAIN", "[I", .ref (zs 2)), ("java/util/ArrayList", "EMPTY_ELEMENTDATA", "[Ljava/lang/Object;", .ref (zs 3)), ("java/util/ArrayList", "DEFAULTCAPACITY_EMPTY_ELEMENTDATA", "[Ljava/lang/Object;", .ref (zs 4)), ("java/lang/String", "COMPACT_STRINGS", "Z", .int 1), ("java/lang/Integer", "DigitOnes", "[B", .ref (zs 5)), ("java/lang/Integer", "DigitTens", "[B", .ref (zs 6)), ("jdk/internal/util/Preconditions", "SIOOBE_FORMATTER", "Ljava/util/function/BiFunction;", zqv zs), ("java/lang/Throwable", "UNASSIGNED_STACK", "[Ljava/lang/StackTraceElement;", va_rf (zqk zs 10)), ("java/lang/Throwable", "SUPPRESSED_SENTINEL", "Ljava/util/List;", va_rf (zqk zs 11))]
def hStr : List (String × Nat × String) := [("HomesQueue", 89, "refuse"), ("HomesQueue", 91, "bar"), ("HomesQueue", 93, "local"), ("HomesQueue", 95, "quota"), ("HomesQueue", 97, "age"), ("HomesQueue", 99, "bids"), ("HomesQueue", 105, "home"), ("HomesQueue", 107, "house"), ("HomesQueue", 109, "rule"), ("HomesQueue", 111, "in"), ("HomesQueue", 577, "house "), ("HomesQueue", 594, " in "), ("HomesQueue", 597, " "), ("HomesQueue", 599, ";"), ("HomesQueue", 604, "rule "), ("HomesQueue", 606, "home "), ("HomesQueue$Reader", 15, ""), ("HomesQueue$Reader", 166, "in"), ("HomesQueue$Reader", 191, "rule"), ("HomesQueue$Reader", 202, "home"), ("HomesQueue$Reader", 207, "house")]
def TK (zs : Nat → Nat) (U : State) : Prop := ∀ (i : Nat) (q : String × Nat × String), hStr[i]? = some q → vk_R q.1 q.2.1 q.2.2 (zs (20 + i)) U
def MK (zs : Nat → Nat) (U : State) : Prop := va_Mi "[Ljava/lang/Object;" (zs 9) U
/-- what is static in a run: G, the statics' values zs, the lambdas' sites L -/
def SK (G : hG) (zs : Nat → Nat) (L : List hL) (A : Nat → Prop) (U : State) : Prop := va_K G.1 hCl (hTy G) U ∧ NK U ∧ ZK (hZs zs) A U U.heap ∧ LK G L U ∧ FK U ∧ AK G U ∧ MK zs U ∧ TK zs U
theorem FK.moved {u U : State} (hvm : u.vm.Alike U.vm) (h : FK u) : FK U :=
  ⟨va_Fw.moved (by decide) hvm h.1, va_Fw.moved (by decide) hvm h.2.1, va_Fw.moved (by decide) hvm h.2.2⟩
theorem ZK.move {Z : List hZ} {A B : Nat → Prop} {u U : State} {H H1 : Heap} (hvm : u.vm.Alike U.vm) (hq : ∀ a : Nat, a < H.size → ¬ A a → H1[a]? = H[a]?) (hAB : ∀ q, B q → A q) (h : ZK Z A u H) : ZK Z B U H1 :=
  fun z hz => ((h z hz).moved hvm |>.kept hq).narrow hAB
/-- a lambda site's reader needs the tables alone where something is captured -/
theorem lam_warm {u U : State} (hW : u.WarmedH U.vm) {x : MethodName} {pc index : Nat} {σ : Lambda.Shape} {c : ClassId} (h : u.lambdaAt? x pc index σ = some (c, none)) : U.lambdaAt? x pc index σ = some (c, none) := by
  obtain ⟨m, kc, cf, i0, p0, l, hm, hk, hcf, hsh, hin, hfind, hmade, hcall, hl⟩ := State.lambdaAt?_spec h
  obtain ⟨m2, k2, hm2, hk2, hjdk, howes⟩ := State.lambdaAt?_road h
  cases hm.symm.trans hm2
  cases hk.symm.trans hk2
  have hA := hW.alike
  have c1 : U.lambdaCallable σ c = true := by
    simp only [State.lambdaCallable, hA.findClass, hA.assignable, hA.superclasses, hA.declaredIn] at hcall ⊢
    exact hcall
  obtain ⟨k1, q1, he⟩ := hA.2.2 _ _ hk
  have m1 : U.methodNamed? x = some m := by
    have := State.methodNamed?_setVm (s := u) hA x
    rw [hm] at this
    exact this
  have f1 : k1.cf = some cf := by rw [he]; exact hcf
  have i1 : (m.idx, pc, index, σ) ∈ Lambda.sitesOf k1 := by rw [he]; exact hin
  have d1 : (k1.callSites.find? fun y => y.1 == m.idx && y.2.1 == pc) = some (i0, p0, l) := by rw [he]; exact hfind
  have g1 := Lambda.isMade_warmer hW hmade
  have j1 : jdkName k1.name = false := by rw [he]; exact hjdk
  have o1 : (U.vm.findClass σ.iface).bind (Lambda.owesInit U.vm) = none := by
    rw [hA.findClass]
    cases hfi : u.vm.findClass σ.iface with
    | none => rfl
    | some i => rw [hfi] at howes; simpa [Lambda.owesInit_alike hA] using howes
  have a1 : ((Lambda.sitesOf k1).any fun y => decide (y = (m.idx, pc, index, σ))) = true := by simpa using i1
  rcases hl with ⟨a, cell, -, hx, -⟩ | ⟨rfl, -, hcap⟩
  · cases hx
  · simp [State.lambdaAt?, guard, j1, o1, m1, q1, f1, hsh, a1, d1, hcap, g1, c1]
theorem LK.warm {G : hG} {L : List hL} {u U : State} (hW : u.WarmedH U.vm) (h : LK G L u) : LK G L U := fun k q hq => lam_warm hW (h k q hq)
theorem SK.move {G : hG} {zs : Nat → Nat} {L : List hL} {A B : Nat → Prop} {s U : State} (hW : s.WarmedH U.vm) (hq : ∀ a : Nat, a < s.heap.size → ¬ A a → U.heap[a]? = s.heap[a]?) (hAB : ∀ q, B q → A q) (h : SK G zs L A s) : SK G zs L B U :=
  ⟨h.1.moved hW.alike, h.2.1.warm hW, h.2.2.1.move hW.alike hq hAB, h.2.2.2.1.warm hW, h.2.2.2.2.1.moved hW.alike, h.2.2.2.2.2.1.moved hW.alike, h.2.2.2.2.2.2.1.moved hW.alike, fun i q hq => (h.2.2.2.2.2.2.2 i q hq).warm hW⟩
theorem SK.calling {G : hG} {zs : Nat → Nat} {L : List hL} {A : Nat → Prop} {U : State} {g : JFrame} {mk : MethodId} {a : Array Value} (h : SK G zs L A U) : SK G zs L A (U.calling g mk a) :=
  ⟨h.1.moved (u := U) (U := U.calling g mk a) (Vm.Alike.refl U.vm), h.2.1.vm (s := U) (U := U.calling g mk a) rfl, h.2.2.1.move (u := U) (U := U.calling g mk a) (Vm.Alike.refl U.vm) (fun _ _ _ => rfl) (fun _ q => q), h.2.2.2.1.warm (u := U) (U := U.calling g mk a) (State.WarmedH.refl U), h.2.2.2.2.1.moved (u := U) (U := U.calling g mk a) (Vm.Alike.refl U.vm), h.2.2.2.2.2.1.moved (u := U) (U := U.calling g mk a) (Vm.Alike.refl U.vm), h.2.2.2.2.2.2.1.moved (u := U) (U := U.calling g mk a) (Vm.Alike.refl U.vm), fun i q hq => (h.2.2.2.2.2.2.2 i q hq).same rfl⟩
def BI (G : hG) (A : Nat → Prop) (H0 : Heap) (h : AH) (nx : Nat) (H : Heap) (locs : List Loc) : Prop :=
  (∀ (q : Nat) (e : hE), h q = some e → hAt G q e H) ∧ H.size = nx ∧ (∀ (q : Nat) (e : hE), h q = some e → A q) ∧ va_S A H0 H locs ∧ ∀ q : Nat, H0.size ≤ q → A q
def bPc (G : hG) (zs : Nat → Nat) (L : List hL) (h : AH) (nx : Nat) (av : List Value) : Array Value → State → Prop := va_Pc av (fun U => (∀ (q : Nat) (e : hE), h q = some e → hAt G q e U.heap) ∧ U.heap.size = nx ∧ SK G zs L (AA h nx) U)
theorem bBlind {G : hG} {zs : Nat → Nat} {L : List hL} {h : AH} {nx : Nat} {av : List Value} : FrameBlind (bPc G zs L h nx av) :=
  fun a U g mk q => ⟨q.1, q.2.1, q.2.2.1, q.2.2.2.calling⟩
/-- the end of a contract: the answer, the new map, how far the heap has grown -/
def bQ (G : hG) (v : Option Value) (P : Prop) (h' : AH) (nx' : Nat) (A : Nat → Prop) : Array Value → State → Outcome → State → Prop := fun _ st oc t =>
  oc = .returned v ∧ P ∧ (∀ (q : Nat) (e : hE), h' q = some e → hAt G q e t.heap) ∧ t.heap.size = nx' ∧ (∀ (q : Nat) (e : hE), h' q = some e → A q) ∧ va_F A st t
section BP
variable {G : hG} {zs : Nat → Nat} {L : List hL} {A : Nat → Prop} {s : State} {h : AH} {nx : Nat} {H H0 : Heap} {locs : List Loc}
theorem BI.sub (hB : BI G A s.heap h nx H locs) : ∀ q, AA h nx q → A q := by
  intro q hq
  rcases hq with ⟨e, he⟩ | hq
  · exact hB.2.2.1 q e he
  · exact hB.2.2.2.2 q (Nat.le_trans hB.2.2.2.1.1 (by rw [hB.2.1]; exact hq))
theorem bPcU (hS : SK G zs L A s) (hB : BI G A s.heap h nx H locs) {av : List Value} {U : State} (hU : U.heap = H) (hW : s.WarmedH U.vm) : bPc G zs L h nx av av.toArray U :=
  ⟨rfl, by rw [hU]; exact hB.1, by rw [hU]; exact hB.2.1, hS.move hW (fun a h1 h2 => by rw [hU]; exact hB.2.2.2.1.2.1 a h1 h2) hB.sub⟩
theorem bPreS (hS : SK G zs L A s) (hB : BI G A s.heap h nx H locs) {av : List Value} : PreS s H (bPc G zs L h nx av) av := ⟨bBlind, fun U hU hW => bPcU hS hB hU hW⟩
/-- an entry's class -/
theorem bRecv {ci : Nat} {fs : List Value} {b : Nat} {C : String} {Tb : u_T} {N : Nat} (hK : va_K G.1 hCl (hTy G) s) (hB : BI G A H0 h nx H locs) (hc : hCl[ci]? = some (C, Tb, N)) (he : h b = some (.inr (.inl (ci, fs)))) : ∃ cell : Cell, H[b]? = some cell ∧ cell.vm.isStatics = false ∧ s.vm.findClass C = some cell.cls := by
  obtain ⟨q', h1, cell, g1, g2, g3, -⟩ := hB.1 b _ he
  exact ⟨cell, g1, g3.1.2, by rw [g2]; exact (hK.1 ci (C, Tb, N) hc).2.1⟩
theorem bPreV (hS : SK G zs L A s) (hB : BI G A s.heap h nx H locs) {av : List Value} {ci : Nat} {fs : List Value} {b : Nat} {C : String} {Tb : u_T} {N : Nat} (hc : hCl[ci]? = some (C, Tb, N)) (he : h b = some (.inr (.inl (ci, fs)))) : PreV s H C b (bPc G zs L h nx (.ref b :: av)) av :=
  ⟨bBlind, bRecv hS.1 hB hc he, fun U hU hW => bPcU hS hB hU hW⟩
/-- one cell is written -/
theorem BI.set (hB : BI G A H0 h nx H locs) {a : Nat} {e0 e : hE} {H1 : Heap} {i : Nat} (h0 : h a = some e0) (h1 : hAt G a e H1) (hz : H1.size = H.size) (oq : ∀ q : Nat, q ≠ a → H1[q]? = H[q]?) : BI G A H0 (hu h a e) nx H1 (locs ++ [⟨a, i⟩]) := by
  refine ⟨fun q x hx => ?_, by rw [hz]; exact hB.2.1, fun q x hx => ?_, hB.2.2.2.1.put hz oq (hB.2.2.1 a e0 h0), hB.2.2.2.2⟩
  · by_cases hq : q = a
    · subst hq
      rw [hu_s] at hx
      cases hx
      exact h1
    · rw [hu_n hq] at hx
      exact (hB.1 q x hx).kept (oq q hq)
  · by_cases hq : q = a
    · rw [hq]; exact hB.2.2.1 a e0 h0
    · rw [hu_n hq] at hx
      exact hB.2.2.1 q x hx
/-- one cell is new -/
theorem BI.push (hB : BI G A H0 h nx H locs) {e : hE} {H1 : Heap} (h1 : hAt G nx e H1) (hz : H1.size = nx + 1) (oq : ∀ q : Nat, q < nx → H1[q]? = H[q]?) : BI G A H0 (hu h nx e) (nx + 1) H1 locs := by
  have hle : H0.size ≤ nx := by rw [← hB.2.1]; exact hB.2.2.2.1.1
  refine ⟨fun q x hx => ?_, hz, fun q x hx => ?_, ⟨by omega, fun q g1 g2 => (oq q (Nat.lt_of_lt_of_le g1 hle)).trans (hB.2.2.2.1.2.1 q g1 g2), hB.2.2.2.1.2.2⟩, hB.2.2.2.2⟩
  · by_cases hq : q = nx
    · subst hq
      rw [hu_s] at hx
      cases hx
      exact h1
    · rw [hu_n hq] at hx
      have hl := (hB.1 q x hx).lt
      rw [hB.2.1] at hl
      exact (hB.1 q x hx).kept (oq q hl)
  · by_cases hq : q = nx
    · rw [hq]; exact hB.2.2.2.2 nx hle
    · rw [hu_n hq] at hx
      exact hB.2.2.1 q x hx
end BP
/-! reads and writes of the map -/
def rd (h : AH) (a ci k : Nat) : Option Value := match h a with
  | some (.inr (.inl o)) => if o.1 = ci then o.2[k]? else none
  | _ => none
theorem rd_s {h : AH} {a ci k : Nat} {v : Value} (q : rd h a ci k = some v) : ∃ fs : List Value, h a = some (.inr (.inl (ci, fs))) ∧ fs[k]? = some v := by
  unfold rd at q
  split at q
  · rename_i o he
    obtain ⟨c, fs⟩ := o
    by_cases hc : c = ci
    · subst hc
      rw [if_pos rfl] at q
      exact ⟨fs, he, q⟩
    · rw [if_neg hc] at q; cases q
  · cases q
def vI (o : Option Value) : Option Int32 := match o with
  | some (.int x) => some x
  | _ => none
def vJ (o : Option Value) : Option Int64 := match o with
  | some (.long x) => some x
  | _ => none
def vR (o : Option Value) : Option Nat := match o with
  | some (.ref x) => some x
  | _ => none
theorem vI_s {o : Option Value} {x : Int32} (q : vI o = some x) : o = some (.int x) := by
  unfold vI at q; split at q <;> first | (cases q; rfl) | cases q
theorem vJ_s {o : Option Value} {x : Int64} (q : vJ o = some x) : o = some (.long x) := by
  unfold vJ at q; split at q <;> first | (cases q; rfl) | cases q
theorem vR_s {o : Option Value} {x : Nat} (q : vR o = some x) : o = some (.ref x) := by
  unfold vR at q; split at q <;> first | (cases q; rfl) | cases q
def gI (h : AH) (a ci k : Nat) : Option Int32 := vI (rd h a ci k)
def gJ (h : AH) (a ci k : Nat) : Option Int64 := vJ (rd h a ci k)
def gA (h : AH) (a ci k : Nat) : Option Nat := vR (rd h a ci k)
def wr (h : AH) (a ci k : Nat) (v : Value) : Option AH := match h a with
  | some (.inr (.inl o)) => if o.1 = ci ∧ k < o.2.length then some (hu h a (.inr (.inl (ci, o.2.set k v)))) else none
  | _ => none
theorem wr_s {h h1 : AH} {a ci k : Nat} {v : Value} (q : wr h a ci k v = some h1) : ∃ fs : List Value, h a = some (.inr (.inl (ci, fs))) ∧ k < fs.length ∧ h1 = hu h a (.inr (.inl (ci, fs.set k v))) := by
  unfold wr at q
  split at q
  · rename_i o he
    obtain ⟨c, fs⟩ := o
    by_cases hc : c = ci ∧ k < fs.length
    · rw [if_pos hc] at q
      obtain ⟨rfl, hl⟩ := hc
      exact ⟨fs, he, hl, (Option.some.inj q).symm⟩
    · rw [if_neg hc] at q; cases q
  · cases q
/-- an array of kind t with ints; with longs; with references -/
def arI (h : AH) (a t : Nat) : Option (Nat × (Nat → Int32)) := match h a with
  | some (.inl (t0, n, .inl f)) => if t0 = t then some (n, f) else none
  | _ => none
def arJ (h : AH) (a t : Nat) : Option (Nat × (Nat → Int64)) := match h a with
  | some (.inl (t0, n, .inr (.inl f))) => if t0 = t then some (n, f) else none
  | _ => none
def arR (h : AH) (a t : Nat) : Option (Nat × (Nat → Option Nat)) := match h a with
  | some (.inl (t0, n, .inr (.inr (.inr (.inr f))))) => if t0 = t then some (n, f) else none
  | _ => none
theorem arI_s {h : AH} {a t : Nat} {x : Nat × (Nat → Int32)} (q : arI h a t = some x) : h a = some (.inl (t, x.1, .inl x.2)) := by
  unfold arI at q
  split at q
  · rename_i t0 n f he
    by_cases hc : t0 = t
    · rw [if_pos hc] at q; cases q; rw [he, hc]
    · rw [if_neg hc] at q; cases q
  · cases q
theorem arJ_s {h : AH} {a t : Nat} {x : Nat × (Nat → Int64)} (q : arJ h a t = some x) : h a = some (.inl (t, x.1, .inr (.inl x.2))) := by
  unfold arJ at q
  split at q
  · rename_i t0 n f he
    by_cases hc : t0 = t
    · rw [if_pos hc] at q; cases q; rw [he, hc]
    · rw [if_neg hc] at q; cases q
  · cases q
theorem arR_s {h : AH} {a t : Nat} {x : Nat × (Nat → Option Nat)} (q : arR h a t = some x) : h a = some (.inl (t, x.1, .inr (.inr (.inr (.inr x.2))))) := by
  unfold arR at q
  split at q
  · rename_i t0 n f he
    by_cases hc : t0 = t
    · rw [if_pos hc] at q; cases q; rw [he, hc]
    · rw [if_neg hc] at q; cases q
  · cases q
/-- loads -/
def aI (h : AH) (a t : Nat) (i : Int32) : Option Int32 := (arI h a t).bind fun x => gd (inR i x.1) (some (x.2 i.toNatClampNeg))
def aR (h : AH) (a t : Nat) (i : Int32) : Option Nat := (arR h a t).bind fun x => gd (inR i x.1) (x.2 i.toNatClampNeg)
/-- stores -/
def sI (h : AH) (a t : Nat) (i v : Int32) : Option AH := (arI h a t).bind fun x => gd (inR i x.1) (some (hu h a (.inl (t, x.1, .inl (upd x.2 i.toNatClampNeg v)))))
def sJ (h : AH) (a t : Nat) (i : Int32) (v : Int64) : Option AH := (arJ h a t).bind fun x => gd (inR i x.1) (some (hu h a (.inl (t, x.1, .inr (.inl (vp_updL x.2 i.toNatClampNeg v))))))
def sR (h : AH) (a t : Nat) (i : Int32) (v : Option Nat) : Option AH := (arR h a t).bind fun x => gd (inR i x.1) (some (hu h a (.inl (t, x.1, .inr (.inr (.inr (.inr (va_up x.2 i.toNatClampNeg v))))))))
/-- an array's length -/
def aL (h : AH) (a : Nat) : Option Int32 := match h a with
  | some (.inl x) => some (Int32.ofNat x.2.1)
  | _ => none
theorem aL_s {h : AH} {a : Nat} {v : Int32} (q : aL h a = some v) : ∃ (t : Nat) (x : vp_A), h a = some (.inl (t, x)) ∧ Int32.ofNat x.1 = v := by
  unfold aL at q
  split at q
  · rename_i x he
    exact ⟨x.1, x.2, he, Option.some.inj q⟩
  · cases q
/-- what may be stored in an array of references of kind t -/
def lmI (k : Nat) : Nat := if k = 7 ∨ k = 10 ∨ k = 12 ∨ k = 20 then 6 else if k = 6 ∨ k = 8 ∨ k = 9 ∨ k = 14 ∨ k = 22 ∨ k = 25 ∨ k = 29 ∨ k = 31 ∨ k = 33 ∨ k = 34 ∨ k = 37 then 0 else 5
def stO (t : Nat) (e : Option hE) : Bool := match e with
  | some (.inl x) => decide ((t = 4 ∧ x.1 < 9) ∨ (t = 7 ∧ x.1 = 0))
  | some (.inr (.inl o)) => decide ((t = 4 ∧ o.1 < 16) ∨ (t = 8 ∧ o.1 = 13))
  | some (.inr (.inr k)) => decide (k.1 < 42 ∧ (t = 5 ∨ t = 6) ∧ lmI k.1 = t)
  | none => false
