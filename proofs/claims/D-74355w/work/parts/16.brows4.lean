/-! statics, casts, copies, mirrors -/
section BD
variable {p : Program} {l : Launch} {e : Env} {R : Room} {s : State} {m : MethodId} {args : Array Value} {below : List Frame} {meth : Method} {c : Code} {H H0 : Heap} {locs : List Loc} {cells slots : Nat} {Q : State → Prop} {cc : ByteArray} {nL pc : Nat} {ls : Array Slot} {rest : List Value} {G : hG} {zs : Nat → Nat} {L : List hL} {A : Nat → Prop} {h h1 : AH} {nx : Nat} {own ref C host : String} {T : u_T} {N ci index a k : Nat}
theorem b_gets (S : CallFix p m c cc nL s args lw_all own) (hS : SK G zs L A s) (hB : BI G A s.heap h nx H locs) (z : Nat) {q : hZ} (hz : (hZs zs)[z]? = some q) (hlink : (Cond.fieldLink own index q.1 q.2.1 q.2.2.1).before args s = true) (hdg : decode cc pc = .ok (.getstatic index, 3)) (kk : W p l e R s m args below meth c H locs cells slots Q (F0 m (pc + 3) ls (q.2.2.2 :: rest))) : W p l e R s m args below meth c H locs cells slots Q (F0 m pc ls rest) :=
  va_gets S.1 S.2.1 (hS.2.2.1 q (List.mem_of_getElem? hz)) hB.2.2.2.1 S.2.2.2.1 hlink (fun _ h => h) hdg kk
theorem b_getsN (S : CallFix p m c cc nL s args lw_all own) (hS : SK G zs L A s) (hB : BI G A s.heap h nx H locs) (z : Nat) {q : hZ} (hz : (hZs zs)[z]? = some q) (hlink : (Cond.fieldLinkNest own index q.1 q.2.1 q.2.2.1 host).before args s = true) (hdg : decode cc pc = .ok (.getstatic index, 3)) (kk : W p l e R s m args below meth c H locs cells slots Q (F0 m (pc + 3) ls (q.2.2.2 :: rest))) : W p l e R s m args below meth c H locs cells slots Q (F0 m pc ls rest) :=
  va_getsN S.1 S.2.1 (hS.2.2.1 q (List.mem_of_getElem? hz)) hB.2.2.2.1 S.2.2.2.1 hlink (fun _ h => h) hdg kk
theorem b_ldcS (S : CallFix p m c cc nL s args lw_all own) (hS : SK G zs L A s) (i : Nat) {q : String × Nat × String} (hq : hStr[i]? = some q) (ho : q.1 = own) (hx : q.2.1 = index) (hdg : decode cc pc = .ok (.ldc index, 2)) (kk : W p l e R s m args below meth c H locs cells slots Q (F0 m (pc + 2) ls (.ref (zs (20 + i)) :: rest))) : W p l e R s m args below meth c H locs cells slots Q (F0 m pc ls rest) := by
  subst ho; subst hx
  exact va_ldcS S.1 S.2.1 S.2.2.2.1 (hS.2.2.2.2.2.2.2 i q hq) hdg kk
theorem b_ldcM (S : CallFix p m c cc nL s args lw_all own) (hS : SK G zs L A s) (hlink : (Cond.classLink own index "[Ljava/lang/Object;").before args s = true) (hdg : decode cc pc = .ok (.ldc index, 2)) (kk : W p l e R s m args below meth c H locs cells slots Q (F0 m (pc + 2) ls (.ref (zs 9) :: rest))) : W p l e R s m args below meth c H locs cells slots Q (F0 m pc ls rest) :=
  va_ldcM S.1 S.2.1 S.2.2.2.1 hlink hS.2.2.2.2.2.2.1 hdg kk
/-- is an object of the class ci; an array of kind t -/
def isO (h : AH) (a ci : Nat) : Bool := match h a with
  | some (.inr (.inl o)) => decide (o.1 = ci)
  | _ => false
theorem isO_s (q : isO h a ci = true) : ∃ fs : List Value, h a = some (.inr (.inl (ci, fs))) := by
  unfold isO at q
  split at q
  · rename_i o he
    have := of_decide_eq_true q
    exact ⟨o.2, by rw [he, ← this]⟩
  · cases q
def isA (h : AH) (a t : Nat) : Bool := match h a with
  | some (.inl x) => decide (x.1 = t)
  | _ => false
theorem isA_s {t : Nat} (q : isA h a t = true) : ∃ x : vp_A, h a = some (.inl (t, x)) := by
  unfold isA at q
  split at q
  · rename_i o he
    have := of_decide_eq_true q
    exact ⟨o.2, by rw [he, ← this]⟩
  · cases q
theorem b_castO (S : CallFix p m c cc nL s args lw_all own) (hK : va_K G.1 hCl (hTy G) s) (hB : BI G A H0 h nx H locs) (hc : hCl[ci]? = some (C, T, N)) (hlink : (Cond.classLink own index C).before args s = true) (hv : isO h a ci = true) (hdg : decode cc pc = .ok (.checkcast index, 3)) (kk : W p l e R s m args below meth c H locs cells slots Q (F0 m (pc + 3) ls (.ref a :: rest))) : W p l e R s m args below meth c H locs cells slots Q (F0 m pc ls (.ref a :: rest)) := by
  obtain ⟨fs, he⟩ := isO_s hv
  exact va_castS S.1 S.2.1 S.2.2.2.1 hlink (hK.1 ci _ hc).2 (bRecv hK hB hc he) hdg kk
theorem b_castA (S : CallFix p m c cc nL s args lw_all own) (hB : BI G A H0 h nx H locs) (t : Nat) {y : ClassId × FieldType} (ht : (hTy G)[t]? = some y) {nm : String} (hnm : s.vm.findClass nm = some y.1) (hlink : (Cond.classLink own index nm).before args s = true) (hv : isA h a t = true) (hdg : decode cc pc = .ok (.checkcast index, 3)) (kk : W p l e R s m args below meth c H locs cells slots Q (F0 m (pc + 3) ls (.ref a :: rest))) : W p l e R s m args below meth c H locs cells slots Q (F0 m pc ls (.ref a :: rest)) := by
  obtain ⟨x, he⟩ := isA_s hv
  obtain ⟨c1, hc1, hl, -⟩ := bArr hB ht he
  intro T hT X
  obtain ⟨vm', X', st⟩ := X.checkcastYes S.1 S.2.2.2.1 hlink (by rw [hT]; exact hc1) hl.2.2.2 hnm (by rw [hl.1, vp_cell_cls]; exact va_asg _ _) (g := F0 m pc ls (.ref a :: rest)) rfl rfl (by rw [S.2.1]; exact hdg)
  obtain ⟨t2, a1, b1⟩ := kk (T.setVm vm') hT X'
  exact ⟨t2, st t2 a1, b1⟩
theorem b_getC (S : CallFix p m c cc nL s args lw_all own) (hS : SK G zs L A s) (hB : BI G A s.heap h nx H locs) (hml : c.maxLocals = ls.size) (hlink : (Cond.methodLink own index ⟨"java/lang/Object", "getClass", "()Ljava/lang/Class;"⟩).before args s = true) (hdecl : (Cond.declares ⟨"java/lang/Object", "getClass", "()Ljava/lang/Class;"⟩) ∈ lw_tbl) (hsel : (Cond.selects "[Ljava/lang/Object;" ⟨"java/lang/Object", "getClass", "()Ljava/lang/Class;"⟩ ⟨"java/lang/Object", "getClass", "()Ljava/lang/Class;"⟩).before args s = true) (hinst : (Cond.instanceMethod ⟨"java/lang/Object", "getClass", "()Ljava/lang/Class;"⟩).before args s = true) (hnat : (Cond.native ⟨"java/lang/Object", "getClass", "()Ljava/lang/Class;"⟩).before args s = true)
    (hv : isA h a 4 = true) (hframes : 1 ≤ R.frames) (hlocals : (rest.map fun v => v.category).sum + 14 ≤ R.locals) (hdg : decode cc pc = .ok (.invokevirtual index, 3)) (kk : W p l e R s m args below meth c H locs cells slots Q (F0 m (pc + 3) ls (.ref (zs 9) :: rest))) : W p l e R s m args below meth c H locs cells slots Q (F0 m pc ls (.ref a :: rest)) := by
  obtain ⟨x, he⟩ := isA_s hv
  obtain ⟨kA, comp, r1, r2, r3, r4⟩ := (hS.1.2 4 _ rfl).2
  obtain ⟨c1, hc1, hl, -⟩ := bArr hB (t := 4) rfl he
  exact va_getC S.1 S.2.1 hml S.2.2.2.1 hlink (va_Nw.use rfl (hS.2.1 _ hdecl rfl)) hsel hinst hnat hS.2.2.2.2.2.2.1 ⟨_, hc1, hl.2.2.2, by rw [hl.1, vp_cell_cls]; exact r4⟩ hframes hlocals hdg kk
/-! System.arraycopy -/
def cpR (i n : Int32) (N : Nat) : Bool := decide (0 ≤ i.toInt ∧ 0 ≤ n.toInt ∧ i.toInt + n.toInt ≤ (N : Int))
theorem cpR_s {i n : Int32} {N : Nat} (q : cpR i n N = true) : ¬ i < 0 ∧ ¬ n < 0 ∧ i.toNatClampNeg + n.toNatClampNeg ≤ N := by
  have h := of_decide_eq_true q
  have z : ∀ x : Int32, 0 ≤ x.toInt → ¬ x < 0 := fun x hx q => by
    have := Int32.lt_iff_toInt_lt.mp q
    simp at this
    omega
  refine ⟨z i h.1, z n h.2.1, ?_⟩
  show i.toInt.toNat + n.toInt.toNat ≤ N
  omega
def cI (h : AH) (t a0 : Nat) (sp : Int32) (a : Nat) (dp n : Int32) : Option AH := (arI h a0 t).bind fun x => (arI h a t).bind fun y => gd (cpR sp n x.1) (gd (cpR dp n y.1) (some (hu h a (.inl (t, y.1, .inl (va_cpy x.2 y.2 sp.toNatClampNeg dp.toNatClampNeg n.toNatClampNeg))))))
def cR (h : AH) (a0 : Nat) (sp : Int32) (a : Nat) (dp n : Int32) : Option AH := (arR h a0 4).bind fun x => (arR h a 4).bind fun y => gd (cpR sp n x.1) (gd (cpR dp n y.1) (gd (decide (∀ i, i < n.toNatClampNeg → ∀ v ∈ x.2 (sp.toNatClampNeg + i), stO 4 (h v) = true)) (some (hu h a (.inl (4, y.1, .inr (.inr (.inr (.inr (va_cpy x.2 y.2 sp.toNatClampNeg dp.toNatClampNeg n.toNatClampNeg))))))))))
theorem nnI (z : Int32) (hz : ¬ z < 0) : z.toInt = (z.toNatClampNeg : Int) := by
  have hz0 : (0 : Int) ≤ z.toInt := by
    have := Int32.not_lt.mp hz
    simpa using Int32.le_iff_toInt_le.mp this
  show z.toInt = ((z.toInt.toNat : Nat) : Int)
  omega
theorem bB_copy (hB : BI G A H0 h nx H locs) {e0 e : hE} {X : Cell} {Lo : List Loc} (h0 : h a = some e0) (hl : a < H.size) (h1 : hAt G a e (H.setIfInBounds a X)) (hL : ∀ q ∈ Lo, q.base = a) : BI G A H0 (hu h a e) nx (H.setIfInBounds a X) (locs ++ Lo) := by
  have oq : ∀ q : Nat, q ≠ a → (H.setIfInBounds a X)[q]? = H[q]? := fun q hq => by simp [Array.getElem?_setIfInBounds, Ne.symm hq]
  refine ⟨fun q x hx => ?_, by rw [Array.size_setIfInBounds]; exact hB.2.1, fun q x hx => ?_, ⟨by rw [Array.size_setIfInBounds]; exact hB.2.2.2.1.1, fun q g1 g2 => ?_, fun q hq => ?_⟩, hB.2.2.2.2⟩
  · by_cases hq : q = a
    · subst hq
      rw [hu_s] at hx
      cases hx
      exact h1
    · rw [hu_n hq] at hx
      exact (hB.1 q x hx).kept (oq q hq)
  · by_cases hq : q = a
    · rw [hq]; exact hB.2.2.1 a e0 h0
    · rw [hu_n hq] at hx
      exact hB.2.2.1 q x hx
  · rw [oq q (fun e => g2 (by rw [e]; exact hB.2.2.1 a e0 h0))]
    exact hB.2.2.2.1.2.1 q g1 g2
  · rcases List.mem_append.mp hq with h | h
    · exact hB.2.2.2.1.2.2 q h
    · rw [hL q h]; exact hB.2.2.1 a e0 h0
theorem b_copyI (S : CallFix p m c cc nL s args lw_all own) (hK : va_K G.1 hCl (hTy G) s) (hB : BI G A H0 h nx H locs) (hml : c.maxLocals = ls.size) (hlink : (Cond.methodLink own index arraycopyName).before args s = true) (hnat : (Cond.native arraycopyName).before args s = true) (hstat : (Cond.static arraycopyName).before args s = true) (hini : (Cond.initialized "java/lang/System").before args s = true)
    (t : Nat) {y : ClassId × FieldType} (ht : (hTy G)[t]? = some y) (hprim : refKind y.2 = false) {a0 : Nat} {sp dp n : Int32} (hw : cI h t a0 sp a dp n = some h1) (hframes : 1 ≤ R.frames) (hlocals : (rest.map fun v => v.category).sum + (nativeFrameWords "java/lang/System" "arraycopy" 5 + 11) ≤ R.locals) (hdg : decode cc pc = .ok (.invokestatic index, 3))
    (kk : ∀ (H1 : Heap) (locs1 : List Loc), BI G A H0 h1 nx H1 locs1 → W p l e R s m args below meth c H1 locs1 cells slots Q (F0 m (pc + 3) ls rest)) : W p l e R s m args below meth c H locs cells slots Q (F0 m pc ls (.int n :: .int dp :: .ref a :: .int sp :: .ref a0 :: rest)) := by
  obtain ⟨x, hx, hw⟩ := ob_s hw
  obtain ⟨x2, hy, hw⟩ := ob_s hw
  obtain ⟨g1, hw⟩ := gd_t hw
  obtain ⟨g2, hw⟩ := gd_t hw
  obtain ⟨h1', h3, h4⟩ := cpR_s g1
  obtain ⟨h2, -, h5⟩ := cpR_s g2
  obtain ⟨n0, f⟩ := x
  obtain ⟨n1, g⟩ := x2
  have ea0 := arI_s hx
  have ea1 := arI_s hy
  cases hw
  obtain ⟨c0, hc0, hl0, hfit⟩ := bArr hB ht ea0
  obtain ⟨c1, hc1, hl1, hfit1⟩ := bArr hB ht ea1
  have hfit : ∀ j, fits y.2 (.int (f j)) = true := hfit
  have hfit1 : ∀ j, fits y.2 (.int (g j)) = true := hfit1
  have hs0 : c0.slots = (arrV y.1 n0 (fun j => .int (f j))).slots := hl0.2.1
  have hs1 : c1.slots = (arrV y.1 n1 (fun j => .int (g j))).slots := hl1.2.1
  have hcl0 : c0.cls = y.1 := hl0.1
  have hcl1 : c1.cls = y.1 := hl1.1
  intro T hT X
  obtain ⟨-, k0, hk0, cm0, hkk0⟩ := (hK.2 t _ ht).1 n0 (fun j => .int (f j))
  obtain ⟨-, k1, hk1, cm1, hkk1⟩ := (hK.2 t _ ht).1 n1 (fun j => .int (g j))
  obtain ⟨vm', X', step⟩ := X.arraycopy S.1 S.2.2.2.1 hlink hnat hstat hini (src := a0) (dst := a) (cs := c0) (cd := c1) (srcPos := sp) (destPos := dp) (n := n) (by rw [hT]; exact hc0) (by rw [hT]; exact hc1)
    (fun q => hl0.2.2.ns q) (fun q => hl1.2.2.ns q) hl0.2.2.1 hl1.2.2.1 (by rw [hcl0]; exact hk0) (by rw [hcl1]; exact hk1) hkk0 hkk1 (by simp [hprim]) h1' h2 h3
    (by rw [nnI sp h1', nnI n h3, hs0]; rw [arrV_size]; have h4 : sp.toNatClampNeg + n.toNatClampNeg ≤ n0 := h4; omega)
    (by rw [nnI dp h2, nnI n h3, hs1]; rw [arrV_size]; have h5 : dp.toNatClampNeg + n.toNatClampNeg ≤ n1 := h5; omega)
    (fun vm₁ _ i hi => by
      have e : c0.slots.getD (sp.toNatClampNeg + i) .null = .int (f (sp.toNatClampNeg + i)) := by
        rw [hs0]
        rw [Array.getD_eq_getD_getElem?, arrV_read _ _ (by have h4 : sp.toNatClampNeg + n.toNatClampNeg ≤ n0 := h4; omega)]
        rfl
      refine ⟨?_, ?_⟩
      · rw [e]
        exact hfit _
      · rw [e]
        exact trivial)
    (g := F0 m pc ls (.int n :: .int dp :: .ref a :: .int sp :: .ref a0 :: rest)) rfl (by rw [hml]) (rest := rest) rfl (by rw [S.2.1]; exact hdg) hframes (by show 2 * 0 + _ + _ ≤ _; omega)
  have e1 : cLo (copied c0 c1 sp dp n) (vp_cell y.1 (n1, .inl (va_cpy f g sp.toNatClampNeg dp.toNatClampNeg n.toNatClampNeg))) := (cLo.copied hl0 hl1 sp dp n).trans (va_copied (fun z => .int z) y.1 y.1 f g h4)
  have hl : a < H.size := (Array.getElem?_eq_some_iff.mp hc1).1
  have hheap : ((T.setVm vm').setCell a (copied c0 c1 sp dp n)).heap = H.setIfInBounds a (copied c0 c1 sp dp n) := by rw [← hT]; rfl
  obtain ⟨tt, a1, b1⟩ := kk _ _ (bB_copy hB ea1 hl ⟨y, ht, ⟨_, by simp [Array.getElem?_setIfInBounds, hl], e1⟩, fun j => by
      show fits y.2 (.int (va_cpy f g _ _ _ j)) = true
      unfold va_cpy
      split
      · exact hfit _
      · exact hfit1 _⟩ (fun q hq => by
      obtain ⟨z, -, hz⟩ := List.mem_map.mp hq
      rw [← hz])) _ hheap X'
  exact ⟨tt, step tt a1, b1⟩
theorem b_copyR (S : CallFix p m c cc nL s args lw_all own) (hS : SK G zs hSites A s) (hB : BI G A H0 h nx H locs) (hml : c.maxLocals = ls.size) (hlink : (Cond.methodLink own index arraycopyName).before args s = true) (hnat : (Cond.native arraycopyName).before args s = true) (hstat : (Cond.static arraycopyName).before args s = true) (hini : (Cond.initialized "java/lang/System").before args s = true)
    {a0 : Nat} {sp dp n : Int32} (hw : cR h a0 sp a dp n = some h1) (hframes : 1 ≤ R.frames) (hlocals : (rest.map fun v => v.category).sum + (nativeFrameWords "java/lang/System" "arraycopy" 5 + 11) ≤ R.locals) (hdg : decode cc pc = .ok (.invokestatic index, 3))
    (kk : ∀ (H1 : Heap) (locs1 : List Loc), BI G A H0 h1 nx H1 locs1 → W p l e R s m args below meth c H1 locs1 cells slots Q (F0 m (pc + 3) ls rest)) : W p l e R s m args below meth c H locs cells slots Q (F0 m pc ls (.int n :: .int dp :: .ref a :: .int sp :: .ref a0 :: rest)) := by
  obtain ⟨x, hx, hw⟩ := ob_s hw
  obtain ⟨x2, hy, hw⟩ := ob_s hw
  obtain ⟨g1, hw⟩ := gd_t hw
  obtain ⟨g2, hw⟩ := gd_t hw
  obtain ⟨g3, hw⟩ := gd_t hw
  have g3 := of_decide_eq_true g3
  obtain ⟨h1', h3, h4⟩ := cpR_s g1
  obtain ⟨h2, -, h5⟩ := cpR_s g2
  obtain ⟨n0, f⟩ := x
  obtain ⟨n1, g⟩ := x2
  have ea0 := arR_s hx
  have ea1 := arR_s hy
  cases hw
  have hK := hS.1
  obtain ⟨c0, hc0, hl0, -⟩ := bArr hB (t := 4) rfl ea0
  obtain ⟨c1, hc1, hl1, -⟩ := bArr hB (t := 4) rfl ea1
  have hs0 : c0.slots = (arrV (G.2.1 4) n0 (fun j => va_rf (f j))).slots := hl0.2.1
  have hs1 : c1.slots = (arrV (G.2.1 4) n1 (fun j => va_rf (g j))).slots := hl1.2.1
  have hcl0 : c0.cls = G.2.1 4 := hl0.1
  have hcl1 : c1.cls = G.2.1 4 := hl1.1
  intro T hT X
  obtain ⟨-, k0, hk0, cm0, hkk0⟩ := (hK.2 4 _ rfl).1 n0 (fun j => va_rf (f j))
  obtain ⟨-, k1, hk1, cm1, hkk1⟩ := (hK.2 4 _ rfl).1 n1 (fun j => va_rf (g j))
  obtain ⟨vm', X', step⟩ := X.arraycopy S.1 S.2.2.2.1 hlink hnat hstat hini (src := a0) (dst := a) (cs := c0) (cd := c1) (srcPos := sp) (destPos := dp) (n := n) (by rw [hT]; exact hc0) (by rw [hT]; exact hc1)
    (fun q => hl0.2.2.ns q) (fun q => hl1.2.2.ns q) hl0.2.2.1 hl1.2.2.1 (by rw [hcl0]; exact hk0) (by rw [hcl1]; exact hk1) hkk0 hkk1 rfl h1' h2 h3
    (by rw [nnI sp h1', nnI n h3, hs0]; rw [arrV_size]; have h4 : sp.toNatClampNeg + n.toNatClampNeg ≤ n0 := h4; omega)
    (by rw [nnI dp h2, nnI n h3, hs1]; rw [arrV_size]; have h5 : dp.toNatClampNeg + n.toNatClampNeg ≤ n1 := h5; omega)
    (fun vm₁ hal i hi => by
      have e : c0.slots.getD (sp.toNatClampNeg + i) .null = va_rf (f (sp.toNatClampNeg + i)) := by
        rw [hs0]
        rw [Array.getD_eq_getD_getElem?, arrV_read _ _ (by have h4 : sp.toNatClampNeg + n.toNatClampNeg ≤ n0 := h4; omega)]
        rfl
      rw [e]
      cases hyy : f (sp.toNatClampNeg + i) with
      | none => exact ⟨rfl, trivial⟩
      | some w =>
        obtain ⟨cv, kA, kv, kc, comp, b1, b2, b3, b4, b5, b6, b7, b8⟩ := bAsg (v := w) (t := 4) hS hB (g3 i hi w hyy) rfl
        cases hk1.symm.trans b3
        cases hkk1.symm.trans b4
        obtain ⟨kC', hkC', -⟩ := hal.2.2 _ _ b7
        obtain ⟨kE', hkE', -⟩ := hal.2.2 _ _ b6
        refine ⟨rfl, cv, (show T.heap[w]? = some cv by rw [hT]; exact b1), (fun q => b2.ns q), ⟨kC', hkC'⟩, ?_, ?_⟩
        · exact ⟨kE', hkE'⟩
        · show vm₁.assignable _ _ = true
          rw [hal.assignable]
          exact b8)
    (g := F0 m pc ls (.int n :: .int dp :: .ref a :: .int sp :: .ref a0 :: rest)) rfl (by rw [hml]) (rest := rest) rfl (by rw [S.2.1]; exact hdg) hframes (by show 2 * 0 + _ + _ ≤ _; omega)
  have e1 : cLo (copied c0 c1 sp dp n) (vp_cell (G.2.1 4) (n1, .inr (.inr (.inr (.inr (va_cpy f g sp.toNatClampNeg dp.toNatClampNeg n.toNatClampNeg)))))) := (cLo.copied hl0 hl1 sp dp n).trans (by
    rw [vp_cell_q, vp_cell_q, vp_cell_q]
    exact va_copied (fun z => va_rf z) (G.2.1 4) (G.2.1 4) f g h4)
  have hl : a < H.size := (Array.getElem?_eq_some_iff.mp hc1).1
  have hheap : ((T.setVm vm').setCell a (copied c0 c1 sp dp n)).heap = H.setIfInBounds a (copied c0 c1 sp dp n) := by rw [← hT]; rfl
  obtain ⟨tt, a1, b1⟩ := kk _ _ (bB_copy hB ea1 hl ⟨_, rfl, ⟨_, by simp [Array.getElem?_setIfInBounds, hl], e1⟩, trivial⟩ (fun q hq => by
      obtain ⟨z, -, hz⟩ := List.mem_map.mp hq
      rw [← hz])) _ hheap X'
  exact ⟨tt, step tt a1, b1⟩
end BD
