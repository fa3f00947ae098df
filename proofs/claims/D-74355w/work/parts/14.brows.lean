/-! ROWS OVER THE MAP -/
section BR
variable {p : Program} {l : Launch} {e : Env} {R : Room} {s : State} {m : MethodId} {args : Array Value} {below : List Frame} {meth : Method} {c : Code} {H H0 : Heap} {locs : List Loc} {cells slots : Nat} {Q : State → Prop} {cc : ByteArray} {nL pc : Nat} {ls : Array Slot} {rest : List Value} {G : hG} {A : Nat → Prop} {h h1 : AH} {nx : Nat} {own ref C host : String} {T : u_T} {N ci index a k : Nat}
theorem b_get (S : CallFix p m c cc nL s args lw_all own) (hK : va_K G.1 hCl (hTy G) s) (hB : BI G A H0 h nx H locs) (hin : ∀ w ∈ u_ws C T N, w ∈ lw_all) (hc : hCl[ci]? = some (C, T, N)) (hk : k < N) (hlink : (Cond.fieldLink own index ref (T k).2.1 (T k).2.2.1).before args s = true) (hsame : ∀ x, s.fieldFound? (T k).1 (T k).2.1 (T k).2.2.1 = some x → s.fieldFound? ref (T k).2.1 (T k).2.2.1 = some x) {v : Value} (hv : rd h a ci k = some v) (hdg : decode cc pc = .ok (.getfield index, 3)) (kk : W p l e R s m args below meth c H locs cells slots Q (F0 m (pc + 3) ls (v :: rest))) : W p l e R s m args below meth c H locs cells slots Q (F0 m pc ls (.ref a :: rest)) := by
  obtain ⟨fs, he, hf⟩ := rd_s hv
  obtain ⟨r, h9, cell, q1, q2, q3, q4⟩ := hB.1 a _ he
  have hr : r = (C, T, N) := Option.some.inj (h9.symm.trans hc)
  subst hr
  obtain ⟨hS, hfc, kC, hkC, hkind⟩ := hK.1 ci _ hc
  obtain ⟨cf, kf, fi, f, hi, hsl⟩ := hS k hk
  refine W.getf S.1 S.2.1 S.2.2.2.1 hlink (hsame _ hi) (u_facts hfc hkC (u_lays S.2.2.2.2 hin hk) hi).1 q1 q3.1.1 (v := v) ?_ rfl rfl hdg kk
  rw [hsl, q4 k hk]
  simp [vp_V, hf]
theorem b_getN (S : CallFix p m c cc nL s args lw_all own) (hK : va_K G.1 hCl (hTy G) s) (hB : BI G A H0 h nx H locs) (hin : ∀ w ∈ u_ws C T N, w ∈ lw_all) (hc : hCl[ci]? = some (C, T, N)) (hk : k < N) (hlink : (Cond.fieldLinkNest own index ref (T k).2.1 (T k).2.2.1 host).before args s = true) (hsame : ∀ x, s.fieldFound? (T k).1 (T k).2.1 (T k).2.2.1 = some x → s.fieldFound? ref (T k).2.1 (T k).2.2.1 = some x) {v : Value} (hv : rd h a ci k = some v) (hdg : decode cc pc = .ok (.getfield index, 3)) (kk : W p l e R s m args below meth c H locs cells slots Q (F0 m (pc + 3) ls (v :: rest))) : W p l e R s m args below meth c H locs cells slots Q (F0 m pc ls (.ref a :: rest)) := by
  obtain ⟨fs, he, hf⟩ := rd_s hv
  obtain ⟨r, h9, cell, q1, q2, q3, q4⟩ := hB.1 a _ he
  have hr : r = (C, T, N) := Option.some.inj (h9.symm.trans hc)
  subst hr
  obtain ⟨hS, hfc, kC, hkC, hkind⟩ := hK.1 ci _ hc
  obtain ⟨cf, kf, fi, f, hi, hsl⟩ := hS k hk
  refine va_Wgetf S.1 S.2.1 S.2.2.2.1 hlink (hsame _ hi) (u_facts hfc hkC (u_lays S.2.2.2.2 hin hk) hi).1 q1 q3.1.1 (v := v) ?_ rfl rfl hdg kk
  rw [hsl, q4 k hk]
  simp [vp_V, hf]
/-- a field is written; the cell may be marked -/
theorem bW_putK (hexec : p.tables.exec = Jvm.exec) (hb : c.code = cc) {own ref name desc : String} {index : Nat} {f : Field} (hF : Fd s m args own ref name desc index f) {a : Addr} {cell : Cell} {v : Value} (hS : k2_Sd s f cell.cls v)
    (hcell : H[a]? = some cell) (hvm : okV cell.vm) (hlt : f.slot < cell.slots.size)
    {g : JFrame} (hg : g.method = m) {rest : List Value} (hstack : g.stack = v :: .ref a :: rest) (hdg : decode cc g.pc = .ok (.putfield index, 3))
    (kk : ∀ H' : Heap, H'[a]? = some (cell.setSlot f.slot v) → H'.size = H.size → (∀ q, q ≠ a → H'[q]? = H[q]?) → W p l e R s m args below meth c H' (locs ++ [⟨a, f.slot⟩]) cells slots Q { g with pc := g.pc + 3, stack := rest }) : W p l e R s m args below meth c H locs cells slots Q g := by
  obtain ⟨hown, hlink, ⟨cf, k, i, hi⟩, hst⟩ := hF
  have ha : a < H.size := (Array.getElem?_eq_some_iff.mp hcell).1
  refine W.putf hexec hb hown hlink hi hst (Or.inl hS.1) hcell hvm.1 hlt hS.2.1 (hvm.fit hS.2.2) hg hstack hdg ?_
  refine kk _ ?_ ?_ ?_
  · simp [Array.getElem?_setIfInBounds, ha]
  · simp
  · intro q hq
    simp [Array.getElem?_setIfInBounds, Ne.symm hq]
theorem bW_putKN (hexec : p.tables.exec = Jvm.exec) (hb : c.code = cc) {own ref name desc host : String} {index : Nat} {f : Field} (hown : s.vm.findClass own = some m.cls) (hlink : (Cond.fieldLinkNest own index ref name desc host).before args s = true) {cf i : Nat} {k : Class} (hi : s.fieldFound? ref name desc = some (cf, k, i, f)) (hst : f.isStatic = false) {a : Addr} {cell : Cell} {v : Value} (hS : k2_Sd s f cell.cls v)
    (hcell : H[a]? = some cell) (hvm : okV cell.vm) (hlt : f.slot < cell.slots.size)
    {g : JFrame} (hg : g.method = m) {rest : List Value} (hstack : g.stack = v :: .ref a :: rest) (hdg : decode cc g.pc = .ok (.putfield index, 3))
    (kk : ∀ H' : Heap, H'[a]? = some (cell.setSlot f.slot v) → H'.size = H.size → (∀ q, q ≠ a → H'[q]? = H[q]?) → W p l e R s m args below meth c H' (locs ++ [⟨a, f.slot⟩]) cells slots Q { g with pc := g.pc + 3, stack := rest }) : W p l e R s m args below meth c H locs cells slots Q g := by
  have ha : a < H.size := (Array.getElem?_eq_some_iff.mp hcell).1
  refine va_Wputf hexec hb hown hlink hi hst (Or.inl hS.1) hcell hvm.1 hlt hS.2.1 (hvm.fit hS.2.2) hg hstack hdg ?_
  refine kk _ ?_ ?_ ?_
  · simp [Array.getElem?_setIfInBounds, ha]
  · simp
  · intro q hq
    simp [Array.getElem?_setIfInBounds, Ne.symm hq]
theorem bW_putFinK (hexec : p.tables.exec = Jvm.exec) (hb : c.code = cc) {own ref name desc : String} {index : Nat} (hown : s.vm.findClass own = some m.cls) (hlink : (Cond.fieldLink own index ref name desc).before args s = true)
    {cf i : Nat} {k : Class} {f : Field} (hi : s.fieldFound? ref name desc = some (cf, k, i, f)) (hst : f.isStatic = false) (hcf : m.cls = cf) (hin : meth.name = "<init>") {a : Addr} {cell : Cell} {v : Value} (hS : narrow f.type v = v ∧ s.fitsSlot cell.cls .none f.slot v = true)
    (hcell : H[a]? = some cell) (hvm : okV cell.vm) (hlt : f.slot < cell.slots.size)
    {g : JFrame} (hg : g.method = m) {rest : List Value} (hstack : g.stack = v :: .ref a :: rest) (hdg : decode cc g.pc = .ok (.putfield index, 3))
    (kk : ∀ H' : Heap, H'[a]? = some (cell.setSlot f.slot v) → H'.size = H.size → (∀ q, q ≠ a → H'[q]? = H[q]?) → W p l e R s m args below meth c H' (locs ++ [⟨a, f.slot⟩]) cells slots Q { g with pc := g.pc + 3, stack := rest }) : W p l e R s m args below meth c H locs cells slots Q g := by
  have ha : a < H.size := (Array.getElem?_eq_some_iff.mp hcell).1
  refine W.putf hexec hb hown hlink hi hst (Or.inr ⟨hcf, hin⟩) hcell hvm.1 hlt hS.1 (hvm.fit hS.2) hg hstack hdg ?_
  refine kk _ ?_ ?_ ?_
  · simp [Array.getElem?_setIfInBounds, ha]
  · simp
  · intro q hq
    simp [Array.getElem?_setIfInBounds, Ne.symm hq]
theorem b_put (S : CallFix p m c cc nL s args lw_all own) (hK : va_K G.1 hCl (hTy G) s) (hB : BI G A H0 h nx H locs) (hin : ∀ w ∈ u_ws C T N, w ∈ lw_all) (hc : hCl[ci]? = some (C, T, N)) (hk : k < N) (ty0 : Nat → FieldType) (hty : ∀ k, k < N → parseFieldDescriptor (T k).2.2.1 = some (ty0 k)) (hnm : ∀ a, a < N → ∀ b, b < N → a ≠ b → (T a).2.1 ≠ (T b).2.1) (hlink : (Cond.fieldLink own index ref (T k).2.1 (T k).2.2.1).before args s = true) (hsame : ∀ x, s.fieldFound? (T k).1 (T k).2.1 (T k).2.2.1 = some x → s.fieldFound? ref (T k).2.1 (T k).2.2.1 = some x) (hfin : (T k).2.2.2 = false) {ty : FieldType} {v : Value} (hd : parseFieldDescriptor (T k).2.2.1 = some ty) (hn : narrow ty v = v) (hfit : fits ty v = true) (hw : wr h a ci k v = some h1) (hdg : decode cc pc = .ok (.putfield index, 3)) (kk : ∀ (H1 : Heap) (locs1 : List Loc), BI G A H0 h1 nx H1 locs1 → W p l e R s m args below meth c H1 locs1 cells slots Q (F0 m (pc + 3) ls (rest))) : W p l e R s m args below meth c H locs cells slots Q (F0 m pc ls (v :: .ref a :: rest)) := by
  obtain ⟨fs, he, hl, rfl⟩ := wr_s hw
  have hap := va_apart (own := own) S.2.2.2.2 hin ty0 hty hnm hK hc
  obtain ⟨r, h9, cell, q1, q2, q3, q4⟩ := hB.1 a _ he
  have hr : r = (C, T, N) := Option.some.inj (h9.symm.trans hc)
  subst hr
  obtain ⟨hS, hfc, kC, hkC, hkind⟩ := hK.1 ci _ hc
  obtain ⟨cf, kf, fi, f, hi, hsl⟩ := hS k hk
  have hlay := S.2.2.2.2 _ (hin _ (u_in_lay hk))
  unfold u_lay at hlay
  rw [if_neg (by rw [hfin]; decide)] at hlay
  have hst := (u_facts hfc hkC (u_lays S.2.2.2.2 hin hk) hi).1
  have h6 := u_store hfc hkC hkind hlay hi hd hn hfit
  refine bW_putK S.1 S.2.1 (f := f) ⟨S.2.2.2.1, hlink, ⟨_, _, _, hsame _ hi⟩, hst⟩ (by rw [q2]; exact h6) q1 q3.1 (by rw [hsl]; exact k2_hasslot (q4 k hk)) rfl rfl hdg fun H' e1 e2 e3 => ?_
  rw [hsl] at e1 ⊢
  exact kk H' _ (hB.set he ⟨_, hc, _, e1, q2, q3, fun j hj => (t_set q4 hap hk v j hj).trans (congrArg some (vp_updV_set hl v j))⟩ e2 e3)
theorem b_putN (S : CallFix p m c cc nL s args lw_all own) (hK : va_K G.1 hCl (hTy G) s) (hB : BI G A H0 h nx H locs) (hin : ∀ w ∈ u_ws C T N, w ∈ lw_all) (hc : hCl[ci]? = some (C, T, N)) (hk : k < N) (ty0 : Nat → FieldType) (hty : ∀ k, k < N → parseFieldDescriptor (T k).2.2.1 = some (ty0 k)) (hnm : ∀ a, a < N → ∀ b, b < N → a ≠ b → (T a).2.1 ≠ (T b).2.1) (hlink : (Cond.fieldLinkNest own index ref (T k).2.1 (T k).2.2.1 host).before args s = true) (hsame : ∀ x, s.fieldFound? (T k).1 (T k).2.1 (T k).2.2.1 = some x → s.fieldFound? ref (T k).2.1 (T k).2.2.1 = some x) (hfin : (T k).2.2.2 = false) {ty : FieldType} {v : Value} (hd : parseFieldDescriptor (T k).2.2.1 = some ty) (hn : narrow ty v = v) (hfit : fits ty v = true) (hw : wr h a ci k v = some h1) (hdg : decode cc pc = .ok (.putfield index, 3)) (kk : ∀ (H1 : Heap) (locs1 : List Loc), BI G A H0 h1 nx H1 locs1 → W p l e R s m args below meth c H1 locs1 cells slots Q (F0 m (pc + 3) ls (rest))) : W p l e R s m args below meth c H locs cells slots Q (F0 m pc ls (v :: .ref a :: rest)) := by
  obtain ⟨fs, he, hl, rfl⟩ := wr_s hw
  have hap := va_apart (own := own) S.2.2.2.2 hin ty0 hty hnm hK hc
  obtain ⟨r, h9, cell, q1, q2, q3, q4⟩ := hB.1 a _ he
  have hr : r = (C, T, N) := Option.some.inj (h9.symm.trans hc)
  subst hr
  obtain ⟨hS, hfc, kC, hkC, hkind⟩ := hK.1 ci _ hc
  obtain ⟨cf, kf, fi, f, hi, hsl⟩ := hS k hk
  have hlay := S.2.2.2.2 _ (hin _ (u_in_lay hk))
  unfold u_lay at hlay
  rw [if_neg (by rw [hfin]; decide)] at hlay
  have hst := (u_facts hfc hkC (u_lays S.2.2.2.2 hin hk) hi).1
  have h6 := u_store hfc hkC hkind hlay hi hd hn hfit
  refine bW_putKN S.1 S.2.1 (f := f) S.2.2.2.1 hlink (hsame _ hi) hst (by rw [q2]; exact h6) q1 q3.1 (by rw [hsl]; exact k2_hasslot (q4 k hk)) rfl rfl hdg fun H' e1 e2 e3 => ?_
  rw [hsl] at e1 ⊢
  exact kk H' _ (hB.set he ⟨_, hc, _, e1, q2, q3, fun j hj => (t_set q4 hap hk v j hj).trans (congrArg some (vp_updV_set hl v j))⟩ e2 e3)
theorem b_putF (S : CallFix p m c cc nL s args lw_all own) (hK : va_K G.1 hCl (hTy G) s) (hB : BI G A H0 h nx H locs) (hin : ∀ w ∈ u_ws C T N, w ∈ lw_all) (hc : hCl[ci]? = some (C, T, N)) (hk : k < N) (ty0 : Nat → FieldType) (hty : ∀ k, k < N → parseFieldDescriptor (T k).2.2.1 = some (ty0 k)) (hnm : ∀ a, a < N → ∀ b, b < N → a ≠ b → (T a).2.1 ≠ (T b).2.1) (hlink : (Cond.fieldLink own index ref (T k).2.1 (T k).2.2.1).before args s = true) (hsame : ∀ x, s.fieldFound? (T k).1 (T k).2.1 (T k).2.2.1 = some x → s.fieldFound? ref (T k).2.1 (T k).2.2.1 = some x) (hfin : (T k).2.2.2 = true) (hin2 : meth.name = "<init>") (hdecl : (T k).1 = own) {ty : FieldType} {v : Value} (hd : parseFieldDescriptor (T k).2.2.1 = some ty) (hn : narrow ty v = v) (hfit : fits ty v = true) (hw : wr h a ci k v = some h1) (hdg : decode cc pc = .ok (.putfield index, 3)) (kk : ∀ (H1 : Heap) (locs1 : List Loc), BI G A H0 h1 nx H1 locs1 → W p l e R s m args below meth c H1 locs1 cells slots Q (F0 m (pc + 3) ls (rest))) : W p l e R s m args below meth c H locs cells slots Q (F0 m pc ls (v :: .ref a :: rest)) := by
  obtain ⟨fs, he, hl, rfl⟩ := wr_s hw
  have hap := va_apart (own := own) S.2.2.2.2 hin ty0 hty hnm hK hc
  obtain ⟨r, h9, cell, q1, q2, q3, q4⟩ := hB.1 a _ he
  have hr : r = (C, T, N) := Option.some.inj (h9.symm.trans hc)
  subst hr
  obtain ⟨hS, hfc, kC, hkC, hkind⟩ := hK.1 ci _ hc
  obtain ⟨cf, kf, fi, f, hi, hsl⟩ := hS k hk
  have hlay := S.2.2.2.2 _ (hin _ (u_in_lay hk))
  unfold u_lay at hlay
  rw [if_pos hfin] at hlay
  have hst := (u_facts hfc hkC (u_lays S.2.2.2.2 hin hk) hi).1
  have hcf : m.cls = cf := by
    obtain ⟨_, _, c', _, _, _, -, -, hf', -, -, -, hown2, -⟩ := Cond.laysFinal_spec hlay
    have e1 : c' = cf := by have := hi.symm.trans hf'; simp at this; exact this.1.symm
    rw [hdecl] at hown2
    rw [← e1]; exact Option.some.inj (S.2.2.2.1.symm.trans hown2)
  have h6 := u_fits hfc hkC hkind (Or.inr hlay) hi hd hn hfit
  refine bW_putFinK S.1 S.2.1 S.2.2.2.1 hlink (hsame _ hi) hst hcf hin2 (by rw [q2]; exact h6) q1 q3.1 (by rw [hsl]; exact k2_hasslot (q4 k hk)) rfl rfl hdg fun H' e1 e2 e3 => ?_
  rw [hsl] at e1 ⊢
  exact kk H' _ (hB.set he ⟨_, hc, _, e1, q2, q3, fun j hj => (t_set q4 hap hk v j hj).trans (congrArg some (vp_updV_set hl v j))⟩ e2 e3)
theorem bArr {t : Nat} {x : vp_A} {y : ClassId × FieldType} (hB : BI G A H0 h nx H locs) (ht : (hTy G)[t]? = some y) (he : h a = some (.inl (t, x))) : ∃ c : Cell, H[a]? = some c ∧ cLo c (vp_cell y.1 x) ∧ hFit y.2 x := by
  obtain ⟨y2, h2, ⟨c, h3, h5⟩, h4⟩ := hB.1 a _ he
  cases ht.symm.trans h2
  exact ⟨c, h3, h5, h4⟩
theorem aI_s {t : Nat} {i x : Int32} (q : aI h a t i = some x) : ∃ (n : Nat) (f : Nat → Int32), h a = some (.inl (t, n, .inl f)) ∧ vp_in i n ∧ f i.toNatClampNeg = x := by
  obtain ⟨y, h2, h3⟩ := ob_s q
  obtain ⟨h4, h5⟩ := gd_t h3
  exact ⟨y.1, y.2, arI_s h2, inR_vp h4, Option.some.inj h5⟩
theorem aR_s {t : Nat} {i : Int32} {x : Nat} (q : aR h a t i = some x) : ∃ (n : Nat) (f : Nat → Option Nat), h a = some (.inl (t, n, .inr (.inr (.inr (.inr f))))) ∧ vp_in i n ∧ f i.toNatClampNeg = some x := by
  obtain ⟨y, h2, h3⟩ := ob_s q
  obtain ⟨h4, h5⟩ := gd_t h3
  exact ⟨y.1, y.2, arR_s h2, inR_vp h4, h5⟩
theorem sI_s {t : Nat} {i x : Int32} (q : sI h a t i x = some h1) : ∃ (n : Nat) (f : Nat → Int32), h a = some (.inl (t, n, .inl f)) ∧ vp_in i n ∧ h1 = hu h a (.inl (t, n, .inl (upd f i.toNatClampNeg x))) := by
  obtain ⟨y, h2, h3⟩ := ob_s q
  obtain ⟨h4, h5⟩ := gd_t h3
  exact ⟨y.1, y.2, arI_s h2, inR_vp h4, (Option.some.inj h5).symm⟩
theorem sJ_s {t : Nat} {i : Int32} {x : Int64} (q : sJ h a t i x = some h1) : ∃ (n : Nat) (f : Nat → Int64), h a = some (.inl (t, n, .inr (.inl f))) ∧ vp_in i n ∧ h1 = hu h a (.inl (t, n, .inr (.inl (vp_updL f i.toNatClampNeg x)))) := by
  obtain ⟨y, h2, h3⟩ := ob_s q
  obtain ⟨h4, h5⟩ := gd_t h3
  exact ⟨y.1, y.2, arJ_s h2, inR_vp h4, (Option.some.inj h5).symm⟩
theorem sR_s {t : Nat} {i : Int32} {x : Option Nat} (q : sR h a t i x = some h1) : ∃ (n : Nat) (f : Nat → Option Nat), h a = some (.inl (t, n, .inr (.inr (.inr (.inr f))))) ∧ vp_in i n ∧ h1 = hu h a (.inl (t, n, .inr (.inr (.inr (.inr (va_up f i.toNatClampNeg x)))))) := by
  obtain ⟨y, h2, h3⟩ := ob_s q
  obtain ⟨h4, h5⟩ := gd_t h3
  exact ⟨y.1, y.2, arR_s h2, inR_vp h4, (Option.some.inj h5).symm⟩
theorem b_iald (S : CallFix p m c cc nL s args lw_all own) (hK : va_K G.1 hCl (hTy G) s) (hB : BI G A H0 h nx H locs) {i x : Int32} (hv : aI h a 0 i = some x) (hdg : decode cc pc = .ok (.iaload, 1)) (kk : W p l e R s m args below meth c H locs cells slots Q (F0 m (pc + 1) ls (.int x :: rest))) : W p l e R s m args below meth c H locs cells slots Q (F0 m pc ls (.int i :: .ref a :: rest)) := by
  obtain ⟨n, f, he, hi, rfl⟩ := aI_s hv
  have hlt : i.toNatClampNeg < n := Nat.not_le.mp fun q => hi (Or.inr q)
  obtain ⟨c1, hc1, hl, -⟩ := bArr hB rfl he
  exact W.iald (v := .int (f i.toNatClampNeg)) S.1 S.2.1 hc1 (hl.arr ((hK.2 0 _ rfl).1 n (fun j => .int (f j)))) hl.2.2.1 (by rw [hl.2.1]; show ¬ (i < 0 ∨ (arrV _ _ _).slots.size ≤ _); rw [arrV_size]; exact hi) (by rw [hl.2.1]; show (arrV _ _ _).slots[_]? = _; rw [arrV_read _ _ hlt]) rfl rfl hdg kk
theorem b_bald (S : CallFix p m c cc nL s args lw_all own) (hK : va_K G.1 hCl (hTy G) s) (hB : BI G A H0 h nx H locs) {i x : Int32} (hv : aI h a 2 i = some x) (hdg : decode cc pc = .ok (.baload, 1)) (kk : W p l e R s m args below meth c H locs cells slots Q (F0 m (pc + 1) ls (.int x :: rest))) : W p l e R s m args below meth c H locs cells slots Q (F0 m pc ls (.int i :: .ref a :: rest)) := by
  obtain ⟨n, f, he, hi, rfl⟩ := aI_s hv
  have hlt : i.toNatClampNeg < n := Nat.not_le.mp fun q => hi (Or.inr q)
  obtain ⟨c1, hc1, hl, -⟩ := bArr hB rfl he
  exact W.bald (v := .int (f i.toNatClampNeg)) S.1 S.2.1 hc1 (hl.arr ((hK.2 2 _ rfl).1 n (fun j => .int (f j)))) hl.2.2.1 (by rw [hl.2.1]; show ¬ (i < 0 ∨ (arrV _ _ _).slots.size ≤ _); rw [arrV_size]; exact hi) (by rw [hl.2.1]; show (arrV _ _ _).slots[_]? = _; rw [arrV_read _ _ hlt]) rfl rfl hdg kk
theorem b_zald (S : CallFix p m c cc nL s args lw_all own) (hK : va_K G.1 hCl (hTy G) s) (hB : BI G A H0 h nx H locs) {i x : Int32} (hv : aI h a 3 i = some x) (hdg : decode cc pc = .ok (.baload, 1)) (kk : W p l e R s m args below meth c H locs cells slots Q (F0 m (pc + 1) ls (.int x :: rest))) : W p l e R s m args below meth c H locs cells slots Q (F0 m pc ls (.int i :: .ref a :: rest)) := by
  obtain ⟨n, f, he, hi, rfl⟩ := aI_s hv
  have hlt : i.toNatClampNeg < n := Nat.not_le.mp fun q => hi (Or.inr q)
  obtain ⟨c1, hc1, hl, -⟩ := bArr hB rfl he
  exact W.zald (v := .int (f i.toNatClampNeg)) S.1 S.2.1 hc1 (hl.arr ((hK.2 3 _ rfl).1 n (fun j => .int (f j)))) hl.2.2.1 (by rw [hl.2.1]; show ¬ (i < 0 ∨ (arrV _ _ _).slots.size ≤ _); rw [arrV_size]; exact hi) (by rw [hl.2.1]; show (arrV _ _ _).slots[_]? = _; rw [arrV_read _ _ hlt]) rfl rfl hdg kk
theorem b_aald (S : CallFix p m c cc nL s args lw_all own) (hK : va_K G.1 hCl (hTy G) s) (hB : BI G A H0 h nx H locs) (t : Nat) {y : ClassId × FieldType} (ht : (hTy G)[t]? = some y) (href : y.2.isReference = true) {i : Int32} {x : Nat} (hv : aR h a t i = some x) (hdg : decode cc pc = .ok (.aaload, 1)) (kk : W p l e R s m args below meth c H locs cells slots Q (F0 m (pc + 1) ls (.ref x :: rest))) : W p l e R s m args below meth c H locs cells slots Q (F0 m pc ls (.int i :: .ref a :: rest)) := by
  obtain ⟨n, f, he, hi, hx⟩ := aR_s hv
  have hlt : i.toNatClampNeg < n := Nat.not_le.mp fun q => hi (Or.inr q)
  obtain ⟨c1, hc1, hl, -⟩ := bArr hB ht he
  exact W.aald (v := .ref x) S.1 S.2.1 hc1 (hl.arr ((hK.2 t _ ht).1 n (fun j => va_rf (f j)))) href hl.2.2.1 (by rw [hl.2.1]; show ¬ (i < 0 ∨ (arrV _ _ _).slots.size ≤ _); rw [arrV_size]; exact hi) (by rw [hl.2.1]; show (arrV _ _ _).slots[_]? = _; rw [arrV_read _ _ hlt, hx]; rfl) rfl rfl hdg kk
theorem b_iast (S : CallFix p m c cc nL s args lw_all own) (hK : va_K G.1 hCl (hTy G) s) (hB : BI G A H0 h nx H locs) {i x : Int32} (hw : sI h a 0 i x = some h1) (hdg : decode cc pc = .ok (.iastore, 1)) (kk : ∀ (H1 : Heap) (locs1 : List Loc), BI G A H0 h1 nx H1 locs1 → W p l e R s m args below meth c H1 locs1 cells slots Q (F0 m (pc + 1) ls (rest))) : W p l e R s m args below meth c H locs cells slots Q (F0 m pc ls (.int x :: .int i :: .ref a :: rest)) := by
  obtain ⟨n, f, he, hi, rfl⟩ := sI_s hw
  obtain ⟨c1, hc1, hl, hft⟩ := bArr hB rfl he
  refine W.iast S.1 S.2.1 hc1 (hl.arr ((hK.2 0 _ rfl).1 n (fun j => .int (f j)))) hl.2.2.1 (by rw [hl.2.1]; show ¬ (i < 0 ∨ (arrV _ _ _).slots.size ≤ _); rw [arrV_size]; exact hi) rfl rfl hdg fun H1 e z oq => ?_
  refine kk H1 _ (hB.set he ⟨_, rfl, ⟨_, e, (cLo.set hl _ _).trans ?_⟩, fun j => rfl⟩ z oq)
  rw [vp_cell_i, vp_cell_i, arrV_store]
  congr 1
  funext q
  by_cases hq : q = i.toNatClampNeg
  · subst hq
    simp [updV, upd, vp_nar]
    try rfl
  · simp [updV, upd, hq]
theorem vp_fit_byte (x : Int32) : fits .byte (.int (vp_nar .byte x)) = true := by rw [vp_nar_byte]; exact pk_fb x
theorem b_bast (S : CallFix p m c cc nL s args lw_all own) (hK : va_K G.1 hCl (hTy G) s) (hB : BI G A H0 h nx H locs) {i x : Int32} (hw : sI h a 2 i (vp_nar .byte x) = some h1) (hdg : decode cc pc = .ok (.bastore, 1)) (kk : ∀ (H1 : Heap) (locs1 : List Loc), BI G A H0 h1 nx H1 locs1 → W p l e R s m args below meth c H1 locs1 cells slots Q (F0 m (pc + 1) ls (rest))) : W p l e R s m args below meth c H locs cells slots Q (F0 m pc ls (.int x :: .int i :: .ref a :: rest)) := by
  obtain ⟨n, f, he, hi, rfl⟩ := sI_s hw
  obtain ⟨c1, hc1, hl, hft⟩ := bArr hB rfl he
  refine W.bast S.1 S.2.1 hc1 (hl.arr ((hK.2 2 _ rfl).1 n (fun j => .int (f j)))) hl.2.2.1 (by rw [hl.2.1]; show ¬ (i < 0 ∨ (arrV _ _ _).slots.size ≤ _); rw [arrV_size]; exact hi) rfl rfl hdg fun H1 e z oq => ?_
  refine kk H1 _ (hB.set he ⟨_, rfl, ⟨_, e, (cLo.set hl _ _).trans ?_⟩, fun j => by
    by_cases hj : j = i.toNatClampNeg
    · subst hj; simp only [upd, if_pos]; exact vp_fit_byte x
    · simp only [upd, if_neg hj]; exact hft j⟩ z oq)
  rw [vp_cell_i, vp_cell_i, arrV_store]
  congr 1
  funext q
  by_cases hq : q = i.toNatClampNeg
  · subst hq
    simp [updV, upd, vp_nar]
    try rfl
  · simp [updV, upd, hq]
theorem vp_fit_boolean (x : Int32) : fits .boolean (.int (vp_nar .boolean x)) = true := by
  show ((x &&& 1) == 0 || (x &&& 1) == 1) = true
  rw [pk_and x (m := 1) 1 (by decide)]
  rcases Nat.mod_two_eq_zero_or_one x.toBitVec.toNat with h | h
  · rw [show x.toBitVec.toNat % 2 ^ 1 = 0 from h]; decide +kernel
  · rw [show x.toBitVec.toNat % 2 ^ 1 = 1 from h]; decide +kernel
theorem b_zast (S : CallFix p m c cc nL s args lw_all own) (hK : va_K G.1 hCl (hTy G) s) (hB : BI G A H0 h nx H locs) {i x : Int32} (hw : sI h a 3 i (vp_nar .boolean x) = some h1) (hdg : decode cc pc = .ok (.bastore, 1)) (kk : ∀ (H1 : Heap) (locs1 : List Loc), BI G A H0 h1 nx H1 locs1 → W p l e R s m args below meth c H1 locs1 cells slots Q (F0 m (pc + 1) ls (rest))) : W p l e R s m args below meth c H locs cells slots Q (F0 m pc ls (.int x :: .int i :: .ref a :: rest)) := by
  obtain ⟨n, f, he, hi, rfl⟩ := sI_s hw
  obtain ⟨c1, hc1, hl, hft⟩ := bArr hB rfl he
  refine W.zast S.1 S.2.1 hc1 (hl.arr ((hK.2 3 _ rfl).1 n (fun j => .int (f j)))) hl.2.2.1 (by rw [hl.2.1]; show ¬ (i < 0 ∨ (arrV _ _ _).slots.size ≤ _); rw [arrV_size]; exact hi) rfl rfl hdg fun H1 e z oq => ?_
  refine kk H1 _ (hB.set he ⟨_, rfl, ⟨_, e, (cLo.set hl _ _).trans ?_⟩, fun j => by
    by_cases hj : j = i.toNatClampNeg
    · subst hj; simp only [upd, if_pos]; exact vp_fit_boolean x
    · simp only [upd, if_neg hj]; exact hft j⟩ z oq)
  rw [vp_cell_i, vp_cell_i, arrV_store]
  congr 1
  funext q
  by_cases hq : q = i.toNatClampNeg
  · subst hq
    simp [updV, upd, vp_nar]
    try rfl
  · simp [updV, upd, hq]
theorem b_last (S : CallFix p m c cc nL s args lw_all own) (hK : va_K G.1 hCl (hTy G) s) (hB : BI G A H0 h nx H locs) {i : Int32} {x : Int64} (hw : sJ h a 1 i x = some h1) (hdg : decode cc pc = .ok (.lastore, 1)) (kk : ∀ (H1 : Heap) (locs1 : List Loc), BI G A H0 h1 nx H1 locs1 → W p l e R s m args below meth c H1 locs1 cells slots Q (F0 m (pc + 1) ls (rest))) : W p l e R s m args below meth c H locs cells slots Q (F0 m pc ls (.long x :: .int i :: .ref a :: rest)) := by
  obtain ⟨n, f, he, hi, rfl⟩ := sJ_s hw
  obtain ⟨c1, hc1, hl, hft⟩ := bArr hB rfl he
  refine W.last S.1 S.2.1 hc1 (hl.arr ((hK.2 1 _ rfl).1 n (fun j => .long (f j)))) hl.2.2.1 (by rw [hl.2.1]; show ¬ (i < 0 ∨ (arrV _ _ _).slots.size ≤ _); rw [arrV_size]; exact hi) rfl rfl hdg fun H1 e z oq => ?_
  refine kk H1 _ (hB.set he ⟨_, rfl, ⟨_, e, (cLo.set hl _ _).trans ?_⟩, trivial⟩ z oq)
  rw [vp_cell_l, vp_cell_l, arrV_store]
  congr 1
  funext q
  by_cases hq : q = i.toNatClampNeg
  · subst hq
    simp [updV, vp_updL]
    try rfl
  · simp [updV, vp_updL, hq]
theorem b_alen (S : CallFix p m c cc nL s args lw_all own) (hK : va_K G.1 hCl (hTy G) s) (hB : BI G A H0 h nx H locs) {v : Int32} (hv : aL h a = some v) (hdg : decode cc pc = .ok (.arraylength, 1)) (kk : W p l e R s m args below meth c H locs cells slots Q (F0 m (pc + 1) ls (.int v :: rest))) : W p l e R s m args below meth c H locs cells slots Q (F0 m pc ls (.ref a :: rest)) := by
  obtain ⟨t, x, he, hx⟩ := aL_s hv
  obtain ⟨y, h2, ⟨c1, h3, hl⟩, h4⟩ := hB.1 a _ he
  subst hx
  have har : s.isArrayOf (vp_cell y.1 x) y.2 := by
    obtain ⟨n, f | f | f | f | f⟩ := x
    · exact (hK.2 t _ h2).1 n (fun j => .int (f j))
    · exact (hK.2 t _ h2).1 n (fun j => .long (f j))
    · exact (hK.2 t _ h2).1 n (fun j => .float (f j))
    · exact (hK.2 t _ h2).1 n (fun j => .double (f j))
    · exact (hK.2 t _ h2).1 n (fun j => va_rf (f j))
  have hsz : (vp_cell y.1 x).slots.size = x.1 := by
    obtain ⟨n, f | f | f | f | f⟩ := x <;> exact arrV_size _ _ _
  exact W.alen (n := Int32.ofNat x.1) S.1 S.2.1 h3 (hl.arr har) (by rw [hl.2.1, hsz] <;> rfl) rfl rfl hdg kk
end BR
