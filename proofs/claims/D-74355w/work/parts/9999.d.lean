/-! the reference's constructor: printed by wip/gen/geninit3.py -/
/-- a world of exact cells, its heap's size known -/
def MI (G : hG) (A : Nat → Prop) (H0 : Heap) (nx : Nat) (ws : va_W) (H : Heap) (locs : List Loc) : Prop := va_P G.1 hCl ws H ∧ H.size = nx ∧ va_S A H0 H locs ∧ (∀ q : Nat, H0.size ≤ q → A q) ∧ ∀ (i j : Nat) (p q : Nat × va_E), ws[i]? = some p → ws[j]? = some q → p.1 = q.1 → i = j
section MIS
variable {p : Program} {l : Launch} {e : Env} {R : Room} {s : State} {m : MethodId} {args : Array Value} {below : List Frame} {meth : Method} {c : Code} {H H0 : Heap} {locs : List Loc} {cells slots : Nat} {Q : State → Prop} {cc : ByteArray} {nL pc : Nat} {ls : Array Slot} {rest : List Value} {G : hG} {A : Nat → Prop} {nx : Nat} {own ref C : String} {T : u_T} {N ci index k : Nat} {ws wr : va_W}
theorem MI.lt (hM : MI G A H0 nx ws H locs) {i : Nat} {q : Nat × va_E} (h : ws[i]? = some q) : q.1 < nx := by have := (hM.1 i q h).lt; rw [hM.2.1] at this; exact this
theorem mi_new (S : CallFix p m c cc nL s args lw_all own) (hK : va_K G.1 hCl (hTy G) s) (hM : MI G A H0 nx ws H locs) {atype : ArrayType} (t : Nat) {cA : ClassId} {ty : FieldType} (hty : newarray.typeOf atype = ty) (ht : (hTy G)[t]? = some (cA, ty)) (hra : va_RA s cA ty → s.vm.findClass ("[" ++ ty.toString) = some cA) (harr : (Cond.arrayClass ty).before args s = true) {n : Int32} {w : Nat} (hw : n.toNatClampNeg = w) {a0 : (Nat → Int32) ⊕ (Nat → Int64) ⊕ (Nat → UInt32) ⊕ (Nat → UInt64) ⊕ (Nat → Option Nat)} (ha : ∀ cA : ClassId, vp_cell cA (w, a0) = arrV cA w (fun _ => defaultValue ty)) (hby : componentBytes ty ≤ 8) (hn : nA n = true) (hcells : cells + 1 ≤ R.cells) (hslots : slots + w ≤ R.slots) (hdg : decode cc pc = .ok (.newarray atype, 2)) (kk : ∀ H1 : Heap, MI G A H0 (nx + 1) (ws ++ [(nx, .inl (cA, w, a0))]) H1 locs → W p l e R s m args below meth c H1 locs (cells + 1) (slots + w) Q (F0 m (pc + 2) ls (.ref nx :: rest))) : W p l e R s m args below meth c H locs cells slots Q (F0 m pc ls (.int n :: rest)) := by
  subst hty
  subst hw
  obtain ⟨hn0, hn1⟩ := nA_s hn
  refine va_newaK S.1 S.2.1 harr rfl hdg rfl hn0 rfl (by have := Nat.mul_le_mul hn1 hby; omega) hcells hslots hM.2.1 fun H1 cA1 e1 z1 o1 hAr hNm => ?_
  cases (hra (hK.2 t _ ht).2).symm.trans hNm
  refine kk H1 ⟨fun i q hq => ?_, z1, ⟨by rw [z1, ← hM.2.1]; exact Nat.le_succ_of_le hM.2.2.1.1, fun q g1 g2 => ?_, hM.2.2.1.2.2⟩, hM.2.2.2.1, fun i j p q hp hq hpq => ?_⟩
  · rw [List.getElem?_append] at hq
    split at hq
    · exact (hM.1 i q hq).kept (o1 q.1 (hM.lt hq))
    · cases hi : i - ws.length with
      | zero =>
        rw [hi] at hq
        cases hq
        show H1[nx]? = _
        rw [ha]
        exact e1
      | succ z => rw [hi] at hq; cases hq
  · rw [o1 q (by rw [← hM.2.1]; exact Nat.lt_of_lt_of_le g1 hM.2.2.1.1)]
    exact hM.2.2.1.2.1 q g1 g2
  · have key : ∀ (i : Nat) (q : Nat × va_E), (ws ++ [(nx, Sum.inl (cA, n.toNatClampNeg, a0))])[i]? = some q → (ws[i]? = some q ∧ q.1 < nx) ∨ (i = ws.length ∧ q.1 = nx) := by
      intro i q hq
      rw [List.getElem?_append] at hq
      split at hq
      · exact Or.inl ⟨hq, hM.lt hq⟩
      · right
        cases hi : i - ws.length with
        | zero => rw [hi] at hq; cases hq; exact ⟨by omega, rfl⟩
        | succ z => rw [hi] at hq; cases hq
    rcases key i p hp with ⟨h1, h2⟩ | ⟨h1, h2⟩
    · rcases key j q hq with ⟨h3, h4⟩ | ⟨h3, h4⟩
      · exact hM.2.2.2.2 i j p q h1 h3 hpq
      · exfalso; rw [hpq, h4] at h2; exact Nat.lt_irrefl _ h2
    · rcases key j q hq with ⟨h3, h4⟩ | ⟨h3, h4⟩
      · exfalso; rw [← hpq, h2] at h4; exact Nat.lt_irrefl _ h4
      · rw [h1, h3]
theorem MI.set {a : Nat} {fs : List Value} (hM : MI G A H0 nx ((a, .inr (ci, fs)) :: wr) H locs) {fs2 : List Value} {H1 : Heap} {i : Nat} (hA : A a) (h1 : va_at G.1 hCl (a, .inr (ci, fs2)) H1) (hz : H1.size = H.size) (oq : ∀ q : Nat, q ≠ a → H1[q]? = H[q]?) : MI G A H0 nx ((a, .inr (ci, fs2)) :: wr) H1 (locs ++ [⟨a, i⟩]) := by
  refine ⟨fun j q hq => ?_, by rw [hz]; exact hM.2.1, hM.2.2.1.put hz oq hA, hM.2.2.2.1, fun i j p q hp hq hpq => ?_⟩
  · cases j with
    | zero => cases hq; exact h1
    | succ j =>
      have hq2 : ((a, Sum.inr (ci, fs)) :: wr : va_W)[j + 1]? = some q := hq
      refine (hM.1 (j + 1) q hq2).kept (oq q.1 (fun e => ?_))
      have := hM.2.2.2.2 (j + 1) 0 q (a, .inr (ci, fs)) hq2 rfl e
      omega
  · have key : ∀ (i : Nat) (q : Nat × va_E), ((a, Sum.inr (ci, fs2)) :: wr : va_W)[i]? = some q → ∃ q2 : Nat × va_E, ((a, Sum.inr (ci, fs)) :: wr : va_W)[i]? = some q2 ∧ q2.1 = q.1 := by
      intro i q hq
      cases i with
      | zero => cases hq; exact ⟨_, rfl, rfl⟩
      | succ i => exact ⟨q, hq, rfl⟩
    obtain ⟨p2, h1, h2⟩ := key i p hp
    obtain ⟨q2, h3, h4⟩ := key j q hq
    exact hM.2.2.2.2 i j p2 q2 h1 h3 (by rw [h2, h4]; exact hpq)
theorem mi_put (S : CallFix p m c cc nL s args lw_all own) (hK : va_K G.1 hCl (hTy G) s) {a : Nat} {fs : List Value} (hM : MI G A H0 nx ((a, .inr (ci, fs)) :: wr) H locs) (hA : A a) (hin : ∀ w ∈ u_ws C T N, w ∈ lw_all) (hc : hCl[ci]? = some (C, T, N)) (k : Nat) (hk : k < N) (hkl : k < fs.length) (ty0 : Nat → FieldType) (hty : ∀ k, k < N → parseFieldDescriptor (T k).2.2.1 = some (ty0 k)) (hnm : ∀ a, a < N → ∀ b, b < N → a ≠ b → (T a).2.1 ≠ (T b).2.1) (hlink : (Cond.fieldLink own index ref (T k).2.1 (T k).2.2.1).before args s = true) (hsame : ∀ x, s.fieldFound? (T k).1 (T k).2.1 (T k).2.2.1 = some x → s.fieldFound? ref (T k).2.1 (T k).2.2.1 = some x) (hfin : (T k).2.2.2 = false) {ty : FieldType} {v : Value} (hd : parseFieldDescriptor (T k).2.2.1 = some ty) (hn : narrow ty v = v) (hfit : fits ty v = true) (hdg : decode cc pc = .ok (.putfield index, 3)) (kk : ∀ (H1 : Heap) (locs1 : List Loc), MI G A H0 nx ((a, .inr (ci, fs.set k v)) :: wr) H1 locs1 → W p l e R s m args below meth c H1 locs1 cells slots Q (F0 m (pc + 3) ls rest)) : W p l e R s m args below meth c H locs cells slots Q (F0 m pc ls (v :: .ref a :: rest)) := by
  have hap := va_apart (own := own) S.2.2.2.2 hin ty0 hty hnm hK hc
  obtain ⟨r, h9, cell, q1, q2, q3, q4⟩ := hM.1 0 _ rfl
  have hr : r = (C, T, N) := Option.some.inj (h9.symm.trans hc)
  subst hr
  obtain ⟨hS, hfc, kC, hkC, hkind⟩ := hK.1 ci _ hc
  obtain ⟨cf, kf, fi, f, hi, hsl⟩ := hS k hk
  have hlay := S.2.2.2.2 _ (hin _ (u_in_lay hk))
  unfold u_lay at hlay
  rw [if_neg (by rw [hfin]; decide)] at hlay
  have hst := (u_facts hfc hkC (u_lays S.2.2.2.2 hin hk) hi).1
  have h6 := u_store hfc hkC hkind hlay hi hd hn hfit
  refine W.putK S.1 S.2.1 (f := f) ⟨S.2.2.2.1, hlink, ⟨_, _, _, hsame _ hi⟩, hst⟩ (by rw [q2]; exact h6) q1 q3 (by rw [hsl]; exact k2_hasslot (q4 k hk)) rfl rfl hdg fun H' e1 e2 e3 => ?_
  rw [hsl] at e1 ⊢
  exact kk H' _ (hM.set hA ⟨_, hc, t_OB.to (V := updV (vp_V fs) k v) ⟨_, e1, q2, q3, t_set q4 hap hk v⟩ (fun j _ => vp_updV_set hkl v j)⟩ e2 e3)
theorem mi_putF (S : CallFix p m c cc nL s args lw_all own) (hK : va_K G.1 hCl (hTy G) s) {a : Nat} {fs : List Value} (hM : MI G A H0 nx ((a, .inr (ci, fs)) :: wr) H locs) (hA : A a) (hin : ∀ w ∈ u_ws C T N, w ∈ lw_all) (hc : hCl[ci]? = some (C, T, N)) (k : Nat) (hk : k < N) (hkl : k < fs.length) (ty0 : Nat → FieldType) (hty : ∀ k, k < N → parseFieldDescriptor (T k).2.2.1 = some (ty0 k)) (hnm : ∀ a, a < N → ∀ b, b < N → a ≠ b → (T a).2.1 ≠ (T b).2.1) (hlink : (Cond.fieldLink own index ref (T k).2.1 (T k).2.2.1).before args s = true) (hsame : ∀ x, s.fieldFound? (T k).1 (T k).2.1 (T k).2.2.1 = some x → s.fieldFound? ref (T k).2.1 (T k).2.2.1 = some x) (hfin : (T k).2.2.2 = true) (hin2 : meth.name = "<init>") (hdecl : (T k).1 = own) {ty : FieldType} {v : Value} (hd : parseFieldDescriptor (T k).2.2.1 = some ty) (hn : narrow ty v = v) (hfit : fits ty v = true) (hdg : decode cc pc = .ok (.putfield index, 3)) (kk : ∀ (H1 : Heap) (locs1 : List Loc), MI G A H0 nx ((a, .inr (ci, fs.set k v)) :: wr) H1 locs1 → W p l e R s m args below meth c H1 locs1 cells slots Q (F0 m (pc + 3) ls rest)) : W p l e R s m args below meth c H locs cells slots Q (F0 m pc ls (v :: .ref a :: rest)) := by
  have hap := va_apart (own := own) S.2.2.2.2 hin ty0 hty hnm hK hc
  obtain ⟨r, h9, cell, q1, q2, q3, q4⟩ := hM.1 0 _ rfl
  have hr : r = (C, T, N) := Option.some.inj (h9.symm.trans hc)
  subst hr
  obtain ⟨hS, hfc, kC, hkC, hkind⟩ := hK.1 ci _ hc
  obtain ⟨cf, kf, fi, f, hi, hsl⟩ := hS k hk
  have hlay := S.2.2.2.2 _ (hin _ (u_in_lay hk))
  unfold u_lay at hlay
  rw [if_pos hfin] at hlay
  have hst := (u_facts hfc hkC (u_lays S.2.2.2.2 hin hk) hi).1
  have hcf : m.cls = cf := by
    obtain ⟨_, _, c', _, _, _, -, -, hf', -, -, -, hown2, -⟩ := Cond.laysFinal_spec hlay
    have e1 : c' = cf := by have := hi.symm.trans hf'; simp at this; exact this.1.symm
    rw [hdecl] at hown2
    rw [← e1]; exact Option.some.inj (S.2.2.2.1.symm.trans hown2)
  have h6 := u_fits hfc hkC hkind (Or.inr hlay) hi hd hn hfit
  refine W.putFinK S.1 S.2.1 S.2.2.2.1 hlink (hsame _ hi) hst hcf hin2 (by rw [q2]; exact h6) q1 q3 (by rw [hsl]; exact k2_hasslot (q4 k hk)) rfl rfl hdg fun H' e1 e2 e3 => ?_
  rw [hsl] at e1 ⊢
  exact kk H' _ (hM.set hA ⟨_, hc, t_OB.to (V := updV (vp_V fs) k v) ⟨_, e1, q2, q3, t_set q4 hap hk v⟩ (fun j _ => vp_updV_set hkl v j)⟩ e2 e3)
end MIS
/-- the reference's cells, in the order of their making -/
def adM (sz : Nat) : Nat → Nat := fun k => match k with
  | 1 => sz
  | 2 => sz + 1
  | 3 => sz + 2
  | 4 => sz + 3
  | 5 => sz + 4
  | 6 => sz + 5
  | 7 => sz + 6
  | 22 => sz + 7
  | 23 => sz + 8
  | 26 => sz + 9
  | 27 => sz + 10
  | 28 => sz + 11
  | 29 => sz + 12
  | _ => sz + 13

theorem tn_8 : (nI 8).toNatClampNeg = 8 := by decide +kernel
theorem na_8 : nA (nI 8) = true := by decide +kernel
theorem tn_18 : (nI 18).toNatClampNeg = 18 := by decide +kernel
theorem na_18 : nA (nI 18) = true := by decide +kernel
theorem tn_390 : (nI 390).toNatClampNeg = 390 := by decide +kernel
theorem na_390 : nA (nI 390) = true := by decide +kernel
theorem tn_900 : (nI 900).toNatClampNeg = 900 := by decide +kernel
theorem na_900 : nA (nI 900) = true := by decide +kernel
theorem tn_1800 : (nI 1800).toNatClampNeg = 1800 := by decide +kernel
theorem na_1800 : nA (nI 1800) = true := by decide +kernel
theorem tn_4680 : (nI 4680).toNatClampNeg = 4680 := by decide +kernel
theorem na_4680 : nA (nI 4680) = true := by decide +kernel
theorem tn_9216 : (nI 9216).toNatClampNeg = 9216 := by decide +kernel
theorem na_9216 : nA (nI 9216) = true := by decide +kernel
theorem kn_s4680 : (Int16.ofInt (4680)).toInt32 = (nI 4680) := by decide +kernel
theorem kn_s9216 : (Int16.ofInt (9216)).toInt32 = (nI 9216) := by decide +kernel
theorem kn_b18 : (Int8.ofInt (18)).toInt32 = (nI 18) := by decide +kernel
theorem kn_s1800 : (Int16.ofInt (1800)).toInt32 = (nI 1800) := by decide +kernel
theorem kn_s390 : (Int16.ofInt (390)).toInt32 = (nI 390) := by decide +kernel
theorem kn_s900 : (Int16.ofInt (900)).toInt32 = (nI 900) := by decide +kernel
theorem kn_b8 : (Int8.ofInt (8)).toInt32 = (nI 8) := by decide +kernel
abbrev z0 : Nat → Int32 := fun _ => 0
abbrev z1 : Nat → Int64 := fun _ => 0
theorem adM_D (sz o : Nat) (h : o < sz) : mD o (adM sz) := by
  have key : ∀ (i a : Nat), (mL o (adM sz))[i]? = some a → (i = 0 ∧ a = o) ∨ (1 ≤ i ∧ a = sz + (i - 1)) := by
    intro i a h
    rcases i with _ | _ | _ | _ | _ | _ | _ | _ | _ | _ | _ | _ | _ | _ | _ | i
    · cases h; exact Or.inl ⟨rfl, rfl⟩
    all_goals first | (cases h; exact Or.inr ⟨by omega, rfl⟩) | cases h
  intro i j a hi hj
  rcases key i a hi with ⟨h1, h2⟩ | ⟨h1, h2⟩ <;> rcases key j a hj with ⟨h3, h4⟩ | ⟨h3, h4⟩ <;> omega
def miA (o sz : Nat) : Nat → Prop := fun q => q = o ∨ sz ≤ q
theorem adM_A {sz o q : Nat} (h : mA o (adM sz) q) : miA o sz q := by
  simp only [mA, mL, List.mem_cons, List.not_mem_nil, or_false] at h
  rcases h with h | h | h | h | h | h | h | h | h | h | h | h | h | h | h
  · exact Or.inl h
  all_goals (right; rw [h]; simp only [adM]; omega)
theorem mW_sub (o : Nat) (ad : Nat → Nat) (mi : Nat) (cI cJ cB : ClassId) {th tp st fk fp ac si fr tt kd nu fa pl fo : Int32} {wd : Int64} {ci gr lm om : Int32} {nw rd aa kp ta : Nat → Int32} {nm rn : Nat → Int64} {gv gt rw rh lg lh ou : Nat → Int32} (k : Nat) (q : Nat × va_E) (h : (mW mi cI cJ cB o ad th tp st fk fp ac si fr tt kd nu fa pl fo wd ci gr lm om nw rd aa kp ta nm rn gv gt rw rh lg lh ou)[k]? = some q) : mA o ad q.1 := by
  have h2 : q.1 ∈ (mW mi cI cJ cB o ad th tp st fk fp ac si fr tt kd nu fa pl fo wd ci gr lm om nw rd aa kp ta nm rn gv gt rw rh lg lh ou).map (fun x => x.1) := List.mem_map.mpr ⟨q, List.mem_of_getElem? h, rfl⟩
  exact h2
/-- the end of the constructor -/
def iQ (G : hG) (sz o : Nat) (ws : va_W) : Array Value → State → Outcome → State → Prop := fun _ st oc t => oc = .returned none ∧ va_P G.1 hCl ws t.heap ∧ t.heap.size = sz + 14 ∧ va_F (miA o sz) st t
set_option maxHeartbeats 4000000 in
set_option maxRecDepth 100000 in
theorem mm_X3_init {l : Launch} {G : hG} {o sz : Nat} {nw : Nat → Int32} (hf : f_X3_plain_nw z0 = some nw) : Met l yX3_init (ws_ yX3_init cX3_init 3 none) (rC 2 60 14 17842) (va_Pc [.ref o] (fun U => va_P G.1 hCl [(o, .inr (2, df_X3))] U.heap ∧ U.heap.size = sz ∧ va_K G.1 hCl (hTy G) U)) (iQ G sz o (mW 2 (G.2.1 0) (G.2.1 1) (G.2.1 2) o (adM sz) 0 0 0 (-1) (-1) 0 0 0 0 0 0 0 0 0 0 0 0 0 0 nw z0 z0 z0 z0 z1 z1 z0 z0 z0 z0 z0 z0 z0)) 14 17842 (miA o sz) := by
  refine gOfW (cc := cX3_init) (maxL := 3) (ret := none) (by decide +kernel) rfl ?_
  intro p e s m args below meth c s₁ B hml hv
  obtain ⟨rfl, hP, hz, hK⟩ := hv
  have hts0 := atoms_spec (ws := ws_ yX3_init cX3_init 3 none) B.pre
  have hts : ∀ w ∈ lw_all, w.before _ s = true := fun w h => hts0 w (List.mem_cons_of_mem _ h)
  have hl := lv_entry [Value.ref o] (n := 3) (Nat.le_of_ble_eq_true rfl)
  rw [lg_entry_eq]
  have S : CallFix p m c cX3_init 3 s _ lw_all RX3 := ⟨B.exec, B.bytes, hml, findClass_of_methodNamed B.named, hts⟩
  have hlocks := B.notSynchronized
  have hr := B.returns
  have hin : meth.name = "<init>" := (name_of_methodNamed B.named B.method).1
  obtain ⟨hx, hb, hml, hown, hts⟩ := id S
  generalize (lg_sl ([Value.ref o]) ++ List.replicate (3 - (lg_sl ([Value.ref o])).length) Slot.unset).toArray = ls at hl ⊢
  have hl : lv_has ls 3 [(0, .ref o)] := hl
  have hoz : o < sz := by have := (hP 0 _ rfl).lt; rw [hz] at this; exact this
  have hA : miA o sz o := Or.inl rfl
  have hM : MI G (miA o sz) s.heap sz [(o, .inr (2, df_X3))] s.heap [] := ⟨hP, hz, va_S.rf, fun q hq => Or.inr (by rw [← hz]; exact hq), fun i j p q hp hq _ => by
    cases i with
    | zero => cases j with
      | zero => rfl
      | succ j => cases hq
    | succ i => cases hp⟩
  refine lv_aload_n hx hb dX3_init_0 rfl (lv_at hl 0 rfl) ?_
  refine W.objInit hx hb hown (hts _ q1992) (hts _ q212) (hts _ q213) rfl (by rw [hml]; exact hl.1) rfl dX3_init_1 (Nat.le_of_ble_eq_true rfl) (Nat.le_of_ble_eq_true rfl) ?_
  refine W.eq (g2 := F0 m 4 ls []) rfl ?_
  refine lv_aload_n hx hb dX3_init_4 rfl (lv_at hl 0 rfl) ?_
  refine lv_sipush hx hb dX3_init_5 kn_s390 ?_
  refine mi_new S hK hM 0 (ty := .int) rfl rfl (fun q => q) (hts _ q535) tn_390 (a0 := .inl fun _ => 0) (fun _ => rfl) (by decide) na_390 (by show _ ≤ 14; omega) (by show _ ≤ 17842; omega) dX3_init_8 (fun H hM => ?_)
  have hM : MI G (miA o sz) s.heap (sz + 1) [(o, .inr (2, [.int 0, .null, .null, .null, .null, .null, .null, .null, .int 0, .int 0, .int 0, .int 0, .int 0, .int 0, .int 0, .int 0, .int 0, .int 0, .int 0, .int 0, .int 0, .long 0, .null, .null, .int 0, .int 0, .null, .null, .null, .null, .int 0, .null, .int 0])), (sz + 0, .inl (G.2.1 0, 390, .inl fun _ => 0))] H _ := hM
  refine mi_putF S hK hM hA in_X3 rfl 1 (by decide) (by show _ < 33; decide) tyX3 tyX3_ok nmX3 (hts _ q1997) (fun _ h9 => h9) rfl hin rfl (ty := .array .int) (by decide +kernel) rfl rfl dX3_init_10 (fun H locs hM => ?_)
  have hM : MI G (miA o sz) s.heap (sz + 1) [(o, .inr (2, [.int 0, .ref sz, .null, .null, .null, .null, .null, .null, .int 0, .int 0, .int 0, .int 0, .int 0, .int 0, .int 0, .int 0, .int 0, .int 0, .int 0, .int 0, .int 0, .long 0, .null, .null, .int 0, .int 0, .null, .null, .null, .null, .int 0, .null, .int 0])), (sz + 0, .inl (G.2.1 0, 390, .inl fun _ => 0))] H locs := hM
  refine lv_aload_n hx hb dX3_init_13 rfl (lv_at hl 0 rfl) ?_
  refine lv_sipush hx hb dX3_init_14 kn_s390 ?_
  refine mi_new S hK hM 0 (ty := .int) rfl rfl (fun q => q) (hts _ q535) tn_390 (a0 := .inl fun _ => 0) (fun _ => rfl) (by decide) na_390 (by show _ ≤ 14; omega) (by show _ ≤ 17842; omega) dX3_init_17 (fun H hM => ?_)
  have hM : MI G (miA o sz) s.heap (sz + 2) [(o, .inr (2, [.int 0, .ref sz, .null, .null, .null, .null, .null, .null, .int 0, .int 0, .int 0, .int 0, .int 0, .int 0, .int 0, .int 0, .int 0, .int 0, .int 0, .int 0, .int 0, .long 0, .null, .null, .int 0, .int 0, .null, .null, .null, .null, .int 0, .null, .int 0])), (sz + 0, .inl (G.2.1 0, 390, .inl fun _ => 0)), (sz + 1, .inl (G.2.1 0, 390, .inl fun _ => 0))] H _ := hM
  refine mi_putF S hK hM hA in_X3 rfl 2 (by decide) (by show _ < 33; decide) tyX3 tyX3_ok nmX3 (hts _ q1998) (fun _ h9 => h9) rfl hin rfl (ty := .array .int) (by decide +kernel) rfl rfl dX3_init_19 (fun H locs hM => ?_)
  have hM : MI G (miA o sz) s.heap (sz + 2) [(o, .inr (2, [.int 0, .ref sz, .ref (sz + 1), .null, .null, .null, .null, .null, .int 0, .int 0, .int 0, .int 0, .int 0, .int 0, .int 0, .int 0, .int 0, .int 0, .int 0, .int 0, .int 0, .long 0, .null, .null, .int 0, .int 0, .null, .null, .null, .null, .int 0, .null, .int 0])), (sz + 0, .inl (G.2.1 0, 390, .inl fun _ => 0)), (sz + 1, .inl (G.2.1 0, 390, .inl fun _ => 0))] H locs := hM
  refine lv_aload_n hx hb dX3_init_22 rfl (lv_at hl 0 rfl) ?_
  refine lv_sipush hx hb dX3_init_23 kn_s390 ?_
  refine mi_new S hK hM 0 (ty := .int) rfl rfl (fun q => q) (hts _ q535) tn_390 (a0 := .inl fun _ => 0) (fun _ => rfl) (by decide) na_390 (by show _ ≤ 14; omega) (by show _ ≤ 17842; omega) dX3_init_26 (fun H hM => ?_)
  have hM : MI G (miA o sz) s.heap (sz + 3) [(o, .inr (2, [.int 0, .ref sz, .ref (sz + 1), .null, .null, .null, .null, .null, .int 0, .int 0, .int 0, .int 0, .int 0, .int 0, .int 0, .int 0, .int 0, .int 0, .int 0, .int 0, .int 0, .long 0, .null, .null, .int 0, .int 0, .null, .null, .null, .null, .int 0, .null, .int 0])), (sz + 0, .inl (G.2.1 0, 390, .inl fun _ => 0)), (sz + 1, .inl (G.2.1 0, 390, .inl fun _ => 0)), (sz + 2, .inl (G.2.1 0, 390, .inl fun _ => 0))] H _ := hM
  refine mi_putF S hK hM hA in_X3 rfl 3 (by decide) (by show _ < 33; decide) tyX3 tyX3_ok nmX3 (hts _ q1999) (fun _ h9 => h9) rfl hin rfl (ty := .array .int) (by decide +kernel) rfl rfl dX3_init_28 (fun H locs hM => ?_)
  have hM : MI G (miA o sz) s.heap (sz + 3) [(o, .inr (2, [.int 0, .ref sz, .ref (sz + 1), .ref (sz + 2), .null, .null, .null, .null, .int 0, .int 0, .int 0, .int 0, .int 0, .int 0, .int 0, .int 0, .int 0, .int 0, .int 0, .int 0, .int 0, .long 0, .null, .null, .int 0, .int 0, .null, .null, .null, .null, .int 0, .null, .int 0])), (sz + 0, .inl (G.2.1 0, 390, .inl fun _ => 0)), (sz + 1, .inl (G.2.1 0, 390, .inl fun _ => 0)), (sz + 2, .inl (G.2.1 0, 390, .inl fun _ => 0))] H locs := hM
  refine lv_aload_n hx hb dX3_init_31 rfl (lv_at hl 0 rfl) ?_
  refine lv_sipush hx hb dX3_init_32 kn_s4680 ?_
  refine mi_new S hK hM 0 (ty := .int) rfl rfl (fun q => q) (hts _ q535) tn_4680 (a0 := .inl fun _ => 0) (fun _ => rfl) (by decide) na_4680 (by show _ ≤ 14; omega) (by show _ ≤ 17842; omega) dX3_init_35 (fun H hM => ?_)
  have hM : MI G (miA o sz) s.heap (sz + 4) [(o, .inr (2, [.int 0, .ref sz, .ref (sz + 1), .ref (sz + 2), .null, .null, .null, .null, .int 0, .int 0, .int 0, .int 0, .int 0, .int 0, .int 0, .int 0, .int 0, .int 0, .int 0, .int 0, .int 0, .long 0, .null, .null, .int 0, .int 0, .null, .null, .null, .null, .int 0, .null, .int 0])), (sz + 0, .inl (G.2.1 0, 390, .inl fun _ => 0)), (sz + 1, .inl (G.2.1 0, 390, .inl fun _ => 0)), (sz + 2, .inl (G.2.1 0, 390, .inl fun _ => 0)), (sz + 3, .inl (G.2.1 0, 4680, .inl fun _ => 0))] H _ := hM
  refine mi_putF S hK hM hA in_X3 rfl 4 (by decide) (by show _ < 33; decide) tyX3 tyX3_ok nmX3 (hts _ q2000) (fun _ h9 => h9) rfl hin rfl (ty := .array .int) (by decide +kernel) rfl rfl dX3_init_37 (fun H locs hM => ?_)
  have hM : MI G (miA o sz) s.heap (sz + 4) [(o, .inr (2, [.int 0, .ref sz, .ref (sz + 1), .ref (sz + 2), .ref (sz + 3), .null, .null, .null, .int 0, .int 0, .int 0, .int 0, .int 0, .int 0, .int 0, .int 0, .int 0, .int 0, .int 0, .int 0, .int 0, .long 0, .null, .null, .int 0, .int 0, .null, .null, .null, .null, .int 0, .null, .int 0])), (sz + 0, .inl (G.2.1 0, 390, .inl fun _ => 0)), (sz + 1, .inl (G.2.1 0, 390, .inl fun _ => 0)), (sz + 2, .inl (G.2.1 0, 390, .inl fun _ => 0)), (sz + 3, .inl (G.2.1 0, 4680, .inl fun _ => 0))] H locs := hM
  refine lv_aload_n hx hb dX3_init_40 rfl (lv_at hl 0 rfl) ?_
  refine lv_sipush hx hb dX3_init_41 kn_s900 ?_
  refine mi_new S hK hM 0 (ty := .int) rfl rfl (fun q => q) (hts _ q535) tn_900 (a0 := .inl fun _ => 0) (fun _ => rfl) (by decide) na_900 (by show _ ≤ 14; omega) (by show _ ≤ 17842; omega) dX3_init_44 (fun H hM => ?_)
  have hM : MI G (miA o sz) s.heap (sz + 5) [(o, .inr (2, [.int 0, .ref sz, .ref (sz + 1), .ref (sz + 2), .ref (sz + 3), .null, .null, .null, .int 0, .int 0, .int 0, .int 0, .int 0, .int 0, .int 0, .int 0, .int 0, .int 0, .int 0, .int 0, .int 0, .long 0, .null, .null, .int 0, .int 0, .null, .null, .null, .null, .int 0, .null, .int 0])), (sz + 0, .inl (G.2.1 0, 390, .inl fun _ => 0)), (sz + 1, .inl (G.2.1 0, 390, .inl fun _ => 0)), (sz + 2, .inl (G.2.1 0, 390, .inl fun _ => 0)), (sz + 3, .inl (G.2.1 0, 4680, .inl fun _ => 0)), (sz + 4, .inl (G.2.1 0, 900, .inl fun _ => 0))] H _ := hM
  refine mi_putF S hK hM hA in_X3 rfl 5 (by decide) (by show _ < 33; decide) tyX3 tyX3_ok nmX3 (hts _ q2001) (fun _ h9 => h9) rfl hin rfl (ty := .array .int) (by decide +kernel) rfl rfl dX3_init_46 (fun H locs hM => ?_)
  have hM : MI G (miA o sz) s.heap (sz + 5) [(o, .inr (2, [.int 0, .ref sz, .ref (sz + 1), .ref (sz + 2), .ref (sz + 3), .ref (sz + 4), .null, .null, .int 0, .int 0, .int 0, .int 0, .int 0, .int 0, .int 0, .int 0, .int 0, .int 0, .int 0, .int 0, .int 0, .long 0, .null, .null, .int 0, .int 0, .null, .null, .null, .null, .int 0, .null, .int 0])), (sz + 0, .inl (G.2.1 0, 390, .inl fun _ => 0)), (sz + 1, .inl (G.2.1 0, 390, .inl fun _ => 0)), (sz + 2, .inl (G.2.1 0, 390, .inl fun _ => 0)), (sz + 3, .inl (G.2.1 0, 4680, .inl fun _ => 0)), (sz + 4, .inl (G.2.1 0, 900, .inl fun _ => 0))] H locs := hM
  refine lv_aload_n hx hb dX3_init_49 rfl (lv_at hl 0 rfl) ?_
  refine lv_bipush hx hb dX3_init_50 kn_b18 ?_
  refine mi_new S hK hM 1 (ty := .long) rfl rfl (fun q => q) (hts _ q2095) tn_18 (a0 := .inr (.inl fun _ => 0)) (fun _ => rfl) (by decide) na_18 (by show _ ≤ 14; omega) (by show _ ≤ 17842; omega) dX3_init_52 (fun H hM => ?_)
  have hM : MI G (miA o sz) s.heap (sz + 6) [(o, .inr (2, [.int 0, .ref sz, .ref (sz + 1), .ref (sz + 2), .ref (sz + 3), .ref (sz + 4), .null, .null, .int 0, .int 0, .int 0, .int 0, .int 0, .int 0, .int 0, .int 0, .int 0, .int 0, .int 0, .int 0, .int 0, .long 0, .null, .null, .int 0, .int 0, .null, .null, .null, .null, .int 0, .null, .int 0])), (sz + 0, .inl (G.2.1 0, 390, .inl fun _ => 0)), (sz + 1, .inl (G.2.1 0, 390, .inl fun _ => 0)), (sz + 2, .inl (G.2.1 0, 390, .inl fun _ => 0)), (sz + 3, .inl (G.2.1 0, 4680, .inl fun _ => 0)), (sz + 4, .inl (G.2.1 0, 900, .inl fun _ => 0)), (sz + 5, .inl (G.2.1 1, 18, .inr (.inl fun _ => 0)))] H _ := hM
  refine mi_putF S hK hM hA in_X3 rfl 6 (by decide) (by show _ < 33; decide) tyX3 tyX3_ok nmX3 (hts _ q2002) (fun _ h9 => h9) rfl hin rfl (ty := .array .long) (by decide +kernel) rfl rfl dX3_init_54 (fun H locs hM => ?_)
  have hM : MI G (miA o sz) s.heap (sz + 6) [(o, .inr (2, [.int 0, .ref sz, .ref (sz + 1), .ref (sz + 2), .ref (sz + 3), .ref (sz + 4), .ref (sz + 5), .null, .int 0, .int 0, .int 0, .int 0, .int 0, .int 0, .int 0, .int 0, .int 0, .int 0, .int 0, .int 0, .int 0, .long 0, .null, .null, .int 0, .int 0, .null, .null, .null, .null, .int 0, .null, .int 0])), (sz + 0, .inl (G.2.1 0, 390, .inl fun _ => 0)), (sz + 1, .inl (G.2.1 0, 390, .inl fun _ => 0)), (sz + 2, .inl (G.2.1 0, 390, .inl fun _ => 0)), (sz + 3, .inl (G.2.1 0, 4680, .inl fun _ => 0)), (sz + 4, .inl (G.2.1 0, 900, .inl fun _ => 0)), (sz + 5, .inl (G.2.1 1, 18, .inr (.inl fun _ => 0)))] H locs := hM
  refine lv_aload_n hx hb dX3_init_57 rfl (lv_at hl 0 rfl) ?_
  refine lv_bipush hx hb dX3_init_58 kn_b18 ?_
  refine mi_new S hK hM 1 (ty := .long) rfl rfl (fun q => q) (hts _ q2095) tn_18 (a0 := .inr (.inl fun _ => 0)) (fun _ => rfl) (by decide) na_18 (by show _ ≤ 14; omega) (by show _ ≤ 17842; omega) dX3_init_60 (fun H hM => ?_)
  have hM : MI G (miA o sz) s.heap (sz + 7) [(o, .inr (2, [.int 0, .ref sz, .ref (sz + 1), .ref (sz + 2), .ref (sz + 3), .ref (sz + 4), .ref (sz + 5), .null, .int 0, .int 0, .int 0, .int 0, .int 0, .int 0, .int 0, .int 0, .int 0, .int 0, .int 0, .int 0, .int 0, .long 0, .null, .null, .int 0, .int 0, .null, .null, .null, .null, .int 0, .null, .int 0])), (sz + 0, .inl (G.2.1 0, 390, .inl fun _ => 0)), (sz + 1, .inl (G.2.1 0, 390, .inl fun _ => 0)), (sz + 2, .inl (G.2.1 0, 390, .inl fun _ => 0)), (sz + 3, .inl (G.2.1 0, 4680, .inl fun _ => 0)), (sz + 4, .inl (G.2.1 0, 900, .inl fun _ => 0)), (sz + 5, .inl (G.2.1 1, 18, .inr (.inl fun _ => 0))), (sz + 6, .inl (G.2.1 1, 18, .inr (.inl fun _ => 0)))] H _ := hM
  refine mi_putF S hK hM hA in_X3 rfl 7 (by decide) (by show _ < 33; decide) tyX3 tyX3_ok nmX3 (hts _ q2003) (fun _ h9 => h9) rfl hin rfl (ty := .array .long) (by decide +kernel) rfl rfl dX3_init_62 (fun H locs hM => ?_)
  have hM : MI G (miA o sz) s.heap (sz + 7) [(o, .inr (2, [.int 0, .ref sz, .ref (sz + 1), .ref (sz + 2), .ref (sz + 3), .ref (sz + 4), .ref (sz + 5), .ref (sz + 6), .int 0, .int 0, .int 0, .int 0, .int 0, .int 0, .int 0, .int 0, .int 0, .int 0, .int 0, .int 0, .int 0, .long 0, .null, .null, .int 0, .int 0, .null, .null, .null, .null, .int 0, .null, .int 0])), (sz + 0, .inl (G.2.1 0, 390, .inl fun _ => 0)), (sz + 1, .inl (G.2.1 0, 390, .inl fun _ => 0)), (sz + 2, .inl (G.2.1 0, 390, .inl fun _ => 0)), (sz + 3, .inl (G.2.1 0, 4680, .inl fun _ => 0)), (sz + 4, .inl (G.2.1 0, 900, .inl fun _ => 0)), (sz + 5, .inl (G.2.1 1, 18, .inr (.inl fun _ => 0))), (sz + 6, .inl (G.2.1 1, 18, .inr (.inl fun _ => 0)))] H locs := hM
  refine lv_aload_n hx hb dX3_init_65 rfl (lv_at hl 0 rfl) ?_
  refine lv_iconst hx hb dX3_init_66 kc_im1 ?_
  refine mi_put S hK hM hA in_X3 rfl 10 (by decide) (by show _ < 33; decide) tyX3 tyX3_ok nmX3 (hts _ q2006) (fun _ h9 => h9) rfl (ty := .int) (by decide +kernel) rfl rfl dX3_init_67 (fun H locs hM => ?_)
  have hM : MI G (miA o sz) s.heap (sz + 7) [(o, .inr (2, [.int 0, .ref sz, .ref (sz + 1), .ref (sz + 2), .ref (sz + 3), .ref (sz + 4), .ref (sz + 5), .ref (sz + 6), .int 0, .int 0, .int (-1), .int 0, .int 0, .int 0, .int 0, .int 0, .int 0, .int 0, .int 0, .int 0, .int 0, .long 0, .null, .null, .int 0, .int 0, .null, .null, .null, .null, .int 0, .null, .int 0])), (sz + 0, .inl (G.2.1 0, 390, .inl fun _ => 0)), (sz + 1, .inl (G.2.1 0, 390, .inl fun _ => 0)), (sz + 2, .inl (G.2.1 0, 390, .inl fun _ => 0)), (sz + 3, .inl (G.2.1 0, 4680, .inl fun _ => 0)), (sz + 4, .inl (G.2.1 0, 900, .inl fun _ => 0)), (sz + 5, .inl (G.2.1 1, 18, .inr (.inl fun _ => 0))), (sz + 6, .inl (G.2.1 1, 18, .inr (.inl fun _ => 0)))] H locs := hM
  refine lv_aload_n hx hb dX3_init_70 rfl (lv_at hl 0 rfl) ?_
  refine lv_iconst hx hb dX3_init_71 kc_im1 ?_
  refine mi_put S hK hM hA in_X3 rfl 11 (by decide) (by show _ < 33; decide) tyX3 tyX3_ok nmX3 (hts _ q2007) (fun _ h9 => h9) rfl (ty := .int) (by decide +kernel) rfl rfl dX3_init_72 (fun H locs hM => ?_)
  have hM : MI G (miA o sz) s.heap (sz + 7) [(o, .inr (2, [.int 0, .ref sz, .ref (sz + 1), .ref (sz + 2), .ref (sz + 3), .ref (sz + 4), .ref (sz + 5), .ref (sz + 6), .int 0, .int 0, .int (-1), .int (-1), .int 0, .int 0, .int 0, .int 0, .int 0, .int 0, .int 0, .int 0, .int 0, .long 0, .null, .null, .int 0, .int 0, .null, .null, .null, .null, .int 0, .null, .int 0])), (sz + 0, .inl (G.2.1 0, 390, .inl fun _ => 0)), (sz + 1, .inl (G.2.1 0, 390, .inl fun _ => 0)), (sz + 2, .inl (G.2.1 0, 390, .inl fun _ => 0)), (sz + 3, .inl (G.2.1 0, 4680, .inl fun _ => 0)), (sz + 4, .inl (G.2.1 0, 900, .inl fun _ => 0)), (sz + 5, .inl (G.2.1 1, 18, .inr (.inl fun _ => 0))), (sz + 6, .inl (G.2.1 1, 18, .inr (.inl fun _ => 0)))] H locs := hM
  refine lv_aload_n hx hb dX3_init_75 rfl (lv_at hl 0 rfl) ?_
  refine lv_sipush hx hb dX3_init_76 kn_s9216 ?_
  refine mi_new S hK hM 0 (ty := .int) rfl rfl (fun q => q) (hts _ q535) tn_9216 (a0 := .inl fun _ => 0) (fun _ => rfl) (by decide) na_9216 (by show _ ≤ 14; omega) (by show _ ≤ 17842; omega) dX3_init_79 (fun H hM => ?_)
  have hM : MI G (miA o sz) s.heap (sz + 8) [(o, .inr (2, [.int 0, .ref sz, .ref (sz + 1), .ref (sz + 2), .ref (sz + 3), .ref (sz + 4), .ref (sz + 5), .ref (sz + 6), .int 0, .int 0, .int (-1), .int (-1), .int 0, .int 0, .int 0, .int 0, .int 0, .int 0, .int 0, .int 0, .int 0, .long 0, .null, .null, .int 0, .int 0, .null, .null, .null, .null, .int 0, .null, .int 0])), (sz + 0, .inl (G.2.1 0, 390, .inl fun _ => 0)), (sz + 1, .inl (G.2.1 0, 390, .inl fun _ => 0)), (sz + 2, .inl (G.2.1 0, 390, .inl fun _ => 0)), (sz + 3, .inl (G.2.1 0, 4680, .inl fun _ => 0)), (sz + 4, .inl (G.2.1 0, 900, .inl fun _ => 0)), (sz + 5, .inl (G.2.1 1, 18, .inr (.inl fun _ => 0))), (sz + 6, .inl (G.2.1 1, 18, .inr (.inl fun _ => 0))), (sz + 7, .inl (G.2.1 0, 9216, .inl fun _ => 0))] H _ := hM
  refine mi_putF S hK hM hA in_X3 rfl 22 (by decide) (by show _ < 33; decide) tyX3 tyX3_ok nmX3 (hts _ q2017) (fun _ h9 => h9) rfl hin rfl (ty := .array .int) (by decide +kernel) rfl rfl dX3_init_81 (fun H locs hM => ?_)
  have hM : MI G (miA o sz) s.heap (sz + 8) [(o, .inr (2, [.int 0, .ref sz, .ref (sz + 1), .ref (sz + 2), .ref (sz + 3), .ref (sz + 4), .ref (sz + 5), .ref (sz + 6), .int 0, .int 0, .int (-1), .int (-1), .int 0, .int 0, .int 0, .int 0, .int 0, .int 0, .int 0, .int 0, .int 0, .long 0, .ref (sz + 7), .null, .int 0, .int 0, .null, .null, .null, .null, .int 0, .null, .int 0])), (sz + 0, .inl (G.2.1 0, 390, .inl fun _ => 0)), (sz + 1, .inl (G.2.1 0, 390, .inl fun _ => 0)), (sz + 2, .inl (G.2.1 0, 390, .inl fun _ => 0)), (sz + 3, .inl (G.2.1 0, 4680, .inl fun _ => 0)), (sz + 4, .inl (G.2.1 0, 900, .inl fun _ => 0)), (sz + 5, .inl (G.2.1 1, 18, .inr (.inl fun _ => 0))), (sz + 6, .inl (G.2.1 1, 18, .inr (.inl fun _ => 0))), (sz + 7, .inl (G.2.1 0, 9216, .inl fun _ => 0))] H locs := hM
  refine lv_aload_n hx hb dX3_init_84 rfl (lv_at hl 0 rfl) ?_
  refine lv_bipush hx hb dX3_init_85 kn_b8 ?_
  refine mi_new S hK hM 0 (ty := .int) rfl rfl (fun q => q) (hts _ q535) tn_8 (a0 := .inl fun _ => 0) (fun _ => rfl) (by decide) na_8 (by show _ ≤ 14; omega) (by show _ ≤ 17842; omega) dX3_init_87 (fun H hM => ?_)
  have hM : MI G (miA o sz) s.heap (sz + 9) [(o, .inr (2, [.int 0, .ref sz, .ref (sz + 1), .ref (sz + 2), .ref (sz + 3), .ref (sz + 4), .ref (sz + 5), .ref (sz + 6), .int 0, .int 0, .int (-1), .int (-1), .int 0, .int 0, .int 0, .int 0, .int 0, .int 0, .int 0, .int 0, .int 0, .long 0, .ref (sz + 7), .null, .int 0, .int 0, .null, .null, .null, .null, .int 0, .null, .int 0])), (sz + 0, .inl (G.2.1 0, 390, .inl fun _ => 0)), (sz + 1, .inl (G.2.1 0, 390, .inl fun _ => 0)), (sz + 2, .inl (G.2.1 0, 390, .inl fun _ => 0)), (sz + 3, .inl (G.2.1 0, 4680, .inl fun _ => 0)), (sz + 4, .inl (G.2.1 0, 900, .inl fun _ => 0)), (sz + 5, .inl (G.2.1 1, 18, .inr (.inl fun _ => 0))), (sz + 6, .inl (G.2.1 1, 18, .inr (.inl fun _ => 0))), (sz + 7, .inl (G.2.1 0, 9216, .inl fun _ => 0)), (sz + 8, .inl (G.2.1 0, 8, .inl fun _ => 0))] H _ := hM
  refine mi_putF S hK hM hA in_X3 rfl 23 (by decide) (by show _ < 33; decide) tyX3 tyX3_ok nmX3 (hts _ q2018) (fun _ h9 => h9) rfl hin rfl (ty := .array .int) (by decide +kernel) rfl rfl dX3_init_89 (fun H locs hM => ?_)
  have hM : MI G (miA o sz) s.heap (sz + 9) [(o, .inr (2, [.int 0, .ref sz, .ref (sz + 1), .ref (sz + 2), .ref (sz + 3), .ref (sz + 4), .ref (sz + 5), .ref (sz + 6), .int 0, .int 0, .int (-1), .int (-1), .int 0, .int 0, .int 0, .int 0, .int 0, .int 0, .int 0, .int 0, .int 0, .long 0, .ref (sz + 7), .ref (sz + 8), .int 0, .int 0, .null, .null, .null, .null, .int 0, .null, .int 0])), (sz + 0, .inl (G.2.1 0, 390, .inl fun _ => 0)), (sz + 1, .inl (G.2.1 0, 390, .inl fun _ => 0)), (sz + 2, .inl (G.2.1 0, 390, .inl fun _ => 0)), (sz + 3, .inl (G.2.1 0, 4680, .inl fun _ => 0)), (sz + 4, .inl (G.2.1 0, 900, .inl fun _ => 0)), (sz + 5, .inl (G.2.1 1, 18, .inr (.inl fun _ => 0))), (sz + 6, .inl (G.2.1 1, 18, .inr (.inl fun _ => 0))), (sz + 7, .inl (G.2.1 0, 9216, .inl fun _ => 0)), (sz + 8, .inl (G.2.1 0, 8, .inl fun _ => 0))] H locs := hM
  refine lv_aload_n hx hb dX3_init_92 rfl (lv_at hl 0 rfl) ?_
  refine lv_bipush hx hb dX3_init_93 kn_b8 ?_
  refine mi_new S hK hM 0 (ty := .int) rfl rfl (fun q => q) (hts _ q535) tn_8 (a0 := .inl fun _ => 0) (fun _ => rfl) (by decide) na_8 (by show _ ≤ 14; omega) (by show _ ≤ 17842; omega) dX3_init_95 (fun H hM => ?_)
  have hM : MI G (miA o sz) s.heap (sz + 10) [(o, .inr (2, [.int 0, .ref sz, .ref (sz + 1), .ref (sz + 2), .ref (sz + 3), .ref (sz + 4), .ref (sz + 5), .ref (sz + 6), .int 0, .int 0, .int (-1), .int (-1), .int 0, .int 0, .int 0, .int 0, .int 0, .int 0, .int 0, .int 0, .int 0, .long 0, .ref (sz + 7), .ref (sz + 8), .int 0, .int 0, .null, .null, .null, .null, .int 0, .null, .int 0])), (sz + 0, .inl (G.2.1 0, 390, .inl fun _ => 0)), (sz + 1, .inl (G.2.1 0, 390, .inl fun _ => 0)), (sz + 2, .inl (G.2.1 0, 390, .inl fun _ => 0)), (sz + 3, .inl (G.2.1 0, 4680, .inl fun _ => 0)), (sz + 4, .inl (G.2.1 0, 900, .inl fun _ => 0)), (sz + 5, .inl (G.2.1 1, 18, .inr (.inl fun _ => 0))), (sz + 6, .inl (G.2.1 1, 18, .inr (.inl fun _ => 0))), (sz + 7, .inl (G.2.1 0, 9216, .inl fun _ => 0)), (sz + 8, .inl (G.2.1 0, 8, .inl fun _ => 0)), (sz + 9, .inl (G.2.1 0, 8, .inl fun _ => 0))] H _ := hM
  refine mi_putF S hK hM hA in_X3 rfl 26 (by decide) (by show _ < 33; decide) tyX3 tyX3_ok nmX3 (hts _ q2021) (fun _ h9 => h9) rfl hin rfl (ty := .array .int) (by decide +kernel) rfl rfl dX3_init_97 (fun H locs hM => ?_)
  have hM : MI G (miA o sz) s.heap (sz + 10) [(o, .inr (2, [.int 0, .ref sz, .ref (sz + 1), .ref (sz + 2), .ref (sz + 3), .ref (sz + 4), .ref (sz + 5), .ref (sz + 6), .int 0, .int 0, .int (-1), .int (-1), .int 0, .int 0, .int 0, .int 0, .int 0, .int 0, .int 0, .int 0, .int 0, .long 0, .ref (sz + 7), .ref (sz + 8), .int 0, .int 0, .ref (sz + 9), .null, .null, .null, .int 0, .null, .int 0])), (sz + 0, .inl (G.2.1 0, 390, .inl fun _ => 0)), (sz + 1, .inl (G.2.1 0, 390, .inl fun _ => 0)), (sz + 2, .inl (G.2.1 0, 390, .inl fun _ => 0)), (sz + 3, .inl (G.2.1 0, 4680, .inl fun _ => 0)), (sz + 4, .inl (G.2.1 0, 900, .inl fun _ => 0)), (sz + 5, .inl (G.2.1 1, 18, .inr (.inl fun _ => 0))), (sz + 6, .inl (G.2.1 1, 18, .inr (.inl fun _ => 0))), (sz + 7, .inl (G.2.1 0, 9216, .inl fun _ => 0)), (sz + 8, .inl (G.2.1 0, 8, .inl fun _ => 0)), (sz + 9, .inl (G.2.1 0, 8, .inl fun _ => 0))] H locs := hM
  refine lv_aload_n hx hb dX3_init_100 rfl (lv_at hl 0 rfl) ?_
  refine lv_bipush hx hb dX3_init_101 kn_b8 ?_
  refine mi_new S hK hM 0 (ty := .int) rfl rfl (fun q => q) (hts _ q535) tn_8 (a0 := .inl fun _ => 0) (fun _ => rfl) (by decide) na_8 (by show _ ≤ 14; omega) (by show _ ≤ 17842; omega) dX3_init_103 (fun H hM => ?_)
  have hM : MI G (miA o sz) s.heap (sz + 11) [(o, .inr (2, [.int 0, .ref sz, .ref (sz + 1), .ref (sz + 2), .ref (sz + 3), .ref (sz + 4), .ref (sz + 5), .ref (sz + 6), .int 0, .int 0, .int (-1), .int (-1), .int 0, .int 0, .int 0, .int 0, .int 0, .int 0, .int 0, .int 0, .int 0, .long 0, .ref (sz + 7), .ref (sz + 8), .int 0, .int 0, .ref (sz + 9), .null, .null, .null, .int 0, .null, .int 0])), (sz + 0, .inl (G.2.1 0, 390, .inl fun _ => 0)), (sz + 1, .inl (G.2.1 0, 390, .inl fun _ => 0)), (sz + 2, .inl (G.2.1 0, 390, .inl fun _ => 0)), (sz + 3, .inl (G.2.1 0, 4680, .inl fun _ => 0)), (sz + 4, .inl (G.2.1 0, 900, .inl fun _ => 0)), (sz + 5, .inl (G.2.1 1, 18, .inr (.inl fun _ => 0))), (sz + 6, .inl (G.2.1 1, 18, .inr (.inl fun _ => 0))), (sz + 7, .inl (G.2.1 0, 9216, .inl fun _ => 0)), (sz + 8, .inl (G.2.1 0, 8, .inl fun _ => 0)), (sz + 9, .inl (G.2.1 0, 8, .inl fun _ => 0)), (sz + 10, .inl (G.2.1 0, 8, .inl fun _ => 0))] H _ := hM
  refine mi_putF S hK hM hA in_X3 rfl 27 (by decide) (by show _ < 33; decide) tyX3 tyX3_ok nmX3 (hts _ q2022) (fun _ h9 => h9) rfl hin rfl (ty := .array .int) (by decide +kernel) rfl rfl dX3_init_105 (fun H locs hM => ?_)
  have hM : MI G (miA o sz) s.heap (sz + 11) [(o, .inr (2, [.int 0, .ref sz, .ref (sz + 1), .ref (sz + 2), .ref (sz + 3), .ref (sz + 4), .ref (sz + 5), .ref (sz + 6), .int 0, .int 0, .int (-1), .int (-1), .int 0, .int 0, .int 0, .int 0, .int 0, .int 0, .int 0, .int 0, .int 0, .long 0, .ref (sz + 7), .ref (sz + 8), .int 0, .int 0, .ref (sz + 9), .ref (sz + 10), .null, .null, .int 0, .null, .int 0])), (sz + 0, .inl (G.2.1 0, 390, .inl fun _ => 0)), (sz + 1, .inl (G.2.1 0, 390, .inl fun _ => 0)), (sz + 2, .inl (G.2.1 0, 390, .inl fun _ => 0)), (sz + 3, .inl (G.2.1 0, 4680, .inl fun _ => 0)), (sz + 4, .inl (G.2.1 0, 900, .inl fun _ => 0)), (sz + 5, .inl (G.2.1 1, 18, .inr (.inl fun _ => 0))), (sz + 6, .inl (G.2.1 1, 18, .inr (.inl fun _ => 0))), (sz + 7, .inl (G.2.1 0, 9216, .inl fun _ => 0)), (sz + 8, .inl (G.2.1 0, 8, .inl fun _ => 0)), (sz + 9, .inl (G.2.1 0, 8, .inl fun _ => 0)), (sz + 10, .inl (G.2.1 0, 8, .inl fun _ => 0))] H locs := hM
  refine lv_aload_n hx hb dX3_init_108 rfl (lv_at hl 0 rfl) ?_
  refine lv_bipush hx hb dX3_init_109 kn_b8 ?_
  refine mi_new S hK hM 0 (ty := .int) rfl rfl (fun q => q) (hts _ q535) tn_8 (a0 := .inl fun _ => 0) (fun _ => rfl) (by decide) na_8 (by show _ ≤ 14; omega) (by show _ ≤ 17842; omega) dX3_init_111 (fun H hM => ?_)
  have hM : MI G (miA o sz) s.heap (sz + 12) [(o, .inr (2, [.int 0, .ref sz, .ref (sz + 1), .ref (sz + 2), .ref (sz + 3), .ref (sz + 4), .ref (sz + 5), .ref (sz + 6), .int 0, .int 0, .int (-1), .int (-1), .int 0, .int 0, .int 0, .int 0, .int 0, .int 0, .int 0, .int 0, .int 0, .long 0, .ref (sz + 7), .ref (sz + 8), .int 0, .int 0, .ref (sz + 9), .ref (sz + 10), .null, .null, .int 0, .null, .int 0])), (sz + 0, .inl (G.2.1 0, 390, .inl fun _ => 0)), (sz + 1, .inl (G.2.1 0, 390, .inl fun _ => 0)), (sz + 2, .inl (G.2.1 0, 390, .inl fun _ => 0)), (sz + 3, .inl (G.2.1 0, 4680, .inl fun _ => 0)), (sz + 4, .inl (G.2.1 0, 900, .inl fun _ => 0)), (sz + 5, .inl (G.2.1 1, 18, .inr (.inl fun _ => 0))), (sz + 6, .inl (G.2.1 1, 18, .inr (.inl fun _ => 0))), (sz + 7, .inl (G.2.1 0, 9216, .inl fun _ => 0)), (sz + 8, .inl (G.2.1 0, 8, .inl fun _ => 0)), (sz + 9, .inl (G.2.1 0, 8, .inl fun _ => 0)), (sz + 10, .inl (G.2.1 0, 8, .inl fun _ => 0)), (sz + 11, .inl (G.2.1 0, 8, .inl fun _ => 0))] H _ := hM
  refine mi_putF S hK hM hA in_X3 rfl 28 (by decide) (by show _ < 33; decide) tyX3 tyX3_ok nmX3 (hts _ q2023) (fun _ h9 => h9) rfl hin rfl (ty := .array .int) (by decide +kernel) rfl rfl dX3_init_113 (fun H locs hM => ?_)
  have hM : MI G (miA o sz) s.heap (sz + 12) [(o, .inr (2, [.int 0, .ref sz, .ref (sz + 1), .ref (sz + 2), .ref (sz + 3), .ref (sz + 4), .ref (sz + 5), .ref (sz + 6), .int 0, .int 0, .int (-1), .int (-1), .int 0, .int 0, .int 0, .int 0, .int 0, .int 0, .int 0, .int 0, .int 0, .long 0, .ref (sz + 7), .ref (sz + 8), .int 0, .int 0, .ref (sz + 9), .ref (sz + 10), .ref (sz + 11), .null, .int 0, .null, .int 0])), (sz + 0, .inl (G.2.1 0, 390, .inl fun _ => 0)), (sz + 1, .inl (G.2.1 0, 390, .inl fun _ => 0)), (sz + 2, .inl (G.2.1 0, 390, .inl fun _ => 0)), (sz + 3, .inl (G.2.1 0, 4680, .inl fun _ => 0)), (sz + 4, .inl (G.2.1 0, 900, .inl fun _ => 0)), (sz + 5, .inl (G.2.1 1, 18, .inr (.inl fun _ => 0))), (sz + 6, .inl (G.2.1 1, 18, .inr (.inl fun _ => 0))), (sz + 7, .inl (G.2.1 0, 9216, .inl fun _ => 0)), (sz + 8, .inl (G.2.1 0, 8, .inl fun _ => 0)), (sz + 9, .inl (G.2.1 0, 8, .inl fun _ => 0)), (sz + 10, .inl (G.2.1 0, 8, .inl fun _ => 0)), (sz + 11, .inl (G.2.1 0, 8, .inl fun _ => 0))] H locs := hM
  refine lv_aload_n hx hb dX3_init_116 rfl (lv_at hl 0 rfl) ?_
  refine lv_bipush hx hb dX3_init_117 kn_b8 ?_
  refine mi_new S hK hM 0 (ty := .int) rfl rfl (fun q => q) (hts _ q535) tn_8 (a0 := .inl fun _ => 0) (fun _ => rfl) (by decide) na_8 (by show _ ≤ 14; omega) (by show _ ≤ 17842; omega) dX3_init_119 (fun H hM => ?_)
  have hM : MI G (miA o sz) s.heap (sz + 13) [(o, .inr (2, [.int 0, .ref sz, .ref (sz + 1), .ref (sz + 2), .ref (sz + 3), .ref (sz + 4), .ref (sz + 5), .ref (sz + 6), .int 0, .int 0, .int (-1), .int (-1), .int 0, .int 0, .int 0, .int 0, .int 0, .int 0, .int 0, .int 0, .int 0, .long 0, .ref (sz + 7), .ref (sz + 8), .int 0, .int 0, .ref (sz + 9), .ref (sz + 10), .ref (sz + 11), .null, .int 0, .null, .int 0])), (sz + 0, .inl (G.2.1 0, 390, .inl fun _ => 0)), (sz + 1, .inl (G.2.1 0, 390, .inl fun _ => 0)), (sz + 2, .inl (G.2.1 0, 390, .inl fun _ => 0)), (sz + 3, .inl (G.2.1 0, 4680, .inl fun _ => 0)), (sz + 4, .inl (G.2.1 0, 900, .inl fun _ => 0)), (sz + 5, .inl (G.2.1 1, 18, .inr (.inl fun _ => 0))), (sz + 6, .inl (G.2.1 1, 18, .inr (.inl fun _ => 0))), (sz + 7, .inl (G.2.1 0, 9216, .inl fun _ => 0)), (sz + 8, .inl (G.2.1 0, 8, .inl fun _ => 0)), (sz + 9, .inl (G.2.1 0, 8, .inl fun _ => 0)), (sz + 10, .inl (G.2.1 0, 8, .inl fun _ => 0)), (sz + 11, .inl (G.2.1 0, 8, .inl fun _ => 0)), (sz + 12, .inl (G.2.1 0, 8, .inl fun _ => 0))] H _ := hM
  refine mi_putF S hK hM hA in_X3 rfl 29 (by decide) (by show _ < 33; decide) tyX3 tyX3_ok nmX3 (hts _ q2024) (fun _ h9 => h9) rfl hin rfl (ty := .array .int) (by decide +kernel) rfl rfl dX3_init_121 (fun H locs hM => ?_)
  have hM : MI G (miA o sz) s.heap (sz + 13) [(o, .inr (2, [.int 0, .ref sz, .ref (sz + 1), .ref (sz + 2), .ref (sz + 3), .ref (sz + 4), .ref (sz + 5), .ref (sz + 6), .int 0, .int 0, .int (-1), .int (-1), .int 0, .int 0, .int 0, .int 0, .int 0, .int 0, .int 0, .int 0, .int 0, .long 0, .ref (sz + 7), .ref (sz + 8), .int 0, .int 0, .ref (sz + 9), .ref (sz + 10), .ref (sz + 11), .ref (sz + 12), .int 0, .null, .int 0])), (sz + 0, .inl (G.2.1 0, 390, .inl fun _ => 0)), (sz + 1, .inl (G.2.1 0, 390, .inl fun _ => 0)), (sz + 2, .inl (G.2.1 0, 390, .inl fun _ => 0)), (sz + 3, .inl (G.2.1 0, 4680, .inl fun _ => 0)), (sz + 4, .inl (G.2.1 0, 900, .inl fun _ => 0)), (sz + 5, .inl (G.2.1 1, 18, .inr (.inl fun _ => 0))), (sz + 6, .inl (G.2.1 1, 18, .inr (.inl fun _ => 0))), (sz + 7, .inl (G.2.1 0, 9216, .inl fun _ => 0)), (sz + 8, .inl (G.2.1 0, 8, .inl fun _ => 0)), (sz + 9, .inl (G.2.1 0, 8, .inl fun _ => 0)), (sz + 10, .inl (G.2.1 0, 8, .inl fun _ => 0)), (sz + 11, .inl (G.2.1 0, 8, .inl fun _ => 0)), (sz + 12, .inl (G.2.1 0, 8, .inl fun _ => 0))] H locs := hM
  refine lv_aload_n hx hb dX3_init_124 rfl (lv_at hl 0 rfl) ?_
  refine lv_sipush hx hb dX3_init_125 kn_s1800 ?_
  refine mi_new S hK hM 2 (ty := .byte) rfl rfl (fun q => q) (hts _ q581) tn_1800 (a0 := .inl fun _ => 0) (fun _ => rfl) (by decide) na_1800 (by show _ ≤ 14; omega) (by show _ ≤ 17842; omega) dX3_init_128 (fun H hM => ?_)
  have hM : MI G (miA o sz) s.heap (sz + 14) [(o, .inr (2, [.int 0, .ref sz, .ref (sz + 1), .ref (sz + 2), .ref (sz + 3), .ref (sz + 4), .ref (sz + 5), .ref (sz + 6), .int 0, .int 0, .int (-1), .int (-1), .int 0, .int 0, .int 0, .int 0, .int 0, .int 0, .int 0, .int 0, .int 0, .long 0, .ref (sz + 7), .ref (sz + 8), .int 0, .int 0, .ref (sz + 9), .ref (sz + 10), .ref (sz + 11), .ref (sz + 12), .int 0, .null, .int 0])), (sz + 0, .inl (G.2.1 0, 390, .inl fun _ => 0)), (sz + 1, .inl (G.2.1 0, 390, .inl fun _ => 0)), (sz + 2, .inl (G.2.1 0, 390, .inl fun _ => 0)), (sz + 3, .inl (G.2.1 0, 4680, .inl fun _ => 0)), (sz + 4, .inl (G.2.1 0, 900, .inl fun _ => 0)), (sz + 5, .inl (G.2.1 1, 18, .inr (.inl fun _ => 0))), (sz + 6, .inl (G.2.1 1, 18, .inr (.inl fun _ => 0))), (sz + 7, .inl (G.2.1 0, 9216, .inl fun _ => 0)), (sz + 8, .inl (G.2.1 0, 8, .inl fun _ => 0)), (sz + 9, .inl (G.2.1 0, 8, .inl fun _ => 0)), (sz + 10, .inl (G.2.1 0, 8, .inl fun _ => 0)), (sz + 11, .inl (G.2.1 0, 8, .inl fun _ => 0)), (sz + 12, .inl (G.2.1 0, 8, .inl fun _ => 0)), (sz + 13, .inl (G.2.1 2, 1800, .inl fun _ => 0))] H _ := hM
  refine mi_putF S hK hM hA in_X3 rfl 31 (by decide) (by show _ < 33; decide) tyX3 tyX3_ok nmX3 (hts _ q2026) (fun _ h9 => h9) rfl hin rfl (ty := .array .byte) (by decide +kernel) rfl rfl dX3_init_130 (fun H locs hM => ?_)
  have hM : MI G (miA o sz) s.heap (sz + 14) [(o, .inr (2, [.int 0, .ref sz, .ref (sz + 1), .ref (sz + 2), .ref (sz + 3), .ref (sz + 4), .ref (sz + 5), .ref (sz + 6), .int 0, .int 0, .int (-1), .int (-1), .int 0, .int 0, .int 0, .int 0, .int 0, .int 0, .int 0, .int 0, .int 0, .long 0, .ref (sz + 7), .ref (sz + 8), .int 0, .int 0, .ref (sz + 9), .ref (sz + 10), .ref (sz + 11), .ref (sz + 12), .int 0, .ref (sz + 13), .int 0])), (sz + 0, .inl (G.2.1 0, 390, .inl fun _ => 0)), (sz + 1, .inl (G.2.1 0, 390, .inl fun _ => 0)), (sz + 2, .inl (G.2.1 0, 390, .inl fun _ => 0)), (sz + 3, .inl (G.2.1 0, 4680, .inl fun _ => 0)), (sz + 4, .inl (G.2.1 0, 900, .inl fun _ => 0)), (sz + 5, .inl (G.2.1 1, 18, .inr (.inl fun _ => 0))), (sz + 6, .inl (G.2.1 1, 18, .inr (.inl fun _ => 0))), (sz + 7, .inl (G.2.1 0, 9216, .inl fun _ => 0)), (sz + 8, .inl (G.2.1 0, 8, .inl fun _ => 0)), (sz + 9, .inl (G.2.1 0, 8, .inl fun _ => 0)), (sz + 10, .inl (G.2.1 0, 8, .inl fun _ => 0)), (sz + 11, .inl (G.2.1 0, 8, .inl fun _ => 0)), (sz + 12, .inl (G.2.1 0, 8, .inl fun _ => 0)), (sz + 13, .inl (G.2.1 2, 1800, .inl fun _ => 0))] H locs := hM
  have hC : mC hCl (hTy G) 2 (G.2.1 0) (G.2.1 1) (G.2.1 2) := ⟨rfl, rfl, rfl, rfl⟩
  have hD : mD o (adM sz) := adM_D sz o hoz
  have hP : va_P G.1 hCl (mW 2 (G.2.1 0) (G.2.1 1) (G.2.1 2) o (adM sz) 0 0 0 (-1) (-1) 0 0 0 0 0 0 0 0 0 0 0 0 0 0 z0 z0 z0 z0 z0 z1 z1 z0 z0 z0 z0 z0 z0 z0) H := hM.1
  have hS := hM.2.2.1
  have hsz := hM.2.1
  refine lv_aload_n hx hb dX3_init_133 rfl (lv_at hl 0 rfl) ?_
  refine mg_1 S hC hK hP dX3_init_134 ?_
  intro T hT X
  obtain ⟨vv, st₀, t, T', Lo, h0, X', hLo, e1, e2, ⟨hv, -, hP1, hF⟩, st⟩ := va_runS (As := [.ref (adM sz 1)]) (g := F0 m 137 ls [.ref (adM sz 1)]) (rest := []) S (mm_X3_plain_nw (l := l) hC hD hf) (va_cwS 1 hts (lw_S q1993 q1994 q189 q1995) rfl rfl rfl hd_X3_plain ⟨Nat.le_of_ble_eq_true rfl, Nat.le_of_ble_eq_true rfl⟩) (gPreS hK hP) rfl rfl hl.1 rfl (lv_room (Nat.le_of_ble_eq_true rfl)) dX3_init_137 ⟨Nat.le_refl _, Nat.le_refl _⟩ T hT X
  cases hv
  obtain ⟨hk0, hk⟩ := hF
  rw [h0, ← e1] at hk0 hk
  have hle : T'.heap.size ≤ s.heap.size + 14 := X'.heapSize
  have hsz1 : T'.heap.size = sz + 14 := by omega
  have hP1 : va_P G.1 hCl (mW 2 (G.2.1 0) (G.2.1 1) (G.2.1 2) o (adM sz) 0 0 0 (-1) (-1) 0 0 0 0 0 0 0 0 0 0 0 0 0 0 nw z0 z0 z0 z0 z1 z1 z0 z0 z0 z0 z0 z0 z0) T'.heap := by rw [e1]; exact hP1
  have hS1 : va_S (miA o sz) s.heap T'.heap (_ ++ Lo) := ⟨by omega, fun q g1 g2 => by rw [hk q (Nat.lt_of_lt_of_le g1 hS.1) (fun z => g2 (adM_A z))]; exact hS.2.1 q g1 g2, fun z hz => by
    rcases List.mem_append.mp hz with g | g
    · exact hS.2.2 z g
    · exact adM_A (hLo z g)⟩
  have hend : W p l e (headSpec (ws_ yX3_init cX3_init 3 none) (rC 2 60 14 17842)).room s m [Value.ref o].toArray below meth c T'.heap (_ ++ Lo) 14 17842 (MQ below (iQ G sz o (mW 2 (G.2.1 0) (G.2.1 1) (G.2.1 2) o (adM sz) 0 0 0 (-1) (-1) 0 0 0 0 0 0 0 0 0 0 0 0 0 0 nw z0 z0 z0 z0 z1 z1 z0 z0 z0 z0 z0 z0 z0)) [Value.ref o].toArray s 14 17842 (miA o sz)) (F0 m 140 ls []) :=
    W.vret hx hb hr (fun t ht _ => ⟨rfl, by rw [ht]; exact hP1, by rw [ht]; exact hsz1, hS1.F ht⟩) hS1.2.2 dX3_init_140 hlocks
  obtain ⟨t2, a1, b1⟩ := hend T' rfl X'
  exact ⟨t2, st t2 a1, b1⟩
