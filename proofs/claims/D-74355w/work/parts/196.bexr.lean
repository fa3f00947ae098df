/-! methods that may throw Wrong: the answer is .inl a (thrown) or .inr r (returned) -/
def xQ {ρ : Type} (G : hG) (o : Nat ⊕ ρ) (val : ρ → Option Value) (h' : AH) (nx' : Nat) (A : Nat → Prop) : Array Value → State → Outcome → State → Prop := match o with
  | .inr r => bQ G (val r) True h' nx' A
  | .inl _ => fun _ _ _ _ => False
def xX {ρ : Type} (G : hG) (o : Nat ⊕ ρ) (h' : AH) (nx' : Nat) (A : Nat → Prop) : String → Addr → State → State → Prop := match o with
  | .inl a => fun E q st t => E = RX5 ∧ q = a ∧ isO h' a 4 = true ∧ (∀ (q : Nat) (e : hE), h' q = some e → hAt G q e t.heap) ∧ t.heap.size = nx' ∧ (∀ (q : Nat) (e : hE), h' q = some e → A q) ∧ va_F A st t
  | .inr _ => fun _ _ _ _ => False
def sumc {ρ β : Type} (o : Nat ⊕ ρ) (f : Nat → β) (g : ρ → β) : β := match o with
  | .inl a => f a
  | .inr r => g r
theorem sc_l {ρ β : Type} {o : Nat ⊕ ρ} {a : Nat} {f : Nat → β} {g : ρ → β} {x : β} (h : o = .inl a) (hf : sumc o f g = x) : f a = x := by subst h; exact hf
theorem sc_r {ρ β : Type} {o : Nat ⊕ ρ} {r : ρ} {f : Nat → β} {g : ρ → β} {x : β} (h : o = .inr r) (hf : sumc o f g = x) : g r = x := by subst h; exact hf
theorem gOfWX {l : Launch} {y : MethodName} {ws ws2 : List Cond} {rm : Room} {Pc : Array Value → State → Prop} {Qc : Array Value → State → Outcome → State → Prop} {XC : String → Addr → State → State → Prop} {mc ms : Nat} {free : Addr → Prop} {cc : ByteArray} {maxL : Nat} {ret : Option FieldType}
    (hy : plainFor y = true) (hw : ws = Cond.code y cc maxL ret :: ws2)
    (body : ∀ p e s m args below meth c s₁, BodyLoose p l y (headSpec ws rm) cc maxL ret e s m args below meth c s₁ → c.maxLocals = maxL → Pc args s →
      W p l e (headSpec ws rm).room s m args below meth c s.heap [] 0 0 (wx_MQ below Qc XC args s mc ms free) (entryFrame m args maxL)) : wx_Met l y ws rm Pc Qc XC mc ms free := by
  refine MetFree.of_bodySF (code := cc) (maxLocals := maxL) (ret := ret) hy ?_ ?_
  · intro args s m h hn
    obtain ⟨meth, c, h1, h2, h3, h4, h5, h6, -, -⟩ := Cond.code_spec hn (atoms_spec (ws := ws) h _ (by rw [hw]; exact List.mem_cons_self))
    exact ⟨meth, c, h1, h2, h3, h4, h5, h6⟩
  · intro p e s m args below meth c s₁ B hml hP _
    have hh0 : s₁.heap = s.heap := by rw [B.state]; rfl
    obtain ⟨t, a1, o, b1, b2, b3⟩ := body p e s m args below meth c s₁ B hml hP s₁ hh0 (Stand.of_body B)
    exact ⟨t, o, a1, b1, b2, b3⟩
theorem bGoX {l : Launch} {y : MethodName} {cc : ByteArray} {maxL : Nat} {ret : Option FieldType} {rm : Room} {G : hG} {zs : Nat → Nat} {L : List hL} {h : AH} {nx : Nat} {av : List Value} {Qc : Array Value → State → Outcome → State → Prop} {XC : String → Addr → State → State → Prop} {free : Addr → Prop} {mc ms : Nat} (hy : plainFor y = true) (hlen : (lg_sl av).length ≤ maxL)
    (body : ∀ (p : Program) (e : Env) (s : State) (m : MethodId) (below : List Frame) (meth : Method) (c : Code) (ls : Array Slot), CallFix p m c cc maxL s av.toArray lw_all y.cls → meth.sig.returnType = ret → meth.locks = false → meth.name = y.name → s.methodNamed? y = some m → c.exceptionTable.isEmpty = true → SK G zs L (AA h nx) s → BI G (AA h nx) s.heap h nx s.heap [] → lv_has ls maxL (lv_args 0 av) → W p l e rm s m av.toArray below meth c s.heap [] 0 0 (wx_MQ below Qc XC av.toArray s mc ms free) (F0 m 0 ls [])) : wx_Met l y (ws_ y cc maxL ret) rm (bPc G zs L h nx av) Qc XC mc ms free := by
  refine gOfWX (cc := cc) (maxL := maxL) (ret := ret) hy rfl ?_
  intro p e s m args below meth c s₁ B hml hv
  obtain ⟨rfl, hP, hz, hK⟩ := hv
  have hts0 := atoms_spec (ws := ws_ y cc maxL ret) B.pre
  have hts : ∀ w ∈ lw_all, w.before _ s = true := fun w h => hts0 w (List.mem_cons_of_mem _ h)
  obtain ⟨meth2, c2, h1, h2, -, -, -, -, hem, -⟩ := Cond.code_spec B.named (hts0 _ List.mem_cons_self)
  cases B.method.symm.trans h1
  cases (Stand.of_body B).code.symm.trans h2
  have hl := lv_entry av (n := maxL) hlen
  rw [lg_entry_eq]
  exact body p e s m below meth c _ ⟨B.exec, B.bytes, hml, findClass_of_methodNamed B.named, hts⟩ B.returns B.notSynchronized (name_of_methodNamed B.named B.method).1 B.named hem hK ⟨hP, hz, fun q e he => Or.inl ⟨e, he⟩, va_S.rf, fun q hq => Or.inr (by rw [← hz]; exact hq)⟩ hl
section BX
variable {p : Program} {l : Launch} {e : Env} {R : Room} {s : State} {m : MethodId} {args : Array Value} {below : List Frame} {meth : Method} {c : Code} {H H0 : Heap} {locs : List Loc} {cells slots mc ms : Nat} {Q : State → Prop} {cc : ByteArray} {nL pc : Nat} {ls : Array Slot} {rest st0 : List Value} {G : hG} {zs : Nat → Nat} {L : List hL} {A : Nat → Prop} {h h' : AH} {nx : Nat} {own : String} {aa : Array Value} {ρ : Type} {val : ρ → Option Value} {o : Nat ⊕ ρ}
/-- thrown out of a method without handlers -/
theorem xt_out {nx0 a : Nat} (hS : SK G zs L (AA h nx0) s) (hem : c.exceptionTable.isEmpty = true) (hlocks : meth.locks = false) (hB : BI G (AA h nx0) s.heap h' nx H locs) (hn : nx = nx0 + cells) (ho : isO h' a 4 = true) :
    wx_W p l e R s m args below meth c H locs cells slots (wx_MQ below (xQ G (.inl a) val h' (nx0 + cells) (AA h nx0)) (xX G (.inl a : Nat ⊕ ρ) h' (nx0 + cells) (AA h nx0)) args s cells slots (AA h nx0)) (F0 m pc ls rest) a := by
  obtain ⟨fs, he⟩ := isO_s ho
  obtain ⟨r, h9, cell, q1, q2, q3, q4⟩ := hB.1 a _ he
  cases h9
  refine wx_out (E := RX5) (ce := cell) (fun x hx => ?_) hlocks q1 (q3.2 (show (4 : Nat) ≠ 13 by decide)) (by rw [q2]; exact (hS.1.1 4 _ rfl).2.1) (fun t ht _ => ⟨rfl, rfl, ho, by rw [ht]; exact hB.1, by rw [ht, hB.2.1]; exact hn, hB.2.2.1, hB.2.2.2.1.F ht⟩) hB.2.2.2.1.2.2 (Nat.le_refl _) (Nat.le_refl _)
  have hz : c.exceptionTable = #[] := Array.isEmpty_iff.mp hem
  rw [hz] at hx
  cases hx
/-- a call of a method that may throw -/
theorem br_x (hr : wx_Run p l e R s m args below meth c H locs cells slots mc ms (F0 m pc ls st0) rest (xQ G o val h' (nx + mc) (AA h nx) aa) (xX G o h' (nx + mc) (AA h nx)) (AA h nx)) (hB : BI G A s.heap h nx H locs)
    (kx : ∀ (H1 : Heap) (locs1 : List Loc) (a : Nat), o = .inl a → isO h' a 4 = true → BI G A s.heap h' (nx + mc) H1 locs1 → wx_W p l e R s m args below meth c H1 locs1 (cells + mc) (slots + ms) Q (F0 m pc ls rest) a)
    (kk : ∀ (H1 : Heap) (locs1 : List Loc) (r : ρ), o = .inr r → BI G A s.heap h' (nx + mc) H1 locs1 → W p l e R s m args below meth c H1 locs1 (cells + mc) (slots + ms) Q (F0 m (pc + 3) ls ((val r).toList ++ rest))) : W p l e R s m args below meth c H locs cells slots Q (F0 m pc ls st0) := by
  intro T hT X
  rcases hr T hT X with ⟨v, st₀, t, T', Lo, h0, X', hL, e1, e2, hq, st⟩ | ⟨q, st₀, t, T', Lo, E, ce, h0, X', hL, e1, e2, hx, hce, hcv, hcl, st⟩
  · cases o with
    | inl a => exact hq.elim
    | inr r =>
      obtain ⟨hv, -, hq, hz, hd, hF⟩ := hq
      cases hv
      obtain ⟨t2, a1, b1⟩ := kk T'.heap (locs ++ Lo) r rfl (bB_call hB h0 e1 hL hq hz hd hF) T' rfl X'
      exact ⟨t2, st t2 a1, b1⟩
  · cases o with
    | inr r => exact hx.elim
    | inl a =>
      obtain ⟨rfl, rfl, hio, hq, hz, hd, hF⟩ := hx
      obtain ⟨t2, a1, b1⟩ := kx T'.heap (locs ++ Lo) q rfl hio (bB_call hB h0 e1 hL hq hz hd hF) T' rfl X'
      exact ⟨t2, st.trans a1, b1⟩
end BX
/-- as bGo, for a method with handlers -/
theorem bGoH {l : Launch} {y : MethodName} {cc : ByteArray} {maxL : Nat} {ret : Option FieldType} {hh : List (Nat × Nat × Nat × Nat)} {rm : Room} {G : hG} {zs : Nat → Nat} {L : List hL} {h : AH} {nx : Nat} {av : List Value} {Qc : Array Value → State → Outcome → State → Prop} {free : Addr → Prop} {mc ms : Nat} (hy : plainFor y = true) (hlen : (lg_sl av).length ≤ maxL)
    (body : ∀ (p : Program) (e : Env) (s : State) (m : MethodId) (below : List Frame) (meth : Method) (c : Code) (ls : Array Slot), CallFix p m c cc maxL s av.toArray lw_all y.cls → meth.sig.returnType = ret → meth.locks = false → meth.name = y.name → s.methodNamed? y = some m → c.exceptionTable.toList.map (fun h => (h.startPc, h.endPc, h.handlerPc, h.catchType)) = hh → SK G zs L (AA h nx) s → BI G (AA h nx) s.heap h nx s.heap [] → lv_has ls maxL (lv_args 0 av) → W p l e rm s m av.toArray below meth c s.heap [] 0 0 (MQ below Qc av.toArray s mc ms free) (F0 m 0 ls [])) : Met l y (wsW_ y cc maxL ret hh) rm (bPc G zs L h nx av) Qc mc ms free := by
  refine MetFree.of_bodySF (code := cc) (maxLocals := maxL) (ret := ret) hy ?_ ?_
  · intro args s m h hn
    obtain ⟨m9, meth, c, hn9, h1, h2, h3, h4, -, h5, h6, -⟩ := Cond.codeWith_spec (atoms_spec (ws := wsW_ y cc maxL ret hh) h _ List.mem_cons_self)
    cases hn.symm.trans hn9
    exact ⟨meth, c, h1, h2, h3, h4, h5, h6⟩
  · intro p e s m args below meth c s₁ B hml hv _
    have hh0 : s₁.heap = s.heap := by rw [B.state]; rfl
    obtain ⟨rfl, hP, hz, hK⟩ := hv
    have hts0 := atoms_spec (ws := wsW_ y cc maxL ret hh) B.pre
    have hts : ∀ w ∈ lw_all, w.before _ s = true := fun w h => hts0 w (List.mem_cons_of_mem _ h)
    obtain ⟨m9, meth2, c2, hn9, h1, h2, -, -, hex, -, -, -⟩ := Cond.codeWith_spec (hts0 _ List.mem_cons_self)
    cases B.named.symm.trans hn9
    cases B.method.symm.trans h1
    cases (Stand.of_body B).code.symm.trans h2
    have hl := lv_entry av (n := maxL) hlen
    have hW := body p e s m below meth c _ ⟨B.exec, B.bytes, hml, findClass_of_methodNamed B.named, hts⟩ B.returns B.notSynchronized (name_of_methodNamed B.named B.method).1 B.named hex hK ⟨hP, hz, fun q e he => Or.inl ⟨e, he⟩, va_S.rf, fun q hq => Or.inr (by rw [← hz]; exact hq)⟩ hl
    rw [← lg_entry_eq] at hW
    obtain ⟨t, a1, o, b1, b2, b3⟩ := hW s₁ hh0 (Stand.of_body B)
    exact ⟨t, o, a1, b1, b2, ⟨b3.1, b3.2⟩⟩
theorem xt_catch {p : Program} {l : Launch} {e : Env} {R : Room} {s : State} {m : MethodId} {args : Array Value} {below : List Frame} {meth : Method} {c : Code} {H H0 : Heap} {locs : List Loc} {cells slots : Nat} {Q : State → Prop} {cc : ByteArray} {nL pc : Nat} {ls : Array Slot} {rest : List Value} {G : hG} {zs : Nat → Nat} {L : List hL} {A : Nat → Prop} {h : AH} {nx a : Nat} (S : CallFix p m c cc nL s args lw_all RX1) (hS : SK G zs L A s) (hcw : c.exceptionTable.toList.map (fun h => (h.startPc, h.endPc, h.handlerPc, h.catchType)) = [(53, 57, 60, 166)]) (hB : BI G A H0 h nx H locs) (ho : isO h a 4 = true) (hc : covers ⟨53, 57, 60, 166⟩ pc = true)
    (kk : W p l e R s m args below meth c H locs cells slots Q (F0 m 60 ls [.ref a])) : wx_W p l e R s m args below meth c H locs cells slots Q (F0 m pc ls rest) a := by
  obtain ⟨fs, he⟩ := isO_s ho
  obtain ⟨r, h9, cell, q1, q2, q3, q4⟩ := hB.1 a _ he
  cases h9
  obtain ⟨x, xs, hl, h1, h2⟩ := List.map_eq_cons_iff.mp hcw
  have hxs : xs = [] := List.map_eq_nil_iff.mp h2
  subst hxs
  obtain ⟨x1, x2, x3, x4⟩ := x
  cases h1
  exact wx_catch (own := RX1) (name := RX5) (E := RX5) S.2.2.2.1 [] ⟨53, 57, 60, 166⟩ [] hl (fun z hz => by cases hz) hc (by decide) (S.2.2.2.2 _ q651) (va_Nw.use rfl (hS.2.1 _ q891 rfl)) q1 (q3.2 (show (4 : Nat) ≠ 13 by decide)) (by rw [q2]; exact (hS.1.1 4 _ rfl).2.1) kk
