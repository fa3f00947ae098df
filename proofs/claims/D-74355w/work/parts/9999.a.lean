/-! out's throwing path, and the law's catch -/
def xNames : List String := ["java/lang/RuntimeException", "java/lang/Exception"]
theorem xn_all : (wx_at0 RX1 616 RJ18 xNames).all (fun w => decide (w ∈ lw_tbl) && (goodWord w || (nwK w && w.onTables)) && wx_ot w) = true := by decide +kernel
theorem xn_fit : Bundle.fit RJ18 = true ∧ ∀ n ∈ xNames, Bundle.fit n = true := by decide +kernel
/-- the two statics that a new exception reads -/
def ZL (A : Nat → Prop) (U : State) (H : Heap) : Prop := wx_Zq Bundle.tN "UNASSIGNED_STACK" Bundle.steD A U H ∧ wx_Zq Bundle.tN "SUPPRESSED_SENTINEL" Bundle.listD A U H
theorem ZL.move {A B : Nat → Prop} {s U : State} {H H1 : Heap} (hvm : s.vm.Alike U.vm) (hq : ∀ a : Nat, a < H.size → ¬ A a → H1[a]? = H[a]?) (hAB : ∀ q, B q → A q) (h : ZL A s H) : ZL B U H1 :=
  ⟨((h.1.moved hvm).kept hq).narrow hAB, ((h.2.moved hvm).kept hq).narrow hAB⟩
/-- a contract's start, with these two -/
def bPc2 (G : hG) (zs : Nat → Nat) (L : List hL) (h : AH) (nx : Nat) (av : List Value) : Array Value → State → Prop := va_Pc av (fun U => ((∀ (q : Nat) (e : hE), h q = some e → hAt G q e U.heap) ∧ U.heap.size = nx ∧ SK G zs L (AA h nx) U) ∧ ZL (AA h nx) U U.heap)
theorem bBlind2 {G : hG} {zs : Nat → Nat} {L : List hL} {h : AH} {nx : Nat} {av : List Value} : FrameBlind (bPc2 G zs L h nx av) :=
  fun a U g mk q => ⟨q.1, ⟨q.2.1.1, q.2.1.2.1, q.2.1.2.2.calling⟩, q.2.2.move (s := U) (U := U.calling g mk a) (Vm.Alike.refl U.vm) (fun _ _ _ => rfl) (fun _ q => q)⟩
section B2
variable {G : hG} {zs : Nat → Nat} {L : List hL} {A : Nat → Prop} {s : State} {h : AH} {nx : Nat} {H : Heap} {locs : List Loc}
theorem bPcU2 (hS : SK G zs L A s) (hZ : ZL A s s.heap) (hB : BI G A s.heap h nx H locs) {av : List Value} {U : State} (hU : U.heap = H) (hW : s.WarmedH U.vm) : bPc2 G zs L h nx av av.toArray U :=
  ⟨rfl, (bPcU hS hB (av := av) hU hW).2, hZ.move hW.alike (fun a h1 h2 => by rw [hU]; exact hB.2.2.2.1.2.1 a h1 h2) hB.sub⟩
theorem bPreV2 (hS : SK G zs L A s) (hZ : ZL A s s.heap) (hB : BI G A s.heap h nx H locs) {av : List Value} {ci : Nat} {fs : List Value} {b : Nat} {C : String} {Tb : u_T} {N : Nat} (hc : hCl[ci]? = some (C, Tb, N)) (he : h b = some (.inr (.inl (ci, fs)))) : PreV s H C b (bPc2 G zs L h nx (.ref b :: av)) av :=
  ⟨bBlind2, bRecv hS.1 hB hc he, fun U hU hW => bPcU2 hS hZ hB hU hW⟩
theorem bPreS2 (hS : SK G zs L A s) (hZ : ZL A s s.heap) (hB : BI G A s.heap h nx H locs) {av : List Value} : PreS s H (bPc2 G zs L h nx av) av := ⟨bBlind2, fun U hU hW => bPcU2 hS hZ hB hU hW⟩
end B2
/-- what is said where out has thrown -/
def xN (nx : Nat) : String → Addr → State → State → Prop := fun E q st t => E = RJ18 ∧ q = nx ∧ st.heap.size = nx ∧ ∀ a : Nat, a < nx → t.heap[a]? = st.heap[a]?
def f_X1_outN (E : bE) (h : AH) (o : Nat) (a0 : Int32) : Option Unit := (gA h o 0 12).bind fun v1 => gd (isO h v1 12) ((f_J8_length E h v1).bind fun v3 => (f_X1_isIn a0.toInt64 0 ((v3 - 1).toInt64)).bind fun v4 => if v4 = 0 then some () else none)
section OUTN
variable {l : Launch} {G : hG} {E : bE} {h : AH} {nx fE lE : Nat}
set_option maxHeartbeats 4000000 in
set_option maxRecDepth 100000 in
theorem mx_X1_out (hst : l.stackTraces = false) {o : Nat} {a0 : Int32} (hf : f_X1_outN E h o a0 = some ()) : wx_Met l yX1_out (ws_ yX1_out cX1_out 2 (some .int)) (rC (fE + 6) (lE + 150) 1 6) (bPc2 G E.1 hSites h nx [.ref o, .int a0]) (fun _ _ _ _ => False) (xN nx) 1 6 (AA h nx) := by
  refine gOfWX (cc := cX1_out) (maxL := 2) (ret := some .int) (by decide +kernel) rfl ?_
  intro p e s m args below meth c s₁ B hml hv
  obtain ⟨rfl, ⟨hP, hz, hS⟩, hZ⟩ := hv
  have hts0 := atoms_spec (ws := ws_ yX1_out cX1_out 2 (some .int)) B.pre
  have hts : ∀ w ∈ lw_all, w.before _ s = true := fun w h => hts0 w (List.mem_cons_of_mem _ h)
  obtain ⟨meth2, c2, h1, h2, -, -, -, -, hem, -⟩ := Cond.code_spec B.named (hts0 _ List.mem_cons_self)
  cases B.method.symm.trans h1
  cases (Stand.of_body B).code.symm.trans h2
  have hl := lv_entry [Value.ref o, Value.int a0] (n := 2) (Nat.le_of_ble_eq_true rfl)
  rw [lg_entry_eq]
  have S : CallFix p m c cX1_out 2 s _ lw_all RX1 := ⟨B.exec, B.bytes, hml, findClass_of_methodNamed B.named, hts⟩
  have hlocks := B.notSynchronized
  have hB : BI G (AA h nx) s.heap h nx s.heap [] := ⟨hP, hz, fun q e he => Or.inl ⟨e, he⟩, va_S.rf, fun q hq => Or.inr (by rw [← hz]; exact hq)⟩
  obtain ⟨hx, hb, hml, hown, hts⟩ := id S
  generalize (lg_sl ([Value.ref o, Value.int a0]) ++ List.replicate (2 - (lg_sl ([Value.ref o, Value.int a0])).length) Slot.unset).toArray = ls at hl ⊢
  have hl : lv_has ls 2 [(0, .ref o), (1, .int a0)] := hl
  rw [f_X1_outN] at hf
  refine lv_iload_n hx hb dX1_out_0 rfl (lv_at hl 1 rfl) ?_
  refine lv_i2l hx hb dX1_out_1 rfl ?_
  refine lv_lconst (v := 0) hx hb dX1_out_2 (by decide) ?_
  refine lv_aload_n hx hb dX1_out_3 rfl (lv_at hl 0 rfl) ?_
  obtain ⟨v1, hv1, hf⟩ := ob_s hf
  refine bg_X1_123 S hS hB (vR_s hv1) dX1_out_4 ?_
  obtain ⟨g2, hf⟩ := gd_t hf
  obtain ⟨v3, hv3, hf⟩ := ob_s hf
  refine mc_X1_611 (fE := fE) (lE := lE) S hS hB g2 hv3 hl.1 ⟨(by show _ ≤ (fE + 6); omega), (by show _ ≤ (lE + 150); omega)⟩ (Nat.le_of_ble_eq_true rfl) ⟨Nat.zero_le _, Nat.zero_le _⟩ dX1_out_7 (fun _ => ?_)
  refine lv_iconst hx hb dX1_out_10 kc_i1 ?_
  refine lv_isub hx hb dX1_out_11 ?_
  refine lv_i2l hx hb dX1_out_12 rfl ?_
  obtain ⟨v4, hv4, hf⟩ := ob_s hf
  refine mc_X1_134 S hS.1 hv4 hl.1 ⟨(by show _ ≤ (fE + 6); omega), (by show _ ≤ (lE + 150); omega)⟩ (Nat.le_of_ble_eq_true rfl) ⟨Nat.zero_le _, Nat.zero_le _⟩ dX1_out_13 (fun hnv4 => ?_)
  refine lv_if_ne (tgt := 27) hx hb dX1_out_16 (by decide) (fun c5 => ?_) (fun c5 => ?_)
  · replace hf := it_f c5 hf
    exact absurd hf (by nofun)
  · have key : ∀ w ∈ wx_at0 RX1 616 RJ18 xNames, (w ∈ lw_tbl ∧ (goodWord w = true ∨ (nwK w = true ∧ w.onTables = true))) ∧ wx_ot w = true := fun w hw => by
      have h9 := List.all_eq_true.mp xn_all w hw
      simp only [Bool.and_eq_true, Bool.or_eq_true, decide_eq_true_eq] at h9
      exact h9
    refine wx_throw0 (ik := 614) (ic := 616) (cls := RJ18) (names := xNames) (own := RX1) (A := AA h nx) hx hb hst hown xn_fit.1 xn_fit.2 (hts _ q1975) (hts _ q199) (fun w hw => ?_) (fun w hw => ?_) hZ.1 hZ.2 va_S.rf (hl.1.trans hml.symm) dX1_out_19 dX1_out_22 dX1_out_23 dX1_out_26 (fun x hx => ?_) (by show 2 + 3 < fE + 6; omega) (by show 0 + (13 * (2 + 1) + 42) ≤ lE + 150; omega) (Nat.le_refl _) (Nat.le_refl _) hlocks (fun t hal hle hk => ⟨rfl, hz, hz, fun a ha => hk a (by rw [hz]; exact ha)⟩) (fun z hz => nomatch hz) (Nat.le_refl _) (Nat.le_refl _)
    · obtain ⟨⟨k1, k2 | k2⟩, -⟩ := key w hw
      · exact hts w (lw_g k1 k2)
      · exact va_Nw.use k2.2 (hS.2.1 w k1 k2.1)
    · rcases List.mem_cons.mp hw with rfl | hw
      · decide +kernel
      · rcases List.mem_cons.mp hw with rfl | hw
        · decide +kernel
        · exact (key w hw).2
    · have hz9 : c.exceptionTable = #[] := Array.isEmpty_iff.mp hem
      rw [hz9] at hx
      cases hx
end OUTN
