/-! the law's feed, print, out, load -/
section TFD
variable {h0 h : AH} {nx0 nx x jx j n eP cP eB tp mh mp : Nat} {zs : Nat → Nat} {m m' : MOr} {A : Nat → Nat} {I : Nat → Int32} {M : Nat → Prop} {P : Nat → Rw} {B : Nat → Nat → Nat} {C : Nat → hE} {T : List Int32} {tb : Nat → Int32} {f : Option (Int32 × AH × Nat × Nat)} {a b c d e : Int32} {w : Rw}
theorem txt_len {nm : Nat → Int64} (Z : Rng w) : (txt w nm).length ≤ 1800 := by
  have b1 := Z.gH.2
  have b2 := Z.gP.2
  have l1 := apN_len (B := ruL w) (m := 18) 6 (fun i hi => ruL_len hi)
  have l2 := apN_len (B := hoL w nm) (m := 25) (nH w) (fun i hi => hoL_len)
  have l3 := apN_len (B := hsL w nm) (m := 110) (nP w) (fun i hi => hsL_len (Z.p11 (p := i) (by omega)).2)
  unfold txt
  rw [List.length_append, List.length_append]
  omega
theorem TPr.up (X : TPr h0 nx0 zs x h nx m j A I M n P B eP cP eB C T tb tp mh mp) (st th : Int32) (hst : m.st = st) : TOPr h0 nx0 zs x h nx (mkM th m.tp m.st m.fk m.fp m.ac m.si m.fr m.tt m.kd m.nu m.fa m.pl m.fo m.wd m.ci m.gr m.lm m.om m.nw m.rd m.aa m.kp m.ta m.nm m.rn m.gv m.gt m.rw m.rh m.lg m.lh m.ou) (j + 1) :=
  ⟨A, I, M, n, P, B, eP, cP, eB, C, T, tb, tp, mh, mp, (TPr.ofk (a0 := X.a0) (sys := X.sys) (kp := X.kp) (ac := X.ac) (inv := X.inv) (invP := fun i hi => ⟨(X.invP i hi).1, Nat.le_succ_of_le (X.invP i hi).2⟩) (wk := Nat.le_succ_of_le X.wk) (tape := X.tape) (c0 := X.c0) (i2 := X.i2) (mtp := X.mtp) (tp9 := X.tp9) (i0 := X.i0) (i1 := X.i1) (oc := X.oc) (om := X.om) (tl := X.tl) (ou := X.ou) (hd := X.hd) (kn := X.kn) (nms := X.nms) (st0 := X.st0) (oldn := X.oldn) (old := X.old))⟩
theorem t_print (X : TPr h0 nx0 zs x h nx m j A I M n P B eP cP eB C T tb tp mh mp) : ∃ v th' st' om' ou', f_X3_print m.nw m.nm m.th m.st m.om m.ou = some (v, th', st', om', ou') ∧ Ans h0 nx0 zs x nx (j + 1) (f_X1_print (dE zs 20) h nx x) v (mkM th' m.tp st' m.fk m.fp m.ac m.si m.fr m.tt m.kd m.nu m.fa m.pl m.fo m.wd m.ci m.gr m.lm om' m.nw m.rd m.aa m.kp m.ta m.nm m.rn m.gv m.gt m.rw m.rh m.lg m.lh ou') := by
  obtain rfl : A 0 = x := X.a0
  have G := X.inv.1
  obtain ⟨ou', e1, e2⟩ := m_print (nm := m.nm) (th := m.th) (st := m.st) (ou := m.ou) (om := m.om) G.1 G.2.1
  obtain ⟨h', c, d, M', eB', C', q1, q2, q3, q4, q5, q6, q7, q8⟩ := y_print (m := 20) X.sys G X.kn X.nms X.dgs X.oc X.hd
  obtain ⟨k1, k2, k3, k4⟩ := X.keep q3 (A' := A) (fun _ _ => rfl)
  have hl : (txt m.nw m.nm).length ≤ 1800 := txt_len G.1
  exact ⟨_, _, _, _, ou', e1, h', c, d, q1, q7, q8, A, I, M', n, P, B, eP, cP, eB', C', txt m.nw m.nm, tb, tp, mh, mp, (TPr.ofk (a0 := rfl) (sys := q2) (kp := X.kp) (ac := X.ac) (inv := X.inv) (invP := fun i hi => ⟨(X.invP i hi).1, Nat.le_succ_of_le (X.invP i hi).2⟩) (wk := Nat.le_succ_of_le X.wk) (tape := X.tape) (c0 := q4.trans X.c0) (i2 := X.i2) (mtp := X.mtp) (tp9 := X.tp9) (i0 := X.i0) (i1 := X.i1) (oc := q5) (om := rfl) (tl := hl) (ou := e2) (hd := ⟨X.hd.1, q6⟩) (kn := k1) (nms := k2) (st0 := X.st0) (oldn := k3) (old := k4))⟩
theorem t_feed (X : TPr h0 nx0 zs x h nx m j A I M n P B eP cP eB C T tb tp mh mp) {E : bE} : ∃ v th' tp' ta', f_X3_feed m.th m.tp m.ta a b c d e = some (v, th', tp', ta') ∧ Ans h0 nx0 zs x nx (j + 1) (f_X1_feed E h nx x a b c d e) v (mkM th' tp' m.st m.fk m.fp m.ac m.si m.fr m.tt m.kd m.nu m.fa m.pl m.fo m.wd m.ci m.gr m.lm m.om m.nw m.rd m.aa m.kp ta' m.nm m.rn m.gv m.gt m.rw m.rh m.lg m.lh m.ou) := by
  obtain rfl : A 0 = x := X.a0
  have e1 := m_feed (th := m.th) (ta := m.ta) (a := a) (b := b) (c := c) (d := d) (e := e) X.tp9
  have e2 := y_feed (E := E) (a := a) (b := b) (c := c) (d := d) (e := e) X.sys X.i2 X.c0 X.hd X.tp9
  rw [X.mtp]
  by_cases ht : tp + 20 ≤ 900
  · rw [if_pos ht] at e1 e2
    obtain ⟨h', c', d', A', M', B', eP', cP', q1, q2, q3, q4, q5, q6⟩ := e2
    obtain ⟨k1, k2, k3, k4⟩ := X.keep q3 q4
    refine ⟨_, _, _, _, e1, h', c', d', q1, q5, q6, A', iT I (tp + 20), M', n, P, B', eP', cP', eB, cT C (fdW a b c d e tp tb), T, fdW a b c d e tp tb, tp + 20, mh, mp, ?_⟩
    exact (TPr.ofk (a0 := q4 0 (Or.inl rfl)) (sys := q2) (kp := X.kp) (ac := X.ac) (inv := X.inv) (invP := fun i hi => ⟨(X.invP i hi).1, Nat.le_succ_of_le (X.invP i hi).2⟩) (wk := Nat.le_succ_of_le X.wk) (tape := X.tape.fd) (c0 := if_pos rfl) (i2 := if_pos rfl) (mtp := rfl) (tp9 := ht) (i0 := X.i0) (i1 := X.i1) (oc := X.oc) (om := X.om) (tl := X.tl) (ou := X.ou) (hd := by rw [q4 12 (by omega), q4 13 (by omega)]; exact X.hd) (kn := k1) (nms := k2) (st0 := X.st0) (oldn := k3) (old := k4))
  · rw [if_neg ht] at e1 e2
    refine ⟨_, _, _, _, e1, h, 0, 0, e2, by omega, by omega, ?_⟩
    have Y := X.up m.st 0 rfl
    rw [show nI tp = m.tp from X.mtp.symm]
    exact Y
end TFD
