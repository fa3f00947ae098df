/-! the law's load -/
section TLD
variable {h0 h : AH} {nx0 nx x jx j n eP cP eB tp mh mp : Nat} {zs : Nat → Nat} {m m' : MOr} {A : Nat → Nat} {I : Nat → Int32} {M : Nat → Prop} {P : Nat → Rw} {B : Nat → Nat → Nat} {C : Nat → hE} {T : List Int32} {tb : Nat → Int32} {f : Option (Int32 × AH × Nat × Nat)} {a b c d e : Int32} {w : Rw}
theorem t_load (X : TPr h0 nx0 zs x h nx m j A I M n P B eP cP eB C T tb tp mh mp) : ∃ v th' tp' st' fk' fp' ac' si' fr' tt' kd' nu' fa' pl' wd' nw' rd' nm' rn', f_X3_load m.ta m.th m.tp m.st m.fk m.fp m.ac m.si m.fr m.tt m.kd m.nu m.fa m.pl m.wd m.nw m.rd m.nm m.rn a = some (v, th', tp', st', fk', fp', ac', si', fr', tt', kd', nu', fa', pl', wd', nw', rd', nm', rn') ∧ Ans h0 nx0 zs x nx (j + 1) (f_X1_load (dE zs 20) h nx x a) v (mkM th' tp' st' fk' fp' ac' si' fr' tt' kd' nu' fa' pl' m.fo wd' m.ci m.gr m.lm m.om nw' rd' m.aa m.kp m.ta nm' rn' m.gv m.gt m.rw m.rh m.lg m.lh m.ou) := by
  obtain rfl : A 0 = x := X.a0
  have L := s_load (z := 20) (a0 := a) (th := m.th) (stm := m.st) (fk := m.fk) (fp := m.fp) (ac := m.ac) (si' := m.si) (fr := m.fr) (tt := m.tt) (kd := m.kd) (nu := m.nu) (fa := m.fa) (pl := m.pl) (wd := m.wd) (rx := m.rd) (nm := m.nm) (rn := m.rn) X.sys X.i2 X.tp9 X.c0 X.tape X.pz X.zst X.kn
  rw [← X.mtp] at L
  have up : ∀ i, i < n → Inv (P i) ∧ wN (P i) 232 ≤ j + 1 := fun i hi => ⟨(X.invP i hi).1, Nat.le_succ_of_le (X.invP i hi).2⟩
  rcases L with ⟨q, e1⟩ | ⟨fa', pl', x1, x2, x3, x4, x7, rd', rn', q, e1⟩ | ⟨h', c, d, A', M', B', eP', cP', w', nm', m', n', x1, x2, x3, x4, x7, rd', rn', q1, q2, q3, q4, q5, q6, q7, q8, q9, e1⟩
  · exact ⟨_, _, _, _, _, _, _, _, _, _, _, _, _, _, _, _, _, _, _, e1, X.sa (m' := (mkM 0 (nI tp) 1 m.fk m.fp m.ac m.si m.fr m.tt m.kd m.nu m.fa m.pl m.fo m.wd m.ci m.gr m.lm m.om m.nw m.rd m.aa m.kp m.ta m.nm m.rn m.gv m.gt m.rw m.rh m.lg m.lh m.ou)) q rfl RE.rf' X.kp X.ac X.inv (Nat.le_succ_of_le X.wk) up ⟨rfl, X.mtp.symm, rfl, rfl, rfl, rfl, rfl⟩⟩
  · obtain ⟨h', c, d, A', M', B', eP', cP', q1, q2, q3, q4, q5, q6⟩ := q
    obtain ⟨k1, k2, k3, k4⟩ := X.keep q3 q4
    refine ⟨_, _, _, _, _, _, _, _, _, _, _, _, _, _, _, _, _, _, _, e1, h', c, d, q1, q5, q6, A', upd (upd (upd I 2 0) 0 fa') 1 pl', M', n, P, B', eP', cP', eB, C, T, tb, 0, mh, mp, ?_⟩
    exact (TPr.ofk (a0 := q4 0 (Or.inl rfl)) (sys := q2) (kp := X.kp) (ac := X.ac) (inv := X.inv) (invP := up) (wk := Nat.le_succ_of_le X.wk) (tape := X.tape) (c0 := X.c0) (i2 := rfl) (mtp := rfl) (tp9 := by omega) (i0 := rfl) (i1 := rfl) (oc := X.oc) (om := X.om) (tl := X.tl) (ou := X.ou) (hd := by rw [q4 12 (by omega), q4 13 (by omega)]; exact X.hd) (kn := k1) (nms := k2) (st0 := X.st0) (oldn := k3) (old := k4))
  · have k3 := Nat.le_trans X.oldn q3.1
    have k4 : ∀ q, q < nx0 → ¬ M' q ∧ h' q = h0 q := fun q hq => by
      obtain ⟨o1, o2⟩ := X.old q hq
      have hq2 : NI nx M q := ⟨Nat.lt_of_lt_of_le hq X.oldn, o1⟩
      exact ⟨(q3.i hq2).2, (q3.k hq2).trans o2⟩
    refine ⟨_, _, _, _, _, _, _, _, _, _, _, _, _, _, _, _, _, _, _, e1, h', c, d, q1, q8, q9, A', upd (upd (upd I 2 0) 0 0) 1 (-1), M', 0, P, B', eP', cP', eB, C, T, tb, 0, m', n', ?_⟩
    exact (TPr.ofk (a0 := q4 0 (Or.inl rfl)) (sys := q2) (kp := fun i k hi => absurd hi (by omega)) (ac := rfl) (inv := q6) (invP := fun i hi => absurd hi (by omega)) (wk := by show wN w' 232 ≤ j + 1; omega) (tape := X.tape) (c0 := X.c0) (i2 := rfl) (mtp := rfl) (tp9 := by omega) (i0 := rfl) (i1 := rfl) (oc := X.oc) (om := X.om) (tl := X.tl) (ou := X.ou) (hd := by rw [q4 12 (by omega), q4 13 (by omega)]; exact X.hd) (kn := X.kn.ms q3 (q4 10 (by omega)) (q4 11 (by omega))) (nms := q5) (st0 := X.st0) (oldn := k3) (old := k4))
end TLD
