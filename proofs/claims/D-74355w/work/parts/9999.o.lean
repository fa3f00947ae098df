/-! the law's acts, one by one -/
section TAK
variable {h0 h : AH} {nx0 nx x j n eP cP eB tp mh mp : Nat} {zs : Nat → Nat} {m m' : MOr} {A : Nat → Nat} {I : Nat → Int32} {M : Nat → Prop} {P : Nat → Rw} {B : Nat → Nat → Nat} {C : Nat → hE} {T : List Int32} {tb : Nat → Int32} {a b c : Int32} {w : Rw}
theorem TPr.n12 (X : TPr h0 nx0 zs x h nx m j A I M n P B eP cP eB C T tb tp mh mp) : n ≤ 12 := X.sys.2.2.2.2.2.2.2.2.2.1
theorem t_bid (X : TPr h0 nx0 zs x h nx m j A I M n P B eP cP eB C T tb tp mh mp)  : ∃ v th' st' ac' nw' kp', f_X3_bid m.th m.st m.ac m.nw m.kp a b = some (v, th', st', ac', nw', kp') ∧ Ans h0 nx0 zs x nx (j + 1) (f_X1_bid (dE zs 20) h nx x a b) v (mkM th' m.tp st' m.fk m.fp ac' m.si m.fr m.tt m.kd m.nu m.fa m.pl m.fo m.wd m.ci m.gr m.lm m.om nw' m.rd m.aa kp' m.ta m.nm m.rn m.gv m.gt m.rw m.rh m.lg m.lh m.ou) := by
  obtain rfl : A 0 = x := X.a0
  rw [X.ac]
  exact X.act (m_bid X.gd X.kp X.n12) (y_bid (m := 19) X.sys X.gd X.pz) (fun z e => iv_bid X.inv e)
theorem t_unbid (X : TPr h0 nx0 zs x h nx m j A I M n P B eP cP eB C T tb tp mh mp)  : ∃ v th' st' ac' nw' kp', f_X3_unbid m.th m.st m.ac m.nw m.kp a b = some (v, th', st', ac', nw', kp') ∧ Ans h0 nx0 zs x nx (j + 1) (f_X1_unbid (dE zs 20) h nx x a b) v (mkM th' m.tp st' m.fk m.fp ac' m.si m.fr m.tt m.kd m.nu m.fa m.pl m.fo m.wd m.ci m.gr m.lm m.om nw' m.rd m.aa kp' m.ta m.nm m.rn m.gv m.gt m.rw m.rh m.lg m.lh m.ou) := by
  obtain rfl : A 0 = x := X.a0
  rw [X.ac]
  exact X.act (m_unbid X.gd X.kp X.n12) (y_unbid (m := 19) X.sys X.gd X.pz) (fun z e => iv_unbid X.inv e)
theorem t_week (X : TPr h0 nx0 zs x h nx m j A I M n P B eP cP eB C T tb tp mh mp) (hw : wN m.nw 232 < 999) : ∃ v th' st' ac' nw' kp', f_X3_week m.th m.st m.ac m.nw m.kp  = some (v, th', st', ac', nw', kp') ∧ Ans h0 nx0 zs x nx (j + 1) (f_X1_week (dE zs 20) h nx x ) v (mkM th' m.tp st' m.fk m.fp ac' m.si m.fr m.tt m.kd m.nu m.fa m.pl m.fo m.wd m.ci m.gr m.lm m.om nw' m.rd m.aa kp' m.ta m.nm m.rn m.gv m.gt m.rw m.rh m.lg m.lh m.ou) := by
  obtain rfl : A 0 = x := X.a0
  rw [X.ac]
  exact X.act (m_week X.gd X.kp X.n12) (y_week (m := 15) X.sys X.gd X.pz hw) (fun z e => iv_week X.inv hw e)
theorem t_rules (X : TPr h0 nx0 zs x h nx m j A I M n P B eP cP eB C T tb tp mh mp)  : ∃ v th' st' ac' nw' kp', f_X3_rules m.th m.st m.ac m.nw m.kp a b = some (v, th', st', ac', nw', kp') ∧ Ans h0 nx0 zs x nx (j + 1) (f_X1_rules (dE zs 20) h nx x a b) v (mkM th' m.tp st' m.fk m.fp ac' m.si m.fr m.tt m.kd m.nu m.fa m.pl m.fo m.wd m.ci m.gr m.lm m.om nw' m.rd m.aa kp' m.ta m.nm m.rn m.gv m.gt m.rw m.rh m.lg m.lh m.ou) := by
  obtain rfl : A 0 = x := X.a0
  rw [X.ac]
  exact X.act (m_rules X.gd X.kp X.n12) (y_rules  X.sys X.gd X.pz X.zst) (fun z e => iv_rules X.inv e)
theorem t_leave (X : TPr h0 nx0 zs x h nx m j A I M n P B eP cP eB C T tb tp mh mp)  : ∃ v th' st' ac' nw' kp', f_X3_leave m.th m.st m.ac m.nw m.kp a = some (v, th', st', ac', nw', kp') ∧ Ans h0 nx0 zs x nx (j + 1) (f_X1_leave (dE zs 20) h nx x a) v (mkM th' m.tp st' m.fk m.fp ac' m.si m.fr m.tt m.kd m.nu m.fa m.pl m.fo m.wd m.ci m.gr m.lm m.om nw' m.rd m.aa kp' m.ta m.nm m.rn m.gv m.gt m.rw m.rh m.lg m.lh m.ou) := by
  obtain rfl : A 0 = x := X.a0
  rw [X.ac]
  exact X.act (m_leave X.gd X.kp X.n12 (fun p hp hi => ⟨(inv_leave X.inv hp hi).1.1, (inv_leave X.inv hp hi).2.1⟩)) (y_leave (m := 19) X.sys X.gd X.pz (fun p hp hi => ⟨(inv_leave X.inv hp hi).1.1, (inv_leave X.inv hp hi).2.1⟩)) (fun z e => iv_leave X.inv e)
theorem t_shut (X : TPr h0 nx0 zs x h nx m j A I M n P B eP cP eB C T tb tp mh mp) (hb : b = 0 ∨ b = 1) : ∃ v th' st' ac' nw' kp', f_X3_shut m.th m.st m.ac m.nw m.kp a b = some (v, th', st', ac', nw', kp') ∧ Ans h0 nx0 zs x nx (j + 1) (f_X1_shut (dE zs 20) h nx x a b) v (mkM th' m.tp st' m.fk m.fp ac' m.si m.fr m.tt m.kd m.nu m.fa m.pl m.fo m.wd m.ci m.gr m.lm m.om nw' m.rd m.aa kp' m.ta m.nm m.rn m.gv m.gt m.rw m.rh m.lg m.lh m.ou) := by
  obtain rfl : A 0 = x := X.a0
  rw [X.ac]
  exact X.act (m_shut X.gd X.kp X.n12 hb) (y_shut (m := 19) X.sys X.gd X.inv.2.2.2 X.pz hb) (fun z e => iv_shut X.inv hb e)
theorem t_need (X : TPr h0 nx0 zs x h nx m j A I M n P B eP cP eB C T tb tp mh mp)  : ∃ v th' st' ac' nw' kp', f_X3_need m.th m.st m.ac m.nw m.kp a b = some (v, th', st', ac', nw', kp') ∧ Ans h0 nx0 zs x nx (j + 1) (f_X1_need (dE zs 20) h nx x a b) v (mkM th' m.tp st' m.fk m.fp ac' m.si m.fr m.tt m.kd m.nu m.fa m.pl m.fo m.wd m.ci m.gr m.lm m.om nw' m.rd m.aa kp' m.ta m.nm m.rn m.gv m.gt m.rw m.rh m.lg m.lh m.ou) := by
  obtain rfl : A 0 = x := X.a0
  rw [X.ac]
  exact X.act (m_need X.gd X.kp X.n12) (y_need  X.sys X.gd X.pz) (fun z e => iv_need X.inv e)
theorem t_wish (X : TPr h0 nx0 zs x h nx m j A I M n P B eP cP eB C T tb tp mh mp)  : ∃ v th' st' ac' nw' kp', f_X3_wish m.th m.st m.ac m.nw m.kp a b = some (v, th', st', ac', nw', kp') ∧ Ans h0 nx0 zs x nx (j + 1) (f_X1_wish (dE zs 20) h nx x a b) v (mkM th' m.tp st' m.fk m.fp ac' m.si m.fr m.tt m.kd m.nu m.fa m.pl m.fo m.wd m.ci m.gr m.lm m.om nw' m.rd m.aa kp' m.ta m.nm m.rn m.gv m.gt m.rw m.rh m.lg m.lh m.ou) := by
  obtain rfl : A 0 = x := X.a0
  rw [X.ac]
  exact X.act (m_wish X.gd X.kp X.n12) (y_wish  X.sys X.gd X.pz) (fun z e => iv_wish X.inv e)
theorem t_unwish (X : TPr h0 nx0 zs x h nx m j A I M n P B eP cP eB C T tb tp mh mp)  : ∃ v th' st' ac' nw' kp', f_X3_unwish m.th m.st m.ac m.nw m.kp a b = some (v, th', st', ac', nw', kp') ∧ Ans h0 nx0 zs x nx (j + 1) (f_X1_unwish (dE zs 20) h nx x a b) v (mkM th' m.tp st' m.fk m.fp ac' m.si m.fr m.tt m.kd m.nu m.fa m.pl m.fo m.wd m.ci m.gr m.lm m.om nw' m.rd m.aa kp' m.ta m.nm m.rn m.gv m.gt m.rw m.rh m.lg m.lh m.ou) := by
  obtain rfl : A 0 = x := X.a0
  rw [X.ac]
  exact X.act (m_unwish X.gd X.kp X.n12) (y_unwish  X.sys X.gd X.pz) (fun z e => iv_unwish X.inv e)
theorem t_auto (X : TPr h0 nx0 zs x h nx m j A I M n P B eP cP eB C T tb tp mh mp) : ∃ v th' st' ac' nw' aa' kp', f_X3_auto m.th m.st m.ac m.nw m.aa m.kp = some (v, th', st', ac', nw', aa', kp') ∧ Ans h0 nx0 zs x nx (j + 1) (f_X1_auto (dE zs 20) h nx x) v (mkM th' m.tp st' m.fk m.fp ac' m.si m.fr m.tt m.kd m.nu m.fa m.pl m.fo m.wd m.ci m.gr m.lm m.om nw' m.rd aa' kp' m.ta m.nm m.rn m.gv m.gt m.rw m.rh m.lg m.lh m.ou) := by
  obtain rfl : A 0 = x := X.a0
  rw [X.ac]
  have e1 := m_auto (th := m.th) (st := m.st) (aa := m.aa) X.gd X.kp X.n12
  have e2 := y_auto (m := 19) X.sys X.gd X.pz
  have hi := fun z e => iv_auto (z := z) X.inv e
  have up : ∀ i, i < n → Inv (P i) ∧ wN (P i) 232 ≤ j + 1 := fun i hi => ⟨(X.invP i hi).1, Nat.le_succ_of_le (X.invP i hi).2⟩
  have wk := X.wk
  generalize sp_auto m.nw = sp at e1 e2 hi
  cases sp with
  | inl r =>
    obtain ⟨aa', e1⟩ := e1
    have Hc : SA A I M eB h nx (f_X1_auto (dE zs 20) h nx (A 0)) (-1) r m.nw n P C := e2
    exact ⟨_, _, _, _, _, _, _, e1, X.sa (m' := (mkM 0 m.tp r m.fk m.fp (nI n) m.si m.fr m.tt m.kd m.nu m.fa m.pl m.fo m.wd m.ci m.gr m.lm m.om (m.nw) m.rd aa' (m.kp) m.ta m.nm m.rn m.gv m.gt m.rw m.rh m.lg m.lh m.ou)) Hc rfl RE.rf' X.kp rfl X.inv (by omega) up ⟨rfl, rfl, rfl, rfl, rfl, rfl, rfl⟩⟩
  | inr z =>
    obtain ⟨kp', aa', e1, K⟩ := e1
    have Hc : SA A I M eB h nx (f_X1_auto (dE zs 20) h nx (A 0)) z.1 0 z.2 (psN n) (psP n P m.nw) C := e2
    obtain ⟨i1, i2⟩ := hi z rfl
    exact ⟨_, _, _, _, _, _, _, e1, X.sa (m' := (mkM 0 m.tp 0 m.fk m.fp (nI (psN n)) m.si m.fr m.tt m.kd m.nu m.fa m.pl m.fo m.wd m.ci m.gr m.lm m.om (z.2) m.rd aa' kp' m.ta m.nm m.rn m.gv m.gt m.rw m.rh m.lg m.lh m.ou)) Hc rfl RE.rf' K rfl i1 (by omega) (psP_all (Q := fun w => Inv w ∧ wN w 232 ≤ j + 1) X.n12 up ⟨X.inv, by omega⟩) ⟨rfl, rfl, rfl, rfl, rfl, rfl, rfl⟩⟩
end TAK
