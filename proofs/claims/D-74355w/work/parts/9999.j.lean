/-! the law's acts -/
section TAC
variable {h0 h : AH} {nx0 nx x jx j n eP cP eB tp mh mp : Nat} {zs : Nat → Nat} {m m' : MOr} {A : Nat → Nat} {I : Nat → Int32} {M : Nat → Prop} {P : Nat → Rw} {B : Nat → Nat → Nat} {C : Nat → hE} {T : List Int32} {tb : Nat → Int32} {f : Option (Int32 × AH × Nat × Nat)} {a b c : Int32} {w : Rw}
theorem psP_all {Q : Rw → Prop} (hn : n ≤ 12) (h1 : ∀ i, i < n → Q (P i)) (h2 : Q w) : ∀ i, i < psN n → Q (psP n P w i) := by
  intro i hi
  unfold psN at hi
  unfold psP
  split
  · exact h2
  · rename_i e
    have : psS n ≤ n := by unfold psS; split <;> omega
    exact h1 _ (by omega)
/-- an act of both sides, refused or done -/
theorem TPr.act (X : TPr h0 nx0 zs x h nx m j A I M n P B eP cP eB C T tb tp mh mp) {f3 : Option (Int32 × Int32 × Int32 × Int32 × Rw × Rw)} {sp : Sum Int32 (Int32 × Rw)} (Hm : MA f3 n P m.nw m.kp sp) (Hc : CA A I M eB h nx f m.nw n P C sp) (hi : ∀ z, sp = .inr z → Inv z.2 ∧ wN z.2 232 ≤ wN m.nw 232 + 1) : ∃ v th' st' ac' nw' kp', f3 = some (v, th', st', ac', nw', kp') ∧ Ans h0 nx0 zs x nx (j + 1) f v (mkM th' m.tp st' m.fk m.fp ac' m.si m.fr m.tt m.kd m.nu m.fa m.pl m.fo m.wd m.ci m.gr m.lm m.om nw' m.rd m.aa kp' m.ta m.nm m.rn m.gv m.gt m.rw m.rh m.lg m.lh m.ou) := by
  have n12 : n ≤ 12 := X.sys.2.2.2.2.2.2.2.2.2.1
  cases sp with
  | inl r =>
    have Hm : f3 = some (-1, 0, r, nI n, m.nw, m.kp) := Hm
    have Hc : SA A I M eB h nx f (-1) r m.nw n P C := Hc
    exact ⟨_, _, _, _, _, _, Hm, X.sa (m' := (mkM 0 m.tp r m.fk m.fp (nI n) m.si m.fr m.tt m.kd m.nu m.fa m.pl m.fo m.wd m.ci m.gr m.lm m.om (m.nw) m.rd m.aa (m.kp) m.ta m.nm m.rn m.gv m.gt m.rw m.rh m.lg m.lh m.ou)) Hc rfl RE.rf' X.kp rfl X.inv (Nat.le_succ_of_le X.wk) (fun i hi => ⟨(X.invP i hi).1, Nat.le_succ_of_le (X.invP i hi).2⟩) ⟨rfl, rfl, rfl, rfl, rfl, rfl, rfl⟩⟩
  | inr z =>
    obtain ⟨kp', Hm, K⟩ := (Hm : ∃ kp', f3 = some (z.1, 0, 0, nI (psN n), z.2, kp') ∧ KPR kp' (psN n) (psP n P m.nw))
    have Hc : SA A I M eB h nx f z.1 0 z.2 (psN n) (psP n P m.nw) C := Hc
    obtain ⟨i1, i2⟩ := hi z rfl
    have wk := X.wk
    exact ⟨_, _, _, _, _, _, Hm, X.sa (m' := (mkM 0 m.tp 0 m.fk m.fp (nI (psN n)) m.si m.fr m.tt m.kd m.nu m.fa m.pl m.fo m.wd m.ci m.gr m.lm m.om (z.2) m.rd m.aa kp' m.ta m.nm m.rn m.gv m.gt m.rw m.rh m.lg m.lh m.ou)) Hc rfl RE.rf' K rfl i1 (by omega) (psP_all (Q := fun w => Inv w ∧ wN w 232 ≤ j + 1) n12 (fun i hi => ⟨(X.invP i hi).1, Nat.le_succ_of_le (X.invP i hi).2⟩) ⟨X.inv, Nat.le_succ_of_le X.wk⟩) ⟨rfl, rfl, rfl, rfl, rfl, rfl, rfl⟩⟩
theorem t_undo (X : TPr h0 nx0 zs x h nx m j A I M n P B eP cP eB C T tb tp mh mp) : ∃ v th' st' ac' nw', f_X3_undo m.kp m.th m.st m.ac m.nw = some (v, th', st', ac', nw') ∧ Ans h0 nx0 zs x nx (j + 1) (f_X1_undo (dE zs 20) h nx x) v (mkM th' m.tp st' m.fk m.fp ac' m.si m.fr m.tt m.kd m.nu m.fa m.pl m.fo m.wd m.ci m.gr m.lm m.om nw' m.rd m.aa m.kp m.ta m.nm m.rn m.gv m.gt m.rw m.rh m.lg m.lh m.ou) := by
  obtain rfl : A 0 = x := X.a0
  have n12 : n ≤ 12 := X.sys.2.2.2.2.2.2.2.2.2.1
  obtain ⟨nw', e1, e2⟩ := m_undo (th := m.th) (st := m.st) (w := m.nw) X.kp n12
  rw [X.ac]
  have hq : Inv (if n = 0 then m.nw else P (n - 1)) ∧ wN (if n = 0 then m.nw else P (n - 1)) 232 ≤ j + 1 := by
    split
    · exact ⟨X.inv, Nat.le_succ_of_le X.wk⟩
    · exact ⟨(X.invP _ (by omega)).1, Nat.le_succ_of_le (X.invP _ (by omega)).2⟩
  refine ⟨_, _, _, _, nw', e1, X.sa (m' := (mkM 0 m.tp ((an_undo n).2) m.fk m.fp (nI (n - 1)) m.si m.fr m.tt m.kd m.nu m.fa m.pl m.fo m.wd m.ci m.gr m.lm m.om nw' m.rd m.aa m.kp m.ta m.nm m.rn m.gv m.gt m.rw m.rh m.lg m.lh m.ou)) (y_undo X.sys) rfl e2 (fun i k hi hk => X.kp i k (by omega) hk) rfl hq.1 hq.2 (fun i hi => ⟨(X.invP i (by omega)).1, Nat.le_succ_of_le (X.invP i (by omega)).2⟩) ⟨rfl, rfl, rfl, rfl, rfl, rfl, rfl⟩⟩
theorem t_status (X : TPr h0 nx0 zs x h nx m j A I M n P B eP cP eB C T tb tp mh mp) {E : bE} : f_X1_status E h x = some m.st ∧ f_X3_status m.st m.th = some (m.st, 0) := by
  obtain rfl : A 0 = x := X.a0
  exact ⟨y_status X.sn, rfl⟩
theorem t_fault (X : TPr h0 nx0 zs x h nx m j A I M n P B eP cP eB C T tb tp mh mp) {E : bE} : ∃ v, f_X1_fault E h x a = some v ∧ f_X3_fault m.fk m.fp m.th a = some (v, 0) := by
  obtain rfl : A 0 = x := X.a0
  refine ⟨_, y_fault X.sn, ?_⟩
  rw [m_fault, X.i0, X.i1]
end TAC
