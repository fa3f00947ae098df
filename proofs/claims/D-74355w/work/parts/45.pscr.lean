/-! writes into a register; what stays -/
def ToldI (I : Nat → Prop) (aH eH aP eP : Nat) (hm hs tl : Nat → Nat) (w : Rw) : Prop := I aH ∧ I eH ∧ I aP ∧ I eP ∧ (∀ i, i < nH w → I (hm i)) ∧ ∀ p, p < nP w → I (hs p) ∧ I (tl p)
theorem Told.kept {h h1 : AH} {I : Nat → Prop} {aH eH aP eP : Nat} {hm hs nh np tl : Nat → Nat} {w : Rw} (T : Told h aH eH aP eP hm hs nh np tl w) (TI : ToldI I aH eH aP eP hm hs tl w) (hk : ∀ q, I q → h1 q = h q) : Told h1 aH eH aP eP hm hs nh np tl w := by
  obtain ⟨i1, i2, i3, i4, i5, i6⟩ := TI
  refine ⟨T.1.kept (hk _ i1) (hk _ i2), T.2.1.kept (hk _ i3) (hk _ i4), fun i hi => by rw [hk _ (i5 i hi)]; exact T.2.2.1 i hi, fun p hp => ?_⟩
  obtain ⟨h2, t, h3, h4⟩ := T.2.2.2 p hp
  exact ⟨by rw [hk _ (i6 p hp).1]; exact h2, t, by rw [hk _ (i6 p hp).2]; exact h3, h4⟩
theorem ObjO.kept {h h1 : AH} {o aH aP rN rA : Nat} (O : ObjO h o aH aP rN rA) (hk : h1 o = h o) : ObjO h1 o aH aP rN rA := by
  obtain ⟨aQ, st, fk, fa, kn, ln, tp, td, ou, q⟩ := O
  exact ⟨aQ, st, fk, fa, kn, ln, tp, td, ou, hk.trans q⟩
theorem LetsH.kept {h h1 : AH} {nl : Nat} {la : Nat → Nat} {w : Rw} (L : LetsH h nl la w) (hk : ∀ i, i < nL w → h1 (la i) = h (la i)) : LetsH h1 nl la w := ⟨L.1, fun i hi => by rw [hk i hi]; exact L.2 i hi⟩
def OffH (h : AH) (no : Nat) (oa : Nat → Nat) (w : Rw) : Prop := no = nO w ∧ ∀ i, i < nO w → ∃ g : Nat → Int32, h (oa i) = some (.inl (0, 3, .inl g)) ∧ g 0 = w (300 + 3 * i) ∧ g 1 = w (300 + 3 * i + 1) ∧ g 2 = w (300 + 3 * i + 2)
theorem OffH.kept {h h1 : AH} {no : Nat} {oa : Nat → Nat} {w : Rw} (L : OffH h no oa w) (hk : ∀ i, i < nO w → h1 (oa i) = h (oa i)) : OffH h1 no oa w := ⟨L.1, fun i hi => by rw [hk i hi]; exact L.2 i hi⟩
section PSC
variable {h h1 : AH} {o r eL eO_ : Nat} {F : Nat → Nat → Int32} {wk rf : Int32} {sc : Int32 × Int32 × Int32 × Int32} {nl : Nat} {la : Nat → Nat} {no : Nat} {oa : Nat → Nat} {cL cO : Nat}
/-- the same, where the heap is the same at the register's own cells -/
theorem RegH.kept (R : RegH h o r eL eO_ F wk rf sc nl la no oa cL cO) (hk : ∀ q, Own r eL eO_ q → h1 q = h q) : RegH h1 o r eL eO_ F wk rf sc nl la no oa cL cO := by
  obtain ⟨r1, r2, r3, r4, r5, r6, r7, r8⟩ := R
  refine ⟨by rw [hk r (Or.inl ⟨by omega, by omega⟩)]; exact r1, fun a ha => by rw [hk _ (Or.inl ⟨by omega, by omega⟩)]; exact r2 a ha, r3.kept (hk _ (Or.inl ⟨by omega, by omega⟩)) (hk _ (Or.inr (Or.inl rfl))), r4.kept (hk _ (Or.inl ⟨by omega, by omega⟩)) (hk _ (Or.inr (Or.inr rfl))), fun i h1 h2 => by rw [hk _ (Or.inl ⟨by omega, by omega⟩)]; exact r5 i h1 h2, r6, r7, r8⟩
theorem hu_at {h : AH} {a q : Nat} {e : hE} : hu h a e q = if q = a then some e else h q := rfl
/-- its own cell is written -/
theorem RegH.setO (R : RegH h o r eL eO_ F wk rf sc nl la no oa cL cO) (wk' rf' : Int32) (sc' : Int32 × Int32 × Int32 × Int32) : RegH (hu h r (.inr (.inl (1, rFs o r wk' rf' sc')))) o r eL eO_ F wk' rf' sc' nl la no oa cL cO := by
  obtain ⟨r1, r2, r3, r4, r5, r6, r7, r8⟩ := R
  have n1 : eL ≠ r := by unfold okE at r6; omega
  have n2 : eO_ ≠ r := by unfold okE at r7; omega
  refine ⟨hu_s, fun a ha => by rw [hu_n (by omega)]; exact r2 a ha, r3.kept (hu_n (by omega)) (hu_n n1), r4.kept (hu_n (by omega)) (hu_n n2), fun i h1 h2 => by rw [hu_n (by omega)]; exact r5 i h1 h2, r6, r7, r8⟩
theorem RegH.w19 (R : RegH h o r eL eO_ F wk rf sc nl la no oa cL cO) (v : Int32) : wr h r 1 19 (.int v) = some (hu h r (.inr (.inl (1, rFs o r wk rf (v, sc.2.1, sc.2.2.1, sc.2.2.2))))) := wr_at R.1 (by simp [rFs])
theorem RegH.w20 (R : RegH h o r eL eO_ F wk rf sc nl la no oa cL cO) (v : Int32) : wr h r 1 20 (.int v) = some (hu h r (.inr (.inl (1, rFs o r wk rf (sc.1, v, sc.2.2.1, sc.2.2.2))))) := wr_at R.1 (by simp [rFs])
theorem RegH.w21 (R : RegH h o r eL eO_ F wk rf sc nl la no oa cL cO) (v : Int32) : wr h r 1 21 (.int v) = some (hu h r (.inr (.inl (1, rFs o r wk rf (sc.1, sc.2.1, v, sc.2.2.2))))) := wr_at R.1 (by simp [rFs])
theorem RegH.w25 (R : RegH h o r eL eO_ F wk rf sc nl la no oa cL cO) (v : Int32) : wr h r 1 25 (.int v) = some (hu h r (.inr (.inl (1, rFs o r wk rf (sc.1, sc.2.1, sc.2.2.1, v))))) := wr_at R.1 (by simp [rFs])
theorem RegH.w17 (R : RegH h o r eL eO_ F wk rf sc nl la no oa cL cO) (v : Int32) : wr h r 1 17 (.int v) = some (hu h r (.inr (.inl (1, rFs o r v rf sc)))) := wr_at R.1 (by simp [rFs])
theorem RegH.w18 (R : RegH h o r eL eO_ F wk rf sc nl la no oa cL cO) (v : Int32) : wr h r 1 18 (.int v) = some (hu h r (.inr (.inl (1, rFs o r wk v sc)))) := wr_at R.1 (by simp [rFs])
/-- one of its rows is written -/
def uF (F : Nat → Nat → Int32) (a j : Nat) (v : Int32) : Nat → Nat → Int32 := fun b => if b = a then upd (F a) j v else F b
theorem RegH.setA (R : RegH h o r eL eO_ F wk rf sc nl la no oa cL cO) {a : Nat} (ha : a < 15) (f : Nat → Int32) : RegH (hu h (r + (a + 1)) (.inl (ak a, al a, .inl f))) o r eL eO_ (fun b => if b = a then f else F b) wk rf sc nl la no oa cL cO := by
  obtain ⟨r1, r2, r3, r4, r5, r6, r7, r8⟩ := R
  have n1 : eL ≠ r + (a + 1) := by unfold okE at r6; omega
  have n2 : eO_ ≠ r + (a + 1) := by unfold okE at r7; omega
  refine ⟨by rw [hu_n (by omega)]; exact r1, fun b hb => ?_, r3.kept (hu_n (by omega)) (hu_n n1), r4.kept (hu_n (by omega)) (hu_n n2), fun i h1 h2 => by rw [hu_n (by omega)]; exact r5 i h1 h2, r6, r7, r8⟩
  by_cases hab : b = a
  · subst hab
    rw [hu_s]; simp
  · rw [hu_n (by omega)]; simp only [if_neg hab]
    exact r2 b hb
theorem RegH.st (R : RegH h o r eL eO_ F wk rf sc nl la no oa cL cO) {a : Nat} (ha : a < 15) {j : Nat} (hj : j < al a) (v : Int32) : sI h (r + (a + 1)) (ak a) (nI j) v = some (hu h (r + (a + 1)) (.inl (ak a, al a, .inl (upd (F a) j v)))) := by
  have hal : al a < 2 ^ 31 := by unfold al; split; (decide); split; (decide); split <;> decide
  simp only [sI, arI, R.2.1 a ha, if_true, Option.bind_some]
  rw [gdn ⟨hj, hal⟩, nI_clamp (by omega)]
end PSC
