/-! THE COMPONENT's side: lists; what is told of homes and houses; a register and its row -/
section PL
variable {h h1 : AH} {E : bE} {a e n i : Nat} {f : Nat → Nat}
theorem LstC.o {cap : Nat} (L : LstC h a e n f cap) : isO h a 11 = true := by
  obtain ⟨m, g, q1, q2, q3⟩ := L
  simp [isO, q1]
theorem LstC.gS {cap : Nat} (L : LstC h a e n f cap) : gI h a 11 2 = some (nI n) := by
  obtain ⟨m, g, q1, q2, q3⟩ := L
  simp [gI, rd, q1, vI]
theorem LstC.size {cap : Nat} (L : LstC h a e n f cap) : f_J2_size E h a = some (nI n) := by
  simp only [f_J2_size, L.gS, Option.bind_some]
theorem LstC.get {cap : Nat} (L : LstC h a e n f cap) (hi : i < n) : f_J2_get E h a (nI i) = some (f i) := by
  obtain ⟨m, g, q1, q2, q3, q4, q5, q6⟩ := id L
  have h1 : gA h a 11 1 = some e := by simp [gA, rd, q1, vR]
  have h2 : aR h e 4 (nI i) = some (f i) := by
    simp only [aR, arR, q2, if_true, Option.bind_some]
    rw [gdn ⟨by omega, by omega⟩, nI_clamp (by omega)]
    exact q6.1 i hi
  simp only [f_J2_get, L.gS, Option.bind_some, f_J3_checkIndex, f_J4_checkIndex]
  rw [if_neg (nI_pos (by omega)), if_pos (nI_lt hi (by omega))]
  simp only [Option.bind_some, L.o, gdT, f_J2_elementData, h1, h2]
theorem LstA.o (L : LstA h a e n f) : isO h a 11 = true := L.choose_spec.o
theorem LstA.gS (L : LstA h a e n f) : gI h a 11 2 = some (nI n) := L.choose_spec.gS
theorem LstA.size (L : LstA h a e n f) : f_J2_size E h a = some (nI n) := L.choose_spec.size
theorem LstA.get (L : LstA h a e n f) (hi : i < n) : f_J2_get E h a (nI i) = some (f i) := L.choose_spec.get hi
end PL
def oFs (aH aP rN rA aQ : Nat) (st fk fa : Int32) (kn ln tp : Nat) (td : Int32) (ou : Nat) : List Value := [.ref aH, .ref aP, .ref rN, .ref rA, .ref aQ, .int st, .int fk, .int fa, .ref kn, .ref ln, .ref tp, .int td, .ref ou]
/-- the homes and houses of the lists aH, aP are those of the row w -/
def Told (h : AH) (aH eH aP eP : Nat) (hm hs nh np tl : Nat → Nat) (w : Rw) : Prop :=
  LstA h aH eH (nH w) hm ∧ LstA h aP eP (nP w) hs ∧
  (∀ i, i < nH w → h (hm i) = some (.inr (.inl (5, [.ref (nh i), .int (hF w i 0), .int (hF w i 1)])))) ∧
  (∀ p, p < nP w → h (hs p) = some (.inr (.inl (6, [.ref (np p), .ref (tl p)]))) ∧ ∃ t : Nat → Int32, h (tl p) = some (.inl (0, 4, .inl t)) ∧ t 0 = pF w p 0 ∧ t 2 = pF w p 2 ∧ t 3 = pF w p 3)
def ObjO (h : AH) (o aH aP rN rA : Nat) : Prop := ∃ (aQ : Nat) (st fk fa : Int32) (kn ln tp : Nat) (td : Int32) (ou : Nat), h o = some (.inr (.inl (0, oFs aH aP rN rA aQ st fk fa kn ln tp td ou)))
section PT
variable {h : AH} {E : bE} {o aH eH aP eP rN rA i p : Nat} {hm hs nh np tl : Nat → Nat} {w : Rw}
theorem ObjO.i0 (O : ObjO h o aH aP rN rA) : isO h o 0 = true := by
  obtain ⟨aQ, st, fk, fa, kn, ln, tp, td, ou, q⟩ := O
  simp [isO, q]
theorem ObjO.g0 (O : ObjO h o aH aP rN rA) : gA h o 0 0 = some aH := by
  obtain ⟨aQ, st, fk, fa, kn, ln, tp, td, ou, q⟩ := O
  simp [gA, rd, q, oFs, vR]
theorem ObjO.g1 (O : ObjO h o aH aP rN rA) : gA h o 0 1 = some aP := by
  obtain ⟨aQ, st, fk, fa, kn, ln, tp, td, ou, q⟩ := O
  simp [gA, rd, q, oFs, vR]
theorem ObjO.g2 (O : ObjO h o aH aP rN rA) : gA h o 0 2 = some rN := by
  obtain ⟨aQ, st, fk, fa, kn, ln, tp, td, ou, q⟩ := O
  simp [gA, rd, q, oFs, vR]
theorem ObjO.g3 (O : ObjO h o aH aP rN rA) : gA h o 0 3 = some rA := by
  obtain ⟨aQ, st, fk, fa, kn, ln, tp, td, ou, q⟩ := O
  simp [gA, rd, q, oFs, vR]
theorem Told.homeAt (O : ObjO h o aH aP rN rA) (T : Told h aH eH aP eP hm hs nh np tl w) (hi : i < nH w) : f_X1_homeAt E h o (nI i) = some (hm i) := by
  have h1 := T.2.2.1 i hi
  simp only [f_X1_homeAt, O.g0, Option.bind_some, T.1.o, gdT, T.1.get hi]
  rw [show isO h (hm i) 5 = true by simp [isO, h1]]
  rfl
theorem Told.houseAt (O : ObjO h o aH aP rN rA) (T : Told h aH eH aP eP hm hs nh np tl w) (hi : p < nP w) : f_X1_houseAt E h o (nI p) = some (hs p) := by
  have h1 := (T.2.2.2 p hi).1
  simp only [f_X1_houseAt, O.g1, Option.bind_some, T.2.1.o, gdT, T.2.1.get hi]
  rw [show isO h (hs p) 6 = true by simp [isO, h1]]
  rfl
theorem Told.rooms (T : Told h aH eH aP eP hm hs nh np tl w) (hi : i < nH w) : gI h (hm i) 5 1 = some (hF w i 0) := by
  simp [gI, rd, T.2.2.1 i hi, vI]
theorem Told.ward (T : Told h aH eH aP eP hm hs nh np tl w) (hi : i < nH w) : gI h (hm i) 5 2 = some (hF w i 1) := by
  simp [gI, rd, T.2.2.1 i hi, vI]
theorem Told.o6 (T : Told h aH eH aP eP hm hs nh np tl w) (hp : p < nP w) : isO h (hs p) 6 = true := by
  simp [isO, (T.2.2.2 p hp).1]
theorem Told.band (T : Told h aH eH aP eP hm hs nh np tl w) (hp : p < nP w) : f_X7_band E h (hs p) = some (pF w p 0) := by
  obtain ⟨h1, t, h2, h3, h4, h5⟩ := T.2.2.2 p hp
  have g1 : gA h (hs p) 6 1 = some (tl p) := by simp [gA, rd, h1, vR]
  simp only [f_X7_band, g1, Option.bind_some, aI, arI, h2, if_true]
  rw [show (0 : Int32) = nI 0 from rfl, gdn ⟨by decide, by decide⟩, nI_clamp (by decide), h3]
  rfl
theorem Told.tie (T : Told h aH eH aP eP hm hs nh np tl w) (hp : p < nP w) : f_X7_tie E h (hs p) = some (pF w p 2) := by
  obtain ⟨h1, t, h2, h3, h4, h5⟩ := T.2.2.2 p hp
  have g1 : gA h (hs p) 6 1 = some (tl p) := by simp [gA, rd, h1, vR]
  simp only [f_X7_tie, g1, Option.bind_some, aI, arI, h2, if_true]
  rw [gdn ⟨by decide, by decide⟩, nI_clamp (by decide), h4]
  rfl
theorem Told.day (T : Told h aH eH aP eP hm hs nh np tl w) (hp : p < nP w) : f_X7_day E h (hs p) = some (pF w p 3) := by
  obtain ⟨h1, t, h2, h3, h4, h5⟩ := T.2.2.2 p hp
  have g1 : gA h (hs p) 6 1 = some (tl p) := by simp [gA, rd, h1, vR]
  simp only [f_X7_day, g1, Option.bind_some, aI, arI, h2, if_true]
  rw [gdn ⟨by decide, by decide⟩, nI_clamp (by decide), h5]
  rfl
end PT
