/-! the law's out -/
section TOU
variable {h0 h : AH} {nx0 nx x jx j n eP cP eB tp mh mp : Nat} {zs : Nat → Nat} {m m' : MOr} {A : Nat → Nat} {I : Nat → Int32} {M : Nat → Prop} {P : Nat → Rw} {B : Nat → Nat → Nat} {C : Nat → hE} {T : List Int32} {tb : Nat → Int32} {f : Option (Int32 × AH × Nat × Nat)} {a b c d e st : Int32} {w : Rw} {E : bE}
/-- what out reads: the object, its text -/
theorem y_outI (q0 : h (A 0) = some (oE A I st)) (s14 : h (A 13) = some (C 1)) (s15 : h eB = some (C 2)) (hC : OC C eB T) (ha : ir a 0 (nI T.length - 1) = true) : f_X1_out E h (A 0) a = some (T.getD a.toNatClampNeg 0) := by
  obtain ⟨N0, mb0, f0, c1, c2, c3, c4, c5, c6⟩ := hC
  rw [c1] at s14
  rw [c2] at s15
  obtain ⟨k, hk, rfl⟩ := (rg_t (by omega)).mp ha
  rw [nI_clamp (by omega)]
  have hT : ∃ n', T.length = n' + 1 := ⟨T.length - 1, by omega⟩
  have el : f_J8_length E h (A 13) = some (nI T.length) := by
    unfold f_J8_length f_J7_length
    rw [sbo s14, gdT, sb3 s14]; rfl
  obtain ⟨c, hc, ec⟩ := c6 (T.getD k 0) (by
    rw [List.getD_eq_getElem?_getD, List.getElem?_eq_getElem hk]
    exact List.getElem_mem hk)
  have hb : ∀ c, c < 128 → ((nI c &&& nI 255).toUInt32 % 65536).toInt32 = nI c ∧ isC (nI c) = true := by decide +kernel
  obtain ⟨hb1, hb2⟩ := hb c hc
  have mn : f_J6_min (nI T.length) (nI N0) = some (nI T.length) := min32 c4 (by omega)
  have ech : f_J8_charAt E h (A 13) (nI k) = some (T.getD k 0) := by
    unfold f_J8_charAt f_J7_charAt f_J9_checkIndex f_J4_checkIndex
    rw [sbo s14, gdT, sb1 s14, Option.bind_some, sb0 s14, Option.bind_some, sb3 s14, Option.bind_some, ca_len s15, Option.bind_some, sh_0, mn, Option.bind_some, if_neg (nI_pos (by omega)), if_pos (nI_lt hk (by omega)), Option.bind_some, Option.bind_some, if_pos rfl, aI_at s15 (by omega) (by omega), Option.bind_some, c3 k hk, ec, hb1, hb2, gdT, Option.bind_some, hb2, gdT]
  have g12 : gA h (A 0) 0 12 = some (A 13) := by unfold gA rd; rw [q0]; rfl
  unfold f_X1_out
  rw [g12, Option.bind_some, sbo s14, gdT, el, Option.bind_some, lg_r (nI k) 0 (nI T.length - 1) (l2 := 0) (by decide) rfl, Option.bind_some, ha, if_neg (show ¬ bI true = 0 by decide), Option.bind_some, sbo s14, gdT, ech]
  rfl
theorem y_outN (q0 : h (A 0) = some (oE A I st)) (s14 : h (A 13) = some (C 1)) (hC : OC C eB T) (ha : ir a 0 (nI T.length - 1) = false) : f_X1_outN E h (A 0) a = some () := by
  obtain ⟨N0, mb0, f0, c1, c2, c3, c4, c5, c6⟩ := hC
  rw [c1] at s14
  have el : f_J8_length E h (A 13) = some (nI T.length) := by
    unfold f_J8_length f_J7_length
    rw [sbo s14, gdT, sb3 s14]; rfl
  have g12 : gA h (A 0) 0 12 = some (A 13) := by unfold gA rd; rw [q0]; rfl
  unfold f_X1_outN
  rw [g12, Option.bind_some, sbo s14, gdT, el, Option.bind_some, lg_r a 0 (nI T.length - 1) (l2 := 0) (by decide) rfl, Option.bind_some, ha, if_pos (show bI false = 0 by decide)]
/-- in any heap with the object's cells (the law's long among them) -/
theorem t_out (X : TPr h0 nx0 zs x h nx m j A I M n P B eP cP eB C T tb tp mh mp) {h2 : AH} (hk : ∀ q e, h q = some e → h2 q = some e) : (∃ v, f_X1_out E h2 x a = some v ∧ f_X3_out m.om m.ou m.th a = some (v, 0)) ∨ (f_X1_outN E h2 x a = some () ∧ f_X3_out m.om m.ou m.th a = some (0, 1)) := by
  obtain rfl : A 0 = x := X.a0
  have e1 := m_out (th := m.th) (a := a) X.ou X.tl
  obtain ⟨s1, s2, s3, s4, s5, s6, s7, s8, s9, s10, s11, s12, s13, s14, s15⟩ := X.sys
  rw [X.om]
  cases ha : ir a 0 (nI T.length - 1)
  · right
    rw [ha] at e1
    exact ⟨y_outN (hk _ _ s1.2) (hk _ _ s14) X.oc ha, e1⟩
  · left
    rw [ha] at e1
    exact ⟨_, y_outI (hk _ _ s1.2) (hk _ _ s14) (hk _ _ s15) X.oc ha, e1⟩
end TOU
