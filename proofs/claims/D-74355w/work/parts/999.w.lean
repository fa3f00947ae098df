/-! print and out: the component -/
def AllC (L : List Int32) : Prop := ∀ x ∈ L, ∃ c, c < 128 ∧ x = nI c
/-- the out's cells with a text -/
def OC (C : Nat → hE) (eB : Nat) (T : List Int32) : Prop := ∃ (N : Nat) (mb : Int32) (f : Nat → Int32), C 1 = sB3 eB T.length mb ∧ C 2 = .inl (2, N, .inl f) ∧ TX f T ∧ T.length ≤ N ∧ N ≤ 2700 ∧ AllC T
section PTW
variable {A : Nat → Nat} {I : Nat → Int32} {st : Int32} {M : Nat → Prop} {h h' h1 h3 : AH} {E : bE} {nx nx' n0 a v N k n s b i p u eB x mh mp m K r eP cP : Nat} {mb : Int32} {T L L1 L2 T' : List Int32} {g fr : Nat → Int32} {w : Rw} {zs vv : Nat → Nat} {nm : Nat → Int64} {wd : Int64} {P : Nat → Rw} {B : Nat → Nat → Nat} {C : Nat → hE} {F : Nat → List Int32}
theorem AllC.app (h1 : AllC L1) (h2 : AllC L2) : AllC (L1 ++ L2) := fun x hx => by
  rcases List.mem_append.mp hx with z | z
  · exact h1 x z
  · exact h2 x z
theorem AllC.nil : AllC [] := fun x hx => absurd hx (by simp)
theorem AllC.one {c : Nat} (hc : c < 128) : AllC [nI c] := fun x hx => ⟨c, hc, by simpa using hx⟩
theorem AllC.apN : ∀ k, (∀ i, i < k → AllC (F i)) → AllC (apN F k)
  | 0, _ => AllC.nil
  | k + 1, h => (AllC.apN k (fun i hi => h i (by omega))).app (h k (by omega))
theorem dec_c : AllC (dec wd) := AllC.apN 9 (fun i _ => by
  unfold dec1
  split
  · exact AllC.nil
  · rename_i h0
    obtain ⟨c, -, c2, c3⟩ := (ch5_c (x := wd) (j := 8 - i)).resolve_left h0
    rw [c3]; exact AllC.one c2)
theorem cl_c : ∀ k, k < 21 → AllC (cl k) := fun k hk x hx => by
  unfold cl wl at hx
  obtain ⟨i, hi, rfl⟩ := List.mem_map.mp hx
  have : ∀ k, k < 21 → ∀ i, i < cstL k → (cst k).getD i 0 < 128 := by decide +kernel
  exact ⟨_, this k hk i (List.mem_range.mp hi), rfl⟩
theorem dg_c (hu : u < 1000) : AllC (dg u) := by
  unfold dg
  split
  · exact AllC.one (by omega)
  · split
    · exact (AllC.one (c := 48 + u / 10) (by omega)).app (AllC.one (c := 48 + u % 10) (by omega))
    · exact ((AllC.one (c := 48 + u / 100) (by omega)).app (AllC.one (c := 48 + u / 10 % 10) (by omega))).app (AllC.one (c := 48 + u % 10) (by omega))
theorem nl_c (hu : u < 1000) : AllC (nl u) := (AllC.one (c := 32) (by decide)).app (dg_c hu)
theorem txt_c (Z : Rng w) : AllC (txt w nm) := by
  have e1 := Z.gH.2
  have e2 := Z.gP.2
  have o32 : AllC [nI 32] := AllC.one (by decide)
  have o59 : AllC [nI 59] := AllC.one (by decide)
  refine ((AllC.apN 6 (fun i hi => ?_)).app (AllC.apN _ (fun i hi => ?_))).app (AllC.apN _ (fun p hp => ?_))
  · exact ((((cl_c 8 (by decide)).app o32).app (cl_c i (by omega))).app (nl_c (rule_v Z hi).2)).app o59
  · unfold hoL
    split
    · have a0 := (Z.h0 (h := i) (by omega)).2
      have a1 := (inI_n (v := hF w i 1) (b := 7) (Z.1 i 1 (by omega) (by decide)) (by decide)).2
      have a1 : hN_ w i 1 ≤ 7 := a1
      exact ((((cl_c 6 (by decide)).app (o32.app dec_c)).app (nl_c (by omega))).app (nl_c (by omega))).app o59
    · exact AllC.nil
  · unfold hsL
    split
    · have b0 := (Z.p0 (p := p) (by omega)).2
      have b1 := (Z.p1 (p := p) (by omega)).2
      have b2 := (inI_n (v := pF w p 2) (b := 7) (Z.2.1 p 2 (by omega) (by decide)) (by decide)).2
      have b2 : pN w p 2 ≤ 7 := b2
      have b3 := (Z.p3 (p := p) (by omega)).2
      refine (((((cl_c 7 (by decide)).app (o32.app dec_c)).app (AllC.apN 4 (fun k hk => ?_))).app ?_).app (AllC.apN _ (fun i hi => ?_))).app o59
      · rcases (show k = 0 ∨ k = 1 ∨ k = 2 ∨ k = 3 by omega) with rfl | rfl | rfl | rfl <;> exact nl_c (by omega)
      · unfold inL
        split
        · exact AllC.nil
        · split
          · exact (o32.app (cl_c 9 (by decide))).app (o32.app dec_c)
          · exact AllC.nil
      · unfold wsL
        split
        · exact o32.app dec_c
        · exact AllC.nil
    · exact AllC.nil
theorem y_print180 (Pb : PB A I M w h1 n0 eB zs mh mp nm) : ∀ (k i j : Nat) (T : List Int32) (v N : Nat) (h : AH) (nx : Nat), i + k = nP w → OSt A h1 n0 eB mb T v N h nx → T.length + 110 * k + 40 ≤ 1291 → ∃ h' v' N' c d, f_X1_print_180 (j + k + 1) (dE zs m) (A 0) (nI i) h nx = some (nI (T ++ apN (fun q => hsL w nm (i + q)) k).length, h', c, d) ∧ OSt A h1 n0 eB mb (T ++ apN (fun q => hsL w nm (i + q)) k) v' N' h' (nx + c) ∧ N ≤ N' ∧ c ≤ 50 * k + (N' - N) ∧ d ≤ 500 * k + 2 * (N' - N) := by
  have G := Pb.2.2.2.2.2.2
  have e2 := G.1.gP.2
  intro k
  induction k with
  | zero =>
    intro i j T v N h nx hi O hT
    have S0 := Pb.sn O
    obtain ⟨z1, z2, z3⟩ := c_psz (E := dE zs m) S0
    have el : f_J8_length (dE zs m) h (A 13) = some (nI T.length) := by
      unfold f_J8_length f_J7_length
      rw [O.1.o, gdT, sb3 O.1.1]; rfl
    rw [f_X1_print_180, z1, Option.bind_some, z2, gdT, z3, Option.bind_some, show i = nP w by omega, if_pos (nI_leR _), S0.g12, Option.bind_some, O.1.o, gdT, el, Option.bind_some]
    have ea : T ++ apN (fun q => hsL w nm (nP w + q)) 0 = T := List.append_nil _
    rw [ea]
    exact ⟨h, v, N, 0, 0, rfl, O, Nat.le_refl _, by omega, by omega⟩
  | succ k ih =>
    intro i j T v N h nx hi O hT
    have S0 := Pb.sn O
    obtain ⟨z1, z2, z3⟩ := c_psz (E := dE zs m) S0
    obtain ⟨F, wk, rf, sc, la, oa, R, Q, -⟩ := S0.1.2
    have hl := hsL_len (w := w) (nm := nm) (p := i) (G.1.p11 (p := i) (by omega)).2
    rw [show j + (k + 1) + 1 = j + k + 1 + 1 by omega, f_X1_print_180, z1, Option.bind_some, z2, gdT, z3, Option.bind_some, if_neg (nI_ge (by omega) (by omega)), S0.g2, Option.bind_some, R.g13, Option.bind_some, R.a13 (by omega), Option.bind_some, (Q.2.1 i (by omega)).2.2.2.2.2.2.2.1, apN_at, ← List.append_assoc, nI_1]
    cases hin : isIn_ w i
    · have h8 : ¬ pF w i 8 = 0 := by unfold isIn_ at hin; exact of_decide_eq_false hin
      have e : hsL w nm i = [] := by unfold hsL; rw [hin]; rfl
      rw [if_neg h8, e, List.append_nil]
      obtain ⟨h', v', N', c, d, e', O', y1, y2, y3⟩ := ih (i + 1) j T v N h nx (by omega) O (by omega)
      exact ⟨h', v', N', c, d, e', O', y1, by omega, by omega⟩
    · have h8 : pF w i 8 = 0 := by unfold isIn_ at hin; exact of_decide_eq_true hin
      rw [if_pos h8, S0.i0, gdT]
      obtain ⟨h2, v2, N2, c2, d2, e2', O2, x1, x2, x3⟩ := y_saysHouse (m := m) Pb (by omega) hin O (by omega)
      obtain ⟨h', v', N', c, d, e', O', y1, y2, y3⟩ := ih (i + 1) j _ v2 N2 h2 (nx + c2) (by omega) O2 (by rw [List.length_append]; omega)
      rw [e2', Option.bind_some]
      dsimp only
      rw [e', aC_some]
      exact ⟨h', v', N', c2 + c, d2 + d, rfl, by rw [show nx + (c2 + c) = nx + c2 + c by omega]; exact O', by omega, by omega, by omega⟩
theorem y_print (S : Sys A I M w n P B eP cP eB C st h nx) (G : Gd w) (K : KN zs A M h nx) (Nm : NmS A M h nx mh mp nm) (D : DGs zs h ∧ NI nx M (zs 5) ∧ NI nx M (zs 6)) (hC : OC C eB T) (hd : A 12 ≠ A 13 ∧ A 12 ≠ eB) : ∃ h' c d M' eB' C', f_X1_print (dE zs m) h nx (A 0) = some (nI (txt w nm).length, h', c, d) ∧ Sys A I M' w n P B eP cP eB' C' 0 h' (nx + c) ∧ MS M h nx M' h' (nx + c) ∧ C' 0 = C 0 ∧ OC C' eB' (txt w nm) ∧ A 12 ≠ eB' ∧ c ≤ 15998 ∧ d ≤ 94215 := by
  have S0 := S
  obtain ⟨s1, s2, s3, s4, s5, s6, s7, s8, s9, s10, s11, s12, s13, s14, s15⟩ := S
  have f13 := s11 (A 13) (Or.inr (Or.inr (Or.inr (Or.inl rfl))))
  have f12 := s11 (A 12) (Or.inr (Or.inr (Or.inl rfl)))
  have fB := s11 eB (Or.inr (Or.inr (Or.inr (Or.inr rfl))))
  have ow0 := s1.1.own
  have hMA : M (A 0) := ow0.2.2.2
  have bM : ∀ q, M q → q < nx := s1.1.bd
  have e1 := G.1.gH.2
  have e2 := G.1.gP.2
  obtain ⟨N0, mb0, f0, c1, c2, c3, c4, c5, -⟩ := hC
  rw [c1] at s14
  rw [c2] at s15
  have hne : A 13 ≠ eB := fun e => by rw [e, s15] at s14; cases s14
  have oB : ∀ q, OwB B 0 q ↔ Own (A 1) (A 2) (A 3) q := fun q => by
    have e1 := s2 0 (by decide); have e2 := s2 1 (by decide); have e3 := s2 2 (by decide)
    unfold OwB; rw [← e1, ← e2, ← e3]
  obtain ⟨S1, -⟩ := s1.set 0
  have ec : f_X1_can (dE zs m) h nx (A 0) 0 = some (1, hu h (A 0) (oE A I 0), 0, 0) := by
    unfold f_X1_can
    rw [s1.w5, Option.bind_some, if_pos rfl]
  have q1 : hu h (A 0) (oE A I 0) (A 0) = some (oE A I 0) := hu_s
  have k1 : ∀ q, q ≠ A 0 → hu h (A 0) (oE A I 0) q = h q := fun q hq => hu_n hq
  generalize hu h (A 0) (oE A I 0) = h1 at S1 ec q1 k1
  have ms1 : MS M h nx M h1 nx := ⟨Nat.le_refl _, Ext.rfl', fun q hq hm => k1 q (fun e => hm (by rw [e]; exact hMA))⟩
  have T1 : SBT h1 (A 13) eB N0 mb0 T := ⟨(k1 _ f13.2.2.1).trans s14, ⟨f0, (k1 _ fB.2.2.1).trans s15, c3⟩, c4, c5⟩
  obtain ⟨h2, mb2, es, T2, k2⟩ := sb_set0 (E := dE zs m) (nx := nx) T1 f13.2.1
  have D1 : DGs zs h1 := by
    obtain ⟨⟨⟨fo, d1, d2⟩, ft, d3, d4⟩, d5, d6⟩ := D
    exact ⟨⟨fo, (ms1.k d5).trans d1, d2⟩, ft, (ms1.k d6).trans d3, d4⟩
  have Pb : PB A I M w h1 nx eB zs mh mp nm := ⟨S1, Nm.ms ms1 rfl rfl, K.ms ms1 rfl rfl, ⟨D1, ms1.i D.2.1, ms1.i D.2.2⟩, ⟨f13.1, f13.2.1, f13.2.2.1, fun z => f13.2.2.2 0 (by omega) ((oB _).mpr z)⟩, ⟨fB.1, fB.2.1, fB.2.2.1, fun z => fB.2.2.2 0 (by omega) ((oB _).mpr z)⟩, G⟩
  have O2 : OSt A h1 nx eB mb2 [] eB N0 h2 nx := ⟨T2, Or.inl rfl, fB.2.1, Nat.le_refl _, hne, fun q _ z1 _ => k2 q z1⟩
  obtain ⟨h3, v3, N3, c3', d3, e3, O3, x1, x2, x3⟩ := y_print16 (m := m) Pb (kk := fun h nx => f_X1_print_84 FU (dE zs m) (A 0) 0 h nx) (fun _ _ => rfl) 6 0 (FU - 7) [] eB N0 h2 nx (by omega) O2 (by show 0 + 18 * 6 ≤ 1291; omega)
  have ez : (fun q => ruL w (0 + q)) = ruL w := funext fun q => by rw [Nat.zero_add]
  rw [ez, List.nil_append] at O3
  have l3 := apN_len (B := ruL w) (m := 18) 6 (fun i hi => ruL_len hi)
  obtain ⟨h4, v4, N4, c4', d4, e4, O4, y1, y2, y3⟩ := y_print84 (m := m) Pb (kk := fun h nx => f_X1_print_180 FU (dE zs m) (A 0) 0 h nx) (fun _ _ => rfl) (nH w) 0 (FU - nH w - 1) _ v3 N3 h3 (nx + c3') (by omega) O3 (by omega)
  rw [show FU - nH w - 1 + nH w + 1 = FU by unfold FU; omega] at e4
  have ez4 : (fun q => hoL w nm (0 + q)) = hoL w nm := funext fun q => by rw [Nat.zero_add]
  rw [ez4] at O4
  have l4 := apN_len (B := hoL w nm) (m := 25) (nH w) (fun i hi => hoL_len)
  obtain ⟨h5, v5, N5, c5', d5, e5, O5, w1, w2, w3⟩ := y_print180 (m := m) Pb (nP w) 0 (FU - nP w - 1) _ v4 N4 h4 (nx + c3' + c4') (by omega) O4 (by rw [List.length_append]; omega)
  rw [show FU - nP w - 1 + nP w + 1 = FU by unfold FU; omega] at e5
  have ez5 : (fun q => hsL w nm (0 + q)) = hsL w nm := funext fun q => by rw [Nat.zero_add]
  rw [ez5] at O5 e5
  have et : apN (ruL w) 6 ++ apN (hoL w nm) (nH w) ++ apN (hsL w nm) (nP w) = txt w nm := rfl
  rw [et] at O5 e5
  obtain ⟨⟨p1, ⟨f5, p2, p3⟩, p4, p5⟩, o2, o3, o4, o5, o6⟩ := O5
  have hg12 := S1.g12
  have e3 : f_X1_print_16 FU (dE zs m) (A 0) 0 h2 nx = aC c3' d3 (f_X1_print_84 FU (dE zs m) (A 0) 0 h3 (nx + c3')) := e3
  have e4 : f_X1_print_84 FU (dE zs m) (A 0) 0 h3 (nx + c3') = aC c4' d4 (f_X1_print_180 FU (dE zs m) (A 0) 0 h4 (nx + c3' + c4')) := e4
  have e5 : f_X1_print_180 FU (dE zs m) (A 0) 0 h4 (nx + c3' + c4') = some (nI (txt w nm).length, h5, c5', d5) := e5
  let C5 : Nat → hE := fun k => if k = 1 then sB3 v5 (txt w nm).length mb2 else if k = 2 then .inl (2, N5, .inl f5) else C k
  have kk : ∀ q, q < nx → q ≠ A 0 → q ≠ A 12 → q ≠ A 13 → q ≠ eB → h5 q = h q := fun q hq z0 z12 z13 zB => by
    rw [o6 q hq z13 zB]; exact k1 q z0
  have Ex : Ext M (fun q => M q ∨ q = v5) nx := ⟨fun q hq => Or.inl hq, fun q hq => by
    rcases hq with z | z
    · exact Or.inl z
    · rcases o2 with y | y
      · exact Or.inl (by rw [z, y]; exact fB.1)
      · exact Or.inr (by omega)⟩
  obtain ⟨z1, z2⟩ := S0.cells (I' := I) (st' := 0) (h' := h5) (nx' := nx + c3' + c4' + c5') (M' := fun q => M q ∨ q = v5) (C' := C5) (eB' := v5) o4 Ex (fun q hq => by
    rcases hq with z | z
    · have := bM q z; omega
    · omega) ((o6 _ s1.1.ne.2.1 (fun e => f13.2.2.1 e.symm) (fun e => fB.2.2.1 e.symm)).trans q1) kk (by rw [o6 _ f12.2.1 hd.1 hd.2, k1 _ f12.2.2.1]; exact s13) p1 p2 (Or.inr rfl) o2
  have e0 : isO h (A 0) 0 = true := s1.i0
  refine ⟨h5, 0 + (0 + (c3' + (c4' + c5'))), 0 + (0 + (d3 + (d4 + d5))), (fun q => M q ∨ q = v5), v5, C5, ?_, ?_, ?_, rfl, ⟨N5, mb2, f5, rfl, rfl, p3, p4, p5, txt_c G.1⟩, ?_, ?_, ?_⟩
  · unfold f_X1_print
    rw [e0, gdT, ec, Option.bind_some]
    dsimp only
    rw [hg12, Option.bind_some, T1.o, gdT, Nat.add_zero, es, Option.bind_some]
    dsimp only
    rw [Nat.add_zero, e3, e4, e5]
    simp only [aC_some]
  · rw [show nx + (0 + (0 + (c3' + (c4' + c5')))) = nx + c3' + c4' + c5' by omega]; exact z1
  · rw [show nx + (0 + (0 + (c3' + (c4' + c5')))) = nx + c3' + c4' + c5' by omega]; exact z2
  · rcases o2 with y | y
    · rw [y]; exact hd.2
    · have := f12.2.1; omega
  · omega
  · omega
/-- out, where a byte is there -/
theorem y_out {a : Int32} (S : Sys A I M w n P B eP cP eB C st h nx) (hC : OC C eB T) (ha : ir a 0 (nI T.length - 1) = true) : f_X1_out E h (A 0) a = some (T.getD a.toNatClampNeg 0) := by
  obtain ⟨s1, s2, s3, s4, s5, s6, s7, s8, s9, s10, s11, s12, s13, s14, s15⟩ := S
  obtain ⟨N0, mb0, f0, c1, c2, c3, c4, c5, c6⟩ := hC
  rw [c1] at s14
  rw [c2] at s15
  obtain ⟨k, hk, rfl⟩ := (rg_t (by omega)).mp ha
  rw [nI_clamp (by omega)]
  have hT : ∃ n', T.length = n' + 1 := ⟨T.length - 1, by omega⟩
  have el : f_J8_length E h (A 13) = some (nI T.length) := by
    unfold f_J8_length f_J7_length
    rw [sbo s14, gdT, sb3 s14]; rfl
  obtain ⟨c, hc, ec⟩ := c6 (T.getD k 0) (by
    rw [List.getD_eq_getElem?_getD, List.getElem?_eq_getElem hk]
    exact List.getElem_mem hk)
  have hb : ∀ c, c < 128 → ((nI c &&& nI 255).toUInt32 % 65536).toInt32 = nI c ∧ isC (nI c) = true := by decide +kernel
  obtain ⟨hb1, hb2⟩ := hb c hc
  have mn : f_J6_min (nI T.length) (nI N0) = some (nI T.length) := min32 c4 (by omega)
  have ech : f_J8_charAt E h (A 13) (nI k) = some (T.getD k 0) := by
    unfold f_J8_charAt f_J7_charAt f_J9_checkIndex f_J4_checkIndex
    rw [sbo s14, gdT, sb1 s14, Option.bind_some, sb0 s14, Option.bind_some, sb3 s14, Option.bind_some, ca_len s15, Option.bind_some, sh_0, mn, Option.bind_some, if_neg (nI_pos (by omega)), if_pos (nI_lt hk (by omega)), Option.bind_some, Option.bind_some, if_pos rfl, aI_at s15 (by omega) (by omega), Option.bind_some, c3 k hk, ec, hb1, hb2, gdT, Option.bind_some, hb2, gdT]
  unfold f_X1_out
  rw [s1.g12, Option.bind_some, sbo s14, gdT, el, Option.bind_some, lg_r (nI k) 0 (nI T.length - 1) (l2 := 0) (by decide) rfl, Option.bind_some, ha, if_neg (show ¬ bI true = 0 by decide), Option.bind_some, sbo s14, gdT, ech]
  rfl
end PTW
