/-! print: the component's homes -/
section PTU
variable {A : Nat → Nat} {I : Nat → Int32} {st : Int32} {M : Nat → Prop} {h h' h1 h3 : AH} {E : bE} {nx nx' n0 a v N k n s b i p u eB x mh mp m K r : Nat} {mb : Int32} {T L L1 L2 T' : List Int32} {g fr : Nat → Int32} {w : Rw} {zs vv : Nat → Nat} {nm : Nat → Int64} {wd : Int64}
/-- a name at a heap that has grown -/
theorem nm_h' (P : PB A I M w h1 n0 eB zs mh mp nm) (O : OSt A h1 n0 eB mb T v N h nx) (hk : ∀ q, q < nx → h3 q = h q) (hx : x < nH w) : ∃ a s b, f_X1_homeAt E h3 (A 0) (nI x) = some a ∧ gA h3 a 5 0 = some s ∧ StrL h s b (dec (nm x)) ∧ s < nx ∧ b < nx ∧ gI h3 a 5 1 = some (hF w x 0) ∧ gI h3 a 5 2 = some (hF w x 1) := by
  obtain ⟨a, s, b, e1, e2, e3, e4, e5, e6, e7⟩ := nm_home (E := E) ((P.sn O).grow (Nat.le_refl nx) hk) ((P.nm' O).ms (A' := A) (M' := M) ⟨Nat.le_refl nx, Ext.rfl', fun q hq _ => hk q hq⟩ rfl rfl) hx
  exact ⟨a, s, b, e1, e2, (e3.kept (hk _ e4.1).symm (hk _ e5.1).symm).l, e4.1, e5.1, e6, e7⟩
theorem nm_p' (P : PB A I M w h1 n0 eB zs mh mp nm) (O : OSt A h1 n0 eB mb T v N h nx) (hk : ∀ q, q < nx → h3 q = h q) (hp : p < nP w) : ∃ a s b, f_X1_houseAt E h3 (A 0) (nI p) = some a ∧ gA h3 a 6 0 = some s ∧ StrL h s b (dec (nm (10 + p))) ∧ s < nx ∧ b < nx ∧ isO h3 a 6 = true ∧ f_X7_band E h3 a = some (pF w p 0) ∧ f_X7_tie E h3 a = some (pF w p 2) ∧ f_X7_day E h3 a = some (pF w p 3) := by
  obtain ⟨a, s, b, e1, e2, e3, e4, e5, e6, e7, e8, e9⟩ := nm_house (E := E) ((P.sn O).grow (Nat.le_refl nx) hk) ((P.nm' O).ms (A' := A) (M' := M) ⟨Nat.le_refl nx, Ext.rfl', fun q hq _ => hk q hq⟩ rfl rfl) hp
  exact ⟨a, s, b, e1, e2, (e3.kept (hk _ e4.1).symm (hk _ e5.1).symm).l, e4.1, e5.1, e6, e7, e8, e9⟩
theorem c_hsz (S : SN A I M w st h nx) : gA h (A 0) 0 0 = some (A 6) ∧ isO h (A 6) 11 = true ∧ f_J2_size E h (A 6) = some (nI (nH w)) := by
  have S0 := S
  obtain ⟨⟨aH, eH, aP, eP, rN, rA, hm, hs_, nh, np, tl, O, Tt, TI, ho, hM⟩, F, wk, rf, sc_, la, oa, R, Q, Ll, Kk, s0_, il, io, hOwn, hno⟩ := id S.1
  have e6 : aH = A 6 := Option.some.inj (O.g0.symm.trans S0.g0)
  subst e6
  exact ⟨S0.g0, Tt.1.o, Tt.1.size⟩
theorem c_psz (S : SN A I M w st h nx) : gA h (A 0) 0 1 = some (A 7) ∧ isO h (A 7) 11 = true ∧ f_J2_size E h (A 7) = some (nI (nP w)) := by
  have S0 := S
  obtain ⟨⟨aH, eH, aP, eP, rN, rA, hm, hs_, nh, np, tl, O, Tt, TI, ho, hM⟩, F, wk, rf, sc_, la, oa, R, Q, Ll, Kk, s0_, il, io, hOwn, hno⟩ := id S.1
  have e6 : aP = A 7 := Option.some.inj (O.g1.symm.trans S0.g1)
  subst e6
  exact ⟨S0.g1, Tt.2.1.o, Tt.2.1.size⟩
theorem y_print84 (P : PB A I M w h1 n0 eB zs mh mp nm) {kk : AH → Nat → Option (Int32 × AH × Nat × Nat)} (hkk : ∀ (h : AH) (nx : Nat), f_X1_print_180 FU (dE zs m) (A 0) 0 h nx = kk h nx) : ∀ (k i j : Nat) (T : List Int32) (v N : Nat) (h : AH) (nx : Nat), i + k = nH w → OSt A h1 n0 eB mb T v N h nx → T.length + 25 * k ≤ 1291 → ∃ h' v' N' c d, f_X1_print_84 (j + k + 1) (dE zs m) (A 0) (nI i) h nx = aC c d (kk h' (nx + c)) ∧ OSt A h1 n0 eB mb (T ++ apN (fun q => hoL w nm (i + q)) k) v' N' h' (nx + c) ∧ N ≤ N' ∧ c ≤ 6 * k + (N' - N) ∧ d ≤ 60 * k + 2 * (N' - N) := by
  have h13 := P.2.2.2.2.1.2.1
  have G := P.2.2.2.2.2.2
  have e1 := G.1.gH.2
  intro k
  induction k with
  | zero =>
    intro i j T v N h nx hi O hT
    obtain ⟨z1, z2, z3⟩ := c_hsz (E := dE zs m) (P.sn O)
    rw [f_X1_print_84, z1, Option.bind_some, z2, gdT, z3, Option.bind_some, show i = nH w by omega, if_pos (nI_leR _), hkk]
    refine ⟨h, v, N, 0, 0, (aC00 _).symm, ?_, Nat.le_refl _, by omega, by omega⟩
    show OSt A h1 n0 eB mb (T ++ []) v N h nx
    rw [List.append_nil]; exact O
  | succ k ih =>
    intro i j T v N h nx hi O hT
    have on := O.2.2.2.1
    have ov := O.2.2.1
    have S0 := P.sn O
    obtain ⟨z1, z2, z3⟩ := c_hsz (E := dE zs m) S0
    have hl := hoL_len (w := w) (nm := nm) (h := i)
    rw [show j + (k + 1) + 1 = j + k + 1 + 1 by omega, f_X1_print_84, z1, Option.bind_some, z2, gdT, z3, Option.bind_some, if_neg (nI_ge (by omega) (by omega)), S0.i0, gdT, c_isGone S0 G (by omega), Option.bind_some, apN_at, ← List.append_assoc, nI_1]
    cases ht : told w i
    · have e : hoL w nm i = [] := by unfold hoL; rw [ht]; rfl
      rw [if_neg (show ¬ bI (!false) = 0 by decide), e, List.append_nil]
      obtain ⟨h', v', N', c, d, e', O', y1, y2, y3⟩ := ih (i + 1) j T v N h nx (by omega) O (by omega)
      exact ⟨h', v', N', c, d, e', O', y1, by omega, by omega⟩
    · rw [if_pos (show bI (!true) = 0 from rfl)]
      have eho : hoL w nm i = cl 6 ++ (nI 32 :: dec (nm i)) ++ nl (hN_ w i 0) ++ nl (hN_ w i 1) ++ [nI 59] := by unfold hoL; rw [if_pos ht]
      obtain ⟨v0, v0'⟩ := G.1.h0 (h := i) (by omega)
      obtain ⟨v1, v1'⟩ := inI_n (v := hF w i 1) (b := 7) (G.1.1 i 1 (by omega) (by decide)) (by decide)
      have v1 : hF w i 1 = nI (hN_ w i 1) := v1
      have v1' : hN_ w i 1 ≤ 7 := v1'
      obtain ⟨b15, s15, n15, n15'⟩ := (P.kn O).sw (k := 15) (by decide)
      have l15 := cl_len 15 (by decide)
      have ld := dec_len (x := nm i)
      obtain ⟨h3, e3, o2, S3, k3⟩ := t_a (E := dE zs m) s15 n15.1 n15'.1 (by omega)
      obtain ⟨a3, s3, b3, x1, x2, x3, x4, x5, -, -⟩ := nm_h' (E := dE zs m) (x := i) P O k3 (by omega)
      obtain ⟨h4, h5, e4, o3, o4, e5, s5, k5⟩ := t_b (E := dE zs m) S3 k3 x3 x4 x5 (by omega)
      have k6 : ∀ q, q < nx → hu h5 (nx + 4) (.inl (0, 2, .inl (fun _ => 0))) q = h q := fun q hq => by rw [hu_n (by omega)]; exact k5 q hq
      have O6 := O.grow (nx' := nx + 5) (by omega) k6 h13
      obtain ⟨a6, -, -, y1, -, -, -, -, y2, -⟩ := nm_h' (E := dE zs m) (x := i) P O k6 (by omega)
      have st6 : sI (hu h5 (nx + 4) (.inl (0, 2, .inl (fun _ => 0)))) (nx + 4) 0 0 (nI (hN_ w i 0)) = some (hu h5 (nx + 4) (.inl (0, 2, .inl (upd (fun _ => 0) 0 (nI (hN_ w i 0)))))) := by
        rw [show (0 : Int32) = nI 0 from rfl, sI_at hu_s (by decide) (by decide), hu_hu]
      have k7 : ∀ q, q < nx → hu h5 (nx + 4) (.inl (0, 2, .inl (upd (fun _ => 0) 0 (nI (hN_ w i 0))))) q = h q := fun q hq => by rw [hu_n (by omega)]; exact k5 q hq
      have O7 := O.grow (nx' := nx + 5) (by omega) k7 h13
      obtain ⟨a7, -, -, y3, -, -, -, -, -, y4⟩ := nm_h' (E := dE zs m) (x := i) P O k7 (by omega)
      have st7 : sI (hu h5 (nx + 4) (.inl (0, 2, .inl (upd (fun _ => 0) 0 (nI (hN_ w i 0)))))) (nx + 4) 0 1 (nI (hN_ w i 1)) = some (hu h5 (nx + 4) (.inl (0, 2, .inl (upd (upd (fun _ => 0) 0 (nI (hN_ w i 0))) 1 (nI (hN_ w i 1)))))) := by
        rw [show (1 : Int32) = nI 1 from rfl, sI_at hu_s (by decide) (by decide), hu_hu]
      have k8 : ∀ q, q < nx → hu h5 (nx + 4) (.inl (0, 2, .inl (upd (upd (fun _ => 0) 0 (nI (hN_ w i 0))) 1 (nI (hN_ w i 1))))) q = h q := fun q hq => by rw [hu_n (by omega)]; exact k5 q hq
      have O8 := O.grow (nx' := nx + 5) (by omega) k8 h13
      obtain ⟨h9, v9, N9, c9, d9, e9, O9, c1, c2, c3, c4, c5⟩ := y_says (m := m) (s := nx + 2) (b := nx + 3) (r := nx + 4) (K := 2) (vv := fun q => if q = 0 then hN_ w i 0 else hN_ w i 1) P O8 (s5.kept (hu_n (by omega)) (hu_n (by omega))) ⟨by omega, by omega, by omega⟩ ⟨by omega, by omega, by omega⟩ hu_s ⟨by omega, by omega, by omega⟩ (fun q hq => by
        rcases (show q = 0 ∨ q = 1 by omega) with rfl | rfl
        · exact ⟨rfl, by show hN_ w i 0 < 1000; omega⟩
        · exact ⟨rfl, by show hN_ w i 1 < 1000; omega⟩) (by omega) (by rw [List.length_append]; omega)
      have eT0 : T ++ (cl 15 ++ dec (nm i)) ++ apN (fun q => nl ((fun q => if q = 0 then hN_ w i 0 else hN_ w i 1) q)) 2 ++ cl 13 = T ++ hoL w nm i := by
        rw [eho, cl_e.2.2.2.2.1, cl_e.2.1]
        simp [apN]
      obtain ⟨h10, v10, N10, c10, d10, i10, e10, O10, f1, f2, f3⟩ := y_sayC (m := m) (k := 13) P O9 (by decide) (by
        rw [← List.length_append, eT0, List.length_append]; omega)
      rw [eT0] at O10
      obtain ⟨h', v', N', c, d, e', O', g1, g2, g3⟩ := ih (i + 1) j _ v10 N10 h10 (nx + 5 + c9 + 1 + c10) (by omega) O10 (by rw [List.length_append]; omega)
      refine ⟨h', v', N', 1 + (1 + (0 + (0 + (2 + (1 + (c9 + (1 + (c10 + c)))))))), 4 + (16 + (0 + (0 + (4 + (cl 15 ++ dec (nm i)).length + (2 + (d9 + (0 + (d10 + d)))))))), ?_, ?_, by omega, by omega, by rw [List.length_append]; omega⟩
      · rw [sb_init, Option.bind_some]
        dsimp only [bd]
        rw [o2, gdT, dE_1, show nx + 1 + 1 = nx + 2 by omega, e3, Option.bind_some]
        dsimp only
        rw [(S0.grow (Nat.le_refl nx) k3).i0, gdT, x1, Option.bind_some, x2, Option.bind_some, o3, gdT, Nat.add_zero, e4, Option.bind_some]
        dsimp only
        rw [o4, gdT, Nat.add_zero, e5, Option.bind_some]
        dsimp only
        rw [show nx + 2 + 2 = nx + 4 by omega, (S0.grow (Nat.le_refl nx) k6).i0, gdT, y1, Option.bind_some, y2, Option.bind_some, v0, st6, Option.bind_some, (S0.grow (Nat.le_refl nx) k7).i0, gdT, y3, Option.bind_some, y4, Option.bind_some, v1, st7, Option.bind_some, (S0.grow (Nat.le_refl nx) k8).i0, gdT, show nx + 4 + 1 = nx + 5 by omega, e9, Option.bind_some]
        dsimp only
        rw [i10, gdT, e10, Option.bind_some]
        dsimp only
        rw [e', show nx + (1 + (1 + (0 + (0 + (2 + (1 + (c9 + (1 + (c10 + c))))))))) = nx + 5 + c9 + 1 + c10 + c by omega]
        simp only [aC_aC]
      · rw [show nx + (1 + (1 + (0 + (0 + (2 + (1 + (c9 + (1 + (c10 + c))))))))) = nx + 5 + c9 + 1 + c10 + c by omega]
        exact O'
end PTU
