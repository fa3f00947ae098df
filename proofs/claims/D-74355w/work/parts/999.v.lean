/-! print: the component's houses -/
section PTV
variable {A : Nat → Nat} {I : Nat → Int32} {st : Int32} {M : Nat → Prop} {h h' h1 h3 : AH} {E : bE} {nx nx' n0 a v N k n s b i p u eB x mh mp m K r : Nat} {mb : Int32} {T L L1 L2 T' : List Int32} {g fr : Nat → Int32} {w : Rw} {zs vv : Nat → Nat} {nm : Nat → Int64} {wd : Int64}
theorem nm_pp (P : PB A I M w h1 n0 eB zs mh mp nm) (O : OSt A h1 n0 eB mb T v N h nx) (hp : p < nP w) : ∃ a s b, StrL h s b (dec (nm (10 + p))) ∧ s < nx ∧ b < nx ∧ ∀ h3 : AH, (∀ q, q < nx → h3 q = h q) → f_X1_houseAt E h3 (A 0) (nI p) = some a ∧ gA h3 a 6 0 = some s ∧ isO h3 a 6 = true ∧ f_X7_band E h3 a = some (pF w p 0) ∧ f_X7_tie E h3 a = some (pF w p 2) ∧ f_X7_day E h3 a = some (pF w p 3) := by
  have K := P.nm' O
  have S0 := P.sn O
  have hmh : mp = nP w := by
    obtain ⟨z1, z2, z3⟩ := c_psz (E := E) S0
    obtain ⟨eHq, ePq, hmq, hsq, sh, bh, sp, bp, k1, k2, -⟩ := K
    have e2 := k2.size (E := E)
    have e3 := S0.1
    have e4 := P.2.2.2.2.2.2.1.gP.2
    obtain ⟨c1, m1, gg1, -, -, y1, -, y2, -⟩ := k2
    exact (nI_eq (by omega) (by omega)).mp (Option.some.inj (e2.symm.trans z3))
  obtain ⟨eHq, ePq, hmq, hsq, sh, bh, sp, bp, k1, k2, k3, k4, k5, k6, k7, k8⟩ := K
  obtain ⟨⟨t, y1⟩, y2, y3, y4, y5⟩ := k8 p (by omega)
  refine ⟨hsq p, sp p, bp p, y2.l, y4.1, y5.1, fun h3 hk => ?_⟩
  have S3 := S0.grow (Nat.le_refl nx) hk
  have S30 := S3
  have q3 := (hk _ y3.1).trans y1
  have L3 : LstA h3 (A 7) ePq mp hsq := k2.kept (hk _ k5.1) (hk _ k6.1)
  have e1 : f_X1_houseAt E h3 (A 0) (nI p) = some (hsq p) := by
    simp only [f_X1_houseAt, S30.g1, Option.bind_some, L3.o, gdT, L3.get (show p < mp by omega)]
    rw [show isO h3 (hsq p) 6 = true by simp [isO, q3, hsE]]
    rfl
  obtain ⟨⟨aH, eH, aP, eP, rN, rA, hm, hs_, nh, np, tl, O, Tt, TI, ho, hM⟩, F, wk, rf, sc_, la, oa, R, Q, Ll, Kk, s0_, il, io, hOwn, hno⟩ := id S3.1
  have e2 := Told.houseAt (E := E) O Tt hp
  have e3 := Option.some.inj (e1.symm.trans e2)
  refine ⟨e1, by simp [gA, rd, q3, hsE, vR], by simp [isO, q3, hsE], ?_, ?_, ?_⟩
  · rw [e3]; exact Tt.band hp
  · rw [e3]; exact Tt.tie hp
  · rw [e3]; exact Tt.day hp
/-- a constant and a home's name are said -/
theorem y_cn {k0 : Nat} (P : PB A I M w h1 n0 eB zs mh mp nm) (O : OSt A h1 n0 eB mb T v N h nx) (hk0 : k0 < 21) (hx : x < nH w) (hT : T.length + 16 ≤ 1291) : ∃ h3 a s h4 h5 h' v' N' c d, f_J8_append_2 (dE zs m) (hu (hu h nx (sB3 (nx + 1) 0 0)) (nx + 1) (.inl (2, 16, .inl (fun _ => 0)))) (nx + 2) nx (zs (20 + k0)) = some (nx, h3, 0, 0) ∧ isO (hu (hu h nx (sB3 (nx + 1) 0 0)) (nx + 1) (.inl (2, 16, .inl (fun _ => 0)))) nx 12 = true ∧ (∀ q, q < nx → h3 q = h q) ∧ f_X1_homeAt (dE zs m) h3 (A 0) (nI x) = some a ∧ gA h3 a 5 0 = some s ∧ isO h3 nx 12 = true ∧ f_J8_append_2 (dE zs m) h3 (nx + 2) nx s = some (nx, h4, 0, 0) ∧ isO h4 nx 12 = true ∧ f_J8_toString (dE zs m) h4 (nx + 2) nx = some (nx + 2, h5, 2, 4 + (cl k0 ++ dec (nm x)).length) ∧ isO (hu h5 (nx + 4) (.inl (0, 0, .inl (fun _ => 0)))) (A 0) 0 = true ∧ f_X1_says (dE zs m) (hu h5 (nx + 4) (.inl (0, 0, .inl (fun _ => 0)))) (nx + 4 + 1) (A 0) (nx + 2) (nx + 4) = some ((), h', c, d) ∧ OSt A h1 n0 eB mb (T ++ (cl k0 ++ dec (nm x))) v' N' h' (nx + 5 + c) ∧ N ≤ N' ∧ c ≤ N' - N ∧ d ≤ 2 * (N' - N) := by
  have h13 := P.2.2.2.2.1.2.1
  have on := O.2.2.2.1
  have ov := O.2.2.1
  obtain ⟨b0, s0, n0a, n0b⟩ := (P.kn O).sw hk0
  have l0 := cl_len k0 hk0
  have ld := dec_len (x := nm x)
  obtain ⟨h3, e3, o2, S3, k3⟩ := t_a (E := dE zs m) s0 n0a.1 n0b.1 (by omega)
  obtain ⟨a3, s3, b3, x1, x2, x3, x4, x5, -, -⟩ := nm_h' (E := dE zs m) (x := x) P O k3 hx
  obtain ⟨h4, h5, e4, o3, o4, e5, s5, k5⟩ := t_b (E := dE zs m) S3 k3 x3 x4 x5 (by omega)
  have O5 := O.grow (nx' := nx + 4) (by omega) k5 h13
  obtain ⟨h', v', N', c, d, i6, e6, O6, c1, c2, c3⟩ := y_say0 (m := m) (s := nx + 2) (b := nx + 3) P O5 s5 ⟨by omega, by omega, by omega⟩ ⟨by omega, by omega, by omega⟩ (by rw [List.length_append]; omega)
  exact ⟨h3, a3, s3, h4, h5, h', v', N', c, d, e3, o2, k3, x1, x2, o3, e4, o4, e5, i6, e6, O6, c1, c2, c3⟩
theorem y_hs141 (P : PB A I M w h1 n0 eB zs mh mp nm) (hp : p < nP w) : ∀ (k i j : Nat) (T : List Int32) (v N : Nat) (h : AH) (nx : Nat), i + k = pN w p 11 → OSt A h1 n0 eB mb T v N h nx → T.length + 10 * k + 20 ≤ 1291 → ∃ h' v' N' c d, f_X1_saysHouse_141 (j + k + 1) (dE zs m) (A 0) (nI p) (nI i) h nx = some ((), h', c, d) ∧ OSt A h1 n0 eB mb (T ++ (apN (fun q => wsL w nm p (i + q)) k ++ [nI 59])) v' N' h' (nx + c) ∧ N ≤ N' ∧ c ≤ 5 * k + 1 + (N' - N) ∧ d ≤ 50 * k + 2 * (N' - N) := by
  have h13 := P.2.2.2.2.1.2.1
  have G := P.2.2.2.2.2.2
  have Z := G.1
  have e1 := Z.gH.2
  have e2 := Z.gP.2
  obtain ⟨e11, e6⟩ := Z.p11 (p := p) (by omega)
  intro k
  induction k with
  | zero =>
    intro i j T v N h nx hi O hT
    have S0 := P.sn O
    obtain ⟨F, wk, rf, sc, la, oa, R, Q, -⟩ := S0.1.2
    obtain ⟨h', v', N', c, d, i9, e9, O9, f1, f2, f3⟩ := y_sayC (m := m) (k := 13) P O (by decide) (by have := cl_len 13 (by decide); omega)
    rw [f_X1_saysHouse_141, S0.g2, Option.bind_some, R.g6, Option.bind_some, R.a6 (by omega), Option.bind_some, (Q.2.1 p hp).2.2.2.2.2.1, e11, show i = pN w p 11 by omega, if_pos (nI_leR _), i9, gdT, dE_1, e9, Option.bind_some]
    dsimp only
    rw [aC_some, aC_some]
    refine ⟨h', v', N', _, _, rfl, ?_, f1, by omega, by omega⟩
    rw [cl_e.2.1] at O9
    rw [show nx + (1 + (c + 0)) = nx + 1 + c by omega]
    exact O9
  | succ k ih =>
    intro i j T v N h nx hi O hT
    have on := O.2.2.2.1
    have ov := O.2.2.1
    have S0 := P.sn O
    obtain ⟨F, wk, rf, sc, la, oa, R, Q, -⟩ := S0.1.2
    obtain ⟨ew, ew2⟩ := Z.pw (p := p) (k := i) (by omega) (by omega)
    have hx := G.2.1.2.2.1 p i hp (by omega)
    have wat : ∀ {hh : AH} {n2 : Nat}, SN A I M w 0 hh n2 → f_X2_wishAt (dE zs m) hh (A 1) (nI p) (nI i) = some (nI (pN w p (12 + i))) := fun {hh n2} Sh => by
      obtain ⟨F, wk, rf, sc, la, oa, R, Q, -⟩ := Sh.1.2
      unfold f_X2_wishAt
      rw [R.g7, Option.bind_some, pk_mul, nI_add, R.a7 (by omega), Option.bind_some, Q.2.2.1 p i hp (by omega), ew]
    have ea : ∀ (L : List Int32), T ++ (wsL w nm p i ++ L ++ [nI 59]) = (T ++ wsL w nm p i) ++ (L ++ [nI 59]) := fun L => by simp
    have hwl := wsL_len (w := w) (nm := nm) (p := p) (i := i)
    rw [show j + (k + 1) + 1 = j + k + 1 + 1 by omega, f_X1_saysHouse_141, S0.g2, Option.bind_some, R.g6, Option.bind_some, R.a6 (by omega), Option.bind_some, (Q.2.1 p hp).2.2.2.2.2.1, e11, if_neg (nI_ge (by omega) (by omega)), Option.bind_some, R.o1, gdT, wat S0, Option.bind_some, S0.i0, gdT, c_isGone S0 G hx, Option.bind_some, apN_at, ea, nI_1]
    cases ht : told w (pN w p (12 + i))
    · have e : wsL w nm p i = [] := by unfold wsL; rw [ht]; rfl
      rw [if_neg (show ¬ bI (!false) = 0 by decide), e, List.append_nil]
      obtain ⟨h', v', N', c, d, e', O', y1, y2, y3⟩ := ih (i + 1) j T v N h nx (by omega) O (by omega)
      exact ⟨h', v', N', c, d, e', O', y1, by omega, by omega⟩
    · have e : wsL w nm p i = cl 12 ++ dec (nm (pN w p (12 + i))) := by
        unfold wsL
        rw [if_pos ht, cl_e.2.2.1]; rfl
      obtain ⟨h3, a, s, h4, h5, h6, v6, N6, c6, d6, z1, z2, z3, z4, z5, z6, z7, z8, z9, z10, z11, O6, z12, z13, z14⟩ := y_cn (m := m) (k0 := 12) P O (by decide) hx (by omega)
      have S3 := S0.grow (Nat.le_refl nx) z3
      obtain ⟨F3, wk3, rf3, sc3, la3, oa3, R3, -⟩ := S3.1.2
      have ld := dec_len (x := nm (pN w p (12 + i)))
      have l12 := cl_len 12 (by decide)
      obtain ⟨h', v', N', c, d, e', O', y1, y2, y3⟩ := ih (i + 1) j (T ++ wsL w nm p i) v6 N6 h6 (nx + 5 + c6) (by omega) (by rw [e]; exact O6) (by rw [List.length_append]; omega)
      rw [if_pos (show bI (!true) = 0 from rfl), sb_init, Option.bind_some]
      dsimp only [bd]
      rw [z2, gdT, dE_1, show nx + 1 + 1 = nx + 2 by omega, z1, Option.bind_some]
      dsimp only
      rw [S3.g2, Option.bind_some, R3.o1, gdT, wat S3, Option.bind_some, S3.i0, gdT, z4, Option.bind_some, z5, Option.bind_some, z6, gdT, Nat.add_zero, z7, Option.bind_some]
      dsimp only
      rw [z8, gdT, Nat.add_zero, z9, Option.bind_some]
      dsimp only
      rw [show nx + 2 + 2 = nx + 4 by omega, z10, gdT, z11, Option.bind_some]
      dsimp only
      rw [show nx + 4 + 1 = nx + 5 by omega, e']
      simp only [aC_some]
      refine ⟨h', v', N', _, _, rfl, ?_, by omega, by omega, by rw [List.length_append]; omega⟩
      rw [show nx + (1 + (1 + (0 + (0 + (2 + (1 + (c6 + c))))))) = nx + 5 + c6 + c by omega]
      exact O'
theorem y_saysHouse (P : PB A I M w h1 n0 eB zs mh mp nm) (hp : p < nP w) (hin : isIn_ w p = true) (O : OSt A h1 n0 eB mb T v N h nx) (hT : T.length + 150 ≤ 1291) : ∃ h' v' N' c d, f_X1_saysHouse (dE zs m) h nx (A 0) (nI p) = some ((), h', c, d) ∧ OSt A h1 n0 eB mb (T ++ hsL w nm p) v' N' h' (nx + c) ∧ N ≤ N' ∧ c ≤ 50 + (N' - N) ∧ d ≤ 500 + 2 * (N' - N) := by
  have h13 := P.2.2.2.2.1.2.1
  have G := P.2.2.2.2.2.2
  have Z := G.1
  have e1 := Z.gH.2
  have e2 := Z.gP.2
  obtain ⟨e11, e6⟩ := Z.p11 (p := p) (by omega)
  have on := O.2.2.2.1
  have ov := O.2.2.1
  have S0 := P.sn O
  obtain ⟨v0, v0'⟩ := Z.p0 (p := p) (by omega)
  obtain ⟨v1, v1'⟩ := Z.p1 (p := p) (by omega)
  obtain ⟨v2, v2'⟩ := inI_n (v := pF w p 2) (b := 7) (Z.2.1 p 2 (by omega) (by decide)) (by decide)
  have v2 : pF w p 2 = nI (pN w p 2) := v2
  have v2' : pN w p 2 ≤ 7 := v2'
  obtain ⟨v3, v3'⟩ := Z.p3 (p := p) (by omega)
  obtain ⟨b10, s10, n10, n10'⟩ := (P.kn O).sw (k := 10) (by decide)
  have l10 := cl_len 10 (by decide)
  have ld := dec_len (x := nm (10 + p))
  obtain ⟨a, s, b, x3, x4, x5, xx⟩ := nm_pp (E := dE zs m) P O hp
  obtain ⟨h3, e3, o2, S3, k3⟩ := t_a (E := dE zs m) s10 n10.1 n10'.1 (by omega)
  obtain ⟨h4, h5, e4, o3, o4, e5, s5, k5⟩ := t_b (E := dE zs m) S3 k3 x3 x4 x5 (by omega)
  let row : Nat → Nat → Int32 := fun j => if j = 0 then fun _ => 0 else if j = 1 then upd (fun _ => 0) 0 (nI (pN w p 0)) else if j = 2 then upd (upd (fun _ => 0) 0 (nI (pN w p 0))) 1 (nI (pN w p 1)) else if j = 3 then upd (upd (upd (fun _ => 0) 0 (nI (pN w p 0))) 1 (nI (pN w p 1))) 2 (nI (pN w p 2)) else upd (upd (upd (upd (fun _ => 0) 0 (nI (pN w p 0))) 1 (nI (pN w p 1))) 2 (nI (pN w p 2))) 3 (nI (pN w p 3))
  have kr : ∀ (g : Nat → Int32) (q : Nat), q < nx → hu h5 (nx + 4) (.inl (0, 4, .inl g)) q = h q := fun g q hq => by rw [hu_n (by omega)]; exact k5 q hq
  have st : ∀ (g : Nat → Int32) (j : Nat) (x : Int32), j < 4 → sI (hu h5 (nx + 4) (.inl (0, 4, .inl g))) (nx + 4) 0 (nI j) x = some (hu h5 (nx + 4) (.inl (0, 4, .inl (upd g j x)))) := fun g j x hj => by rw [sI_at hu_s hj (by decide), hu_hu]
  have st0 : ∀ (g : Nat → Int32) (x : Int32), sI (hu h5 (nx + 4) (.inl (0, 4, .inl g))) (nx + 4) 0 0 x = some (hu h5 (nx + 4) (.inl (0, 4, .inl (upd g 0 x)))) := fun g x => st g 0 x (by decide)
  have st1 : ∀ (g : Nat → Int32) (x : Int32), sI (hu h5 (nx + 4) (.inl (0, 4, .inl g))) (nx + 4) 0 1 x = some (hu h5 (nx + 4) (.inl (0, 4, .inl (upd g 1 x)))) := fun g x => st g 1 x (by decide)
  have Sr : ∀ g : Nat → Int32, SN A I M w 0 (hu h5 (nx + 4) (.inl (0, 4, .inl g))) nx := fun g => S0.grow (Nat.le_refl nx) (kr g)
  have nd : ∀ g : Nat → Int32, ∃ r10, gA (hu h5 (nx + 4) (.inl (0, 4, .inl g))) (A 1) 1 10 = some r10 ∧ aI (hu h5 (nx + 4) (.inl (0, 4, .inl g))) r10 0 (nI p) = some (nI (pN w p 1)) := fun g => by
    obtain ⟨F, wk, rf, sc, la, oa, R, Q, -⟩ := (Sr g).1.2
    exact ⟨_, R.g10, by rw [R.a10 (by omega), (Q.2.1 p hp).2.2.2.2.2.2.1, v1]⟩
  have Or := O.grow (nx' := nx + 5) (h' := hu h5 (nx + 4) (.inl (0, 4, .inl (upd (upd (upd (upd (fun _ => 0) 0 (nI (pN w p 0))) 1 (nI (pN w p 1))) 2 (nI (pN w p 2))) 3 (nI (pN w p 3)))))) (by omega) (kr _) h13
  obtain ⟨h8, v8, N8, c8, d8, e8, O8, x1, x2, x6, x7, x8⟩ := y_says (m := m) (s := nx + 2) (b := nx + 3) (r := nx + 4) (K := 4) (vv := fun k => pN w p k) P Or (s5.kept (hu_n (by omega)) (hu_n (by omega))) ⟨by omega, by omega, by omega⟩ ⟨by omega, by omega, by omega⟩ hu_s ⟨by omega, by omega, by omega⟩ (fun q hq => by
    rcases (show q = 0 ∨ q = 1 ∨ q = 2 ∨ q = 3 by omega) with rfl | rfl | rfl | rfl
    · exact ⟨rfl, by show pN w p 0 < 1000; omega⟩
    · exact ⟨rfl, by show pN w p 1 < 1000; omega⟩
    · exact ⟨rfl, by show pN w p 2 < 1000; omega⟩
    · exact ⟨rfl, by show pN w p 3 < 1000; omega⟩) (by omega) (by rw [List.length_append]; omega)
  have S8 := P.sn O8
  obtain ⟨F8, wk8, rf8, sc8, la8, oa8, R8, Q8, -⟩ := S8.1.2
  obtain ⟨r10a, q10a, q10b⟩ := nd (upd (fun _ => 0) 0 (nI (pN w p 0)))
  have hT8 : (T ++ (cl 10 ++ dec (nm (10 + p))) ++ apN (fun i => nl ((fun k => pN w p k) i)) 4).length ≤ T.length + 31 := by
    have := apN_len (B := fun k => nl (pN w p k)) (m := 4) 4 (fun _ _ => nl_len)
    simp only [List.length_append]
    omega
  generalize hT8e : T ++ (cl 10 ++ dec (nm (10 + p))) ++ apN (fun i => nl ((fun k => pN w p k) i)) 4 = T8 at O8 hT8
  have eT : T ++ hsL w nm p = T8 ++ (inL w nm p ++ (apN (wsL w nm p) (pN w p 11) ++ [nI 59])) := by
    rw [← hT8e]
    unfold hsL
    rw [if_pos hin, cl_e.2.2.2.1]
    simp
  have h141 : ∀ (T : List Int32) (v N : Nat) (h : AH) (nx : Nat), OSt A h1 n0 eB mb T v N h nx → T.length + 80 ≤ 1291 → ∃ h' v' N' c d, f_X1_saysHouse_141 FU (dE zs m) (A 0) (nI p) 0 h nx = some ((), h', c, d) ∧ OSt A h1 n0 eB mb (T ++ (apN (wsL w nm p) (pN w p 11) ++ [nI 59])) v' N' h' (nx + c) ∧ N ≤ N' ∧ c ≤ 31 + (N' - N) ∧ d ≤ 300 + 2 * (N' - N) := fun T v N h nx O hT => by
    obtain ⟨h', v', N', c, d, e', O', y1, y2, y3⟩ := y_hs141 (m := m) P hp (pN w p 11) 0 (FU - pN w p 11 - 1) T v N h nx (by omega) O (by omega)
    rw [show FU - pN w p 11 - 1 + pN w p 11 + 1 = FU by unfold FU; omega] at e'
    have ez : (fun q => wsL w nm p (0 + q)) = wsL w nm p := funext fun q => by rw [Nat.zero_add]
    rw [ez] at O'
    exact ⟨h', v', N', c, d, e', O', y1, by omega, by omega⟩
  have xh := xx h (fun _ _ => rfl)
  have x3' := xx h3 k3
  have xr := fun g => xx (hu h5 (nx + 4) (.inl (0, 4, .inl g))) (kr g)
  obtain ⟨y, hy⟩ : ∃ y, f_X1_saysHouse (dE zs m) h nx (A 0) (nI p) = y := ⟨_, rfl⟩
  rw [hy]
  unfold f_X1_saysHouse at hy
  rw [S0.i0, gdT, xh.1, Option.bind_some, sb_init, Option.bind_some] at hy
  dsimp only [bd] at hy
  rw [o2, gdT, dE_1, show nx + 1 + 1 = nx + 2 by omega, e3, Option.bind_some] at hy
  dsimp only at hy
  rw [x3'.2.1, Option.bind_some, o3, gdT, Nat.add_zero, e4, Option.bind_some] at hy
  dsimp only at hy
  rw [o4, gdT, Nat.add_zero, e5, Option.bind_some] at hy
  dsimp only at hy
  rw [show nx + 2 + 2 = nx + 4 by omega, (xr _).2.2.1, gdT, (xr _).2.2.2.1, Option.bind_some, v0, st0, Option.bind_some, (Sr _).g2, Option.bind_some, q10a, Option.bind_some, q10b, Option.bind_some, st1, Option.bind_some, (xr _).2.2.1, gdT, (xr _).2.2.2.2.1, Option.bind_some, v2, st _ 2 _ (by decide), Option.bind_some, (xr _).2.2.1, gdT, (xr _).2.2.2.2.2, Option.bind_some, v3, st _ 3 _ (by decide), Option.bind_some, (Sr _).i0, gdT, show nx + 4 + 1 = nx + 5 by omega, e8, Option.bind_some] at hy
  dsimp only at hy
  rw [S8.g2, Option.bind_some, R8.g1, Option.bind_some, R8.a1 (by omega), Option.bind_some, (Q8.2.1 p hp).1] at hy
  have fin : ∀ {T' : List Int32} {c d : Nat} {h' : AH} {v' N' : Nat}, aC 1 4 (aC 1 16 (aC 0 0 (aC 0 0 (aC 2 (4 + (cl 10 ++ dec (nm (10 + p))).length) (aC 1 4 (aC c8 d8 (some ((), h', c, d)))))))) = y → OSt A h1 n0 eB mb T' v' N' h' (nx + 5 + c8 + c) → N8 ≤ N' → c ≤ 36 + (N' - N8) → d ≤ 360 + 2 * (N' - N8) → T ++ hsL w nm p = T' → ∃ h' v' N' c d, y = some ((), h', c, d) ∧ OSt A h1 n0 eB mb (T ++ hsL w nm p) v' N' h' (nx + c) ∧ N ≤ N' ∧ c ≤ 50 + (N' - N) ∧ d ≤ 500 + 2 * (N' - N) := fun {T' c d h' v' N'} hy O' y1 y2 y3 eT' => by
    simp only [aC_some] at hy
    refine ⟨h', v', N', _, _, hy.symm, ?_, by omega, by omega, by rw [List.length_append]; omega⟩
    rw [eT', show nx + (1 + (1 + (0 + (0 + (2 + (1 + (c8 + c))))))) = nx + 5 + c8 + c by omega]
    exact O'
  rcases G.2.1.2.1 p hp with h4' | ⟨x, z1, z2, z3⟩
  · have ei : inL w nm p = [] := if_pos h4'
    rw [ei, List.nil_append] at eT
    rw [h4', if_pos (by decide)] at hy
    obtain ⟨h', v', N', c, d, e', O', y1, y2, y3⟩ := h141 T8 v8 N8 h8 (nx + 5 + c8) O8 (by omega)
    rw [e'] at hy
    exact fin hy O' y1 (by omega) (by omega) eT
  · have ex : pN w p 4 = x := by unfold pN; rw [z2, nI_clamp (by omega)]
    rw [z2, if_neg (nI_pos (by omega)), Option.bind_some, R8.g1, Option.bind_some, R8.a1 (by omega), Option.bind_some, (Q8.2.1 p hp).1, z2, S8.i0, gdT, c_isGone S8 G z1, Option.bind_some] at hy
    cases ht : told w x
    · have ei : inL w nm p = [] := by
        unfold inL
        rw [if_neg (by rw [z2]; exact nI_m1 (by omega)), ex, ht]; rfl
      rw [ei, List.nil_append] at eT
      rw [ht, if_neg (show ¬ bI (!false) = 0 by decide)] at hy
      obtain ⟨h', v', N', c, d, e', O', y1, y2, y3⟩ := h141 T8 v8 N8 h8 (nx + 5 + c8) O8 (by omega)
      rw [e'] at hy
      exact fin hy O' y1 (by omega) (by omega) eT
    · have ei : inL w nm p = cl 11 ++ dec (nm x) := by
        unfold inL
        rw [if_neg (by rw [z2]; exact nI_m1 (by omega)), ex, ht, if_pos rfl, cl_e.2.2.2.2.2]; simp
      rw [ei] at eT
      obtain ⟨g3, ga, gs, g4, g5, g6, v6, N6, c6, d6, y1, y2, y3, y4, y5, y6, y7, y8, y9, y10, y11, O6, y12, y13, y14⟩ := y_cn (m := m) (k0 := 11) P O8 (by decide) z1 (by omega)
      have Sg := S8.grow (Nat.le_refl (nx + 5 + c8)) y3
      obtain ⟨F3, wk3, rf3, sc3, la3, oa3, R3, Q3, -⟩ := Sg.1.2
      have ld2 := dec_len (x := nm x)
      have l11 := cl_len 11 (by decide)
      obtain ⟨h', v', N', c, d, e', O', w1, w2, w3⟩ := h141 _ v6 N6 g6 (nx + 5 + c8 + 5 + c6) O6 (by rw [List.length_append, List.length_append]; omega)
      rw [ht, if_pos (show bI (!true) = 0 from rfl), sb_init, Option.bind_some] at hy
      dsimp only at hy
      rw [y2, gdT, show nx + 5 + c8 + 1 + 1 = nx + 5 + c8 + 2 by omega, y1, Option.bind_some] at hy
      dsimp only at hy
      rw [Sg.g2, Option.bind_some, R3.g1, Option.bind_some, R3.a1 (by omega), Option.bind_some, (Q3.2.1 p hp).1, z2, Sg.i0, gdT, y4, Option.bind_some, y5, Option.bind_some, y6, gdT, Nat.add_zero, y7, Option.bind_some] at hy
      dsimp only at hy
      rw [y8, gdT, Nat.add_zero, y9, Option.bind_some] at hy
      dsimp only at hy
      rw [show nx + 5 + c8 + 2 + 2 = nx + 5 + c8 + 4 by omega, y10, gdT, y11, Option.bind_some] at hy
      dsimp only at hy
      rw [show nx + 5 + c8 + 4 + 1 = nx + 5 + c8 + 5 by omega, e'] at hy
      have hy2 : aC 1 4 (aC 1 16 (aC 0 0 (aC 0 0 (aC 2 (4 + (cl 10 ++ dec (nm (10 + p))).length) (aC 1 4 (aC c8 d8 (some ((), h', 5 + c6 + c, 24 + (cl 11 ++ dec (nm x)).length + d6 + d)))))))) = y := by
        rw [← hy]
        simp only [aC_some]
        refine congrArg some (congrArg (Prod.mk ()) (congrArg (Prod.mk h') (Prod.ext ?_ ?_)))
        · dsimp only; omega
        · dsimp only; omega
      refine fin (v' := v') (N' := N') (T' := T8 ++ (cl 11 ++ dec (nm x)) ++ (apN (wsL w nm p) (pN w p 11) ++ [nI 59])) hy2 ?_ (by omega) (by omega) (by rw [List.length_append]; omega) (by rw [eT]; simp)
      rw [show nx + 5 + c8 + (5 + c6 + c) = nx + 5 + c8 + 5 + c6 + c by omega]
      exact O'
end PTV
