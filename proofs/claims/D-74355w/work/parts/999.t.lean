/-! print: the component's lines -/
section PTT
variable {A : Nat → Nat} {I : Nat → Int32} {st : Int32} {M : Nat → Prop} {h h' h1 h3 : AH} {E : bE} {nx nx' n0 a v N k n s b i p u eB x mh mp m K r : Nat} {mb : Int32} {T L L1 L2 T' : List Int32} {g fr : Nat → Int32} {w : Rw} {zs vv : Nat → Nat} {nm : Nat → Int64} {wd : Int64}
theorem OSt.grow (O : OSt A h1 n0 eB mb T v N h nx) (hn : nx ≤ nx') (hk : ∀ q, q < nx → h' q = h q) (h13 : A 13 < n0) : OSt A h1 n0 eB mb T v N h' nx' := by
  obtain ⟨⟨q, ⟨f, q2, hf⟩, b1, b2⟩, o2, o3, o4, o5, o6⟩ := O
  exact ⟨⟨(hk _ (by omega)).trans q, ⟨f, (hk _ o3).trans q2, hf⟩, b1, b2⟩, o2, by omega, by omega, o5, fun z z1 z2 z3 => (hk z (by omega)).trans (o6 z z1 z2 z3)⟩
theorem KN.sw (K : KN zs A M h nx) (hk : k < 21) : ∃ b, StrL h (zs (20 + k)) b (cl k) ∧ NI nx M (zs (20 + k)) ∧ NI nx M b := by
  obtain ⟨b, z1, z2, z3⟩ := K.1 k hk
  exact ⟨b, z1.l, z2, z3⟩
theorem aC_aC {α : Type} {c d c' d' : Nat} {o : Option (α × AH × Nat × Nat)} : aC c d (aC c' d' o) = aC (c + c') (d + d') o := by
  cases o with
  | none => rfl
  | some q => obtain ⟨q1, q2, q3, q4⟩ := q; simp [aC, Nat.add_assoc]
theorem aC_e {α : Type} {c d c' d' : Nat} {o : Option (α × AH × Nat × Nat)} (h1 : c = c') (h2 : d = d') : aC c d o = aC c' d' o := by rw [h1, h2]
/-- a new builder with one String -/
theorem t_a (SL : StrL h s b L) (hs : s < nx) (hb : b < nx) (hL : L.length ≤ 16) : ∃ h3, f_J8_append_2 E (hu (hu h nx (sB3 (nx + 1) 0 0)) (nx + 1) (.inl (2, 16, .inl (fun _ => 0)))) (nx + 2) nx s = some (nx, h3, 0, 0) ∧ isO (hu (hu h nx (sB3 (nx + 1) 0 0)) (nx + 1) (.inl (2, 16, .inl (fun _ => 0)))) nx 12 = true ∧ SBT h3 nx (nx + 1) 16 0 L ∧ ∀ q, q < nx → h3 q = h q := by
  have k2 : ∀ q, q < nx → hu (hu h nx (sB3 (nx + 1) 0 0)) (nx + 1) (.inl (2, 16, .inl (fun _ => 0))) q = h q := fun q hq => by rw [hu_n (by omega), hu_n (by omega)]
  have S2 : SBT (hu (hu h nx (sB3 (nx + 1) 0 0)) (nx + 1) (.inl (2, 16, .inl (fun _ => 0)))) nx (nx + 1) 16 0 [] := ⟨(hu_n (by omega)).trans hu_s, ⟨_, hu_s, fun i hi => absurd hi (by simp)⟩, Nat.zero_le _, by omega⟩
  obtain ⟨h', v', N', c, d, e, S, -, -, -, -, -, b6, b7⟩ := sb_as (E := E) (nx := nx + 2) S2 (SL.kept (k2 _ hs) (k2 _ hb)) (by show 0 + L.length ≤ 1295; omega) (by omega) (by omega) (by omega) ⟨by omega, by omega, by omega⟩ ⟨by omega, by omega, by omega⟩
  obtain ⟨rfl, rfl, rfl, rfl⟩ := b7 (by show L.length ≤ 16; exact hL)
  exact ⟨h', e, S2.o, S, fun q hq => (b6 q (by omega) (by omega) (by omega)).trans (k2 q hq)⟩
/-- one more, and the text -/
theorem t_b (S : SBT h3 nx (nx + 1) 16 0 L1) (hk : ∀ q, q < nx → h3 q = h q) (SL : StrL h s b L2) (hs : s < nx) (hb : b < nx) (hL : L1.length + L2.length ≤ 16) : ∃ h4 h5, f_J8_append_2 E h3 (nx + 2) nx s = some (nx, h4, 0, 0) ∧ isO h3 nx 12 = true ∧ isO h4 nx 12 = true ∧ f_J8_toString E h4 (nx + 2) nx = some (nx + 2, h5, 2, 4 + (L1 ++ L2).length) ∧ StrL h5 (nx + 2) (nx + 3) (L1 ++ L2) ∧ ∀ q, q < nx → h5 q = h q := by
  obtain ⟨h', v', N', c, d, e, S', -, -, -, -, -, b6, b7⟩ := sb_as (E := E) (nx := nx + 2) S (SL.kept (hk _ hs) (hk _ hb)) (by omega) (by omega) (by omega) (by omega) ⟨by omega, by omega, by omega⟩ ⟨by omega, by omega, by omega⟩
  obtain ⟨rfl, rfl, rfl, rfl⟩ := b7 (by rw [List.length_append]; exact hL)
  obtain ⟨q, ⟨f, q2, hf⟩, c1, c2⟩ := id S'
  obtain ⟨h5, e5, s5, k5⟩ := sb_str (E := E) (nx := nx + 2) q q2 c1 (by omega) (by omega) (by omega)
  refine ⟨h', h5, e, S.o, S'.o, e5, ?_, fun z hz => ?_⟩
  · obtain ⟨x, y, f', z1, z2, z3⟩ := s5
    exact ⟨x, y, f', z1, z2, fun i hi => (z3 i hi).trans (hf i hi)⟩
  · rw [k5 z (by omega), b6 z (by omega) (by omega) (by omega)]; exact hk z hz
theorem cl_e : cl 14 = cl 8 ++ [nI 32] ∧ cl 13 = [nI 59] ∧ cl 12 = [nI 32] ∧ cl 10 = cl 7 ++ [nI 32] ∧ cl 15 = cl 6 ++ [nI 32] ∧ cl 11 = [nI 32] ++ cl 9 ++ [nI 32] := by decide +kernel
/-- a String alone is said -/
theorem y_say0 (P : PB A I M w h1 n0 eB zs mh mp nm) (O : OSt A h1 n0 eB mb T v N h nx) (SL : StrL h s b L) (hs : s < nx ∧ s ≠ A 13 ∧ s ≠ v) (hb : b < nx ∧ b ≠ A 13 ∧ b ≠ v) (hT : T.length + L.length ≤ 1291) : ∃ h' v' N' c d, isO (hu h nx (.inl (0, 0, .inl (fun _ => 0)))) (A 0) 0 = true ∧ f_X1_says (dE zs m) (hu h nx (.inl (0, 0, .inl (fun _ => 0)))) (nx + 1) (A 0) s nx = some ((), h', c, d) ∧ OSt A h1 n0 eB mb (T ++ L) v' N' h' (nx + 1 + c) ∧ N ≤ N' ∧ c ≤ N' - N ∧ d ≤ 2 * (N' - N) := by
  have h13 := P.2.2.2.2.1.2.1
  have on := O.2.2.2.1
  have ov := O.2.2.1
  have O2 := O.grow (nx' := nx + 1) (h' := hu h nx (.inl (0, 0, .inl (fun _ => 0)))) (by omega) (fun q hq => hu_n (by omega)) h13
  obtain ⟨h', v', N', c, d, e, O3, b1, b2, b3, b4, b5⟩ := y_says (m := m) (r := nx) (K := 0) (vv := fun _ => 0) P O2 (SL.kept (hu_n (by omega)) (hu_n (by omega))) ⟨by omega, hs.2.1, hs.2.2⟩ ⟨by omega, hb.2.1, hb.2.2⟩ hu_s ⟨by omega, by omega, by omega⟩ (fun i hi => absurd hi (by omega)) (by omega) (by omega)
  refine ⟨h', v', N', c, d, (P.sn O2).i0, e, ?_, b1, b2, b3⟩
  have : T ++ L ++ apN (fun i => nl ((fun _ => 0) i)) 0 = T ++ L := List.append_nil _
  rw [this] at O3; exact O3
/-- a constant alone is said -/
theorem y_sayC (P : PB A I M w h1 n0 eB zs mh mp nm) (O : OSt A h1 n0 eB mb T v N h nx) (hk : k < 21) (hT : T.length + (cl k).length ≤ 1291) : ∃ h' v' N' c d, isO (hu h nx (.inl (0, 0, .inl (fun _ => 0)))) (A 0) 0 = true ∧ f_X1_says (dE zs m) (hu h nx (.inl (0, 0, .inl (fun _ => 0)))) (nx + 1) (A 0) (zs (20 + k)) nx = some ((), h', c, d) ∧ OSt A h1 n0 eB mb (T ++ cl k) v' N' h' (nx + 1 + c) ∧ N ≤ N' ∧ c ≤ N' - N ∧ d ≤ 2 * (N' - N) := by
  obtain ⟨b, s1, n1, n2⟩ := P.2.2.1.sw hk
  exact y_say0 P O (s1.kept ((P.ms O).k n1) ((P.ms O).k n2)) (P.ne O n1) (P.ne O n2) hT
theorem y_print16 (P : PB A I M w h1 n0 eB zs mh mp nm) {kk : AH → Nat → Option (Int32 × AH × Nat × Nat)} (hkk : ∀ (h : AH) (nx : Nat), f_X1_print_84 FU (dE zs m) (A 0) 0 h nx = kk h nx) : ∀ (k i j : Nat) (T : List Int32) (v N : Nat) (h : AH) (nx : Nat), i + k = 6 → OSt A h1 n0 eB mb T v N h nx → T.length + 18 * k ≤ 1291 → ∃ h' v' N' c d, f_X1_print_16 (j + k + 1) (dE zs m) (A 0) (nI i) h nx = aC c d (kk h' (nx + c)) ∧ OSt A h1 n0 eB mb (T ++ apN (fun q => ruL w (i + q)) k) v' N' h' (nx + c) ∧ N ≤ N' ∧ c ≤ 6 * k + (N' - N) ∧ d ≤ 50 * k + 2 * (N' - N) := by
  have h13 := P.2.2.2.2.1.2.1
  have G := P.2.2.2.2.2.2
  intro k
  induction k with
  | zero =>
    intro i j T v N h nx hi O hT
    rw [f_X1_print_16, show i = 6 by omega, if_pos (nI_leR _), hkk]
    refine ⟨h, v, N, 0, 0, (aC00 _).symm, ?_, Nat.le_refl _, by omega, by omega⟩
    show OSt A h1 n0 eB mb (T ++ []) v N h nx
    rw [List.append_nil]; exact O
  | succ k ih =>
    intro i j T v N h nx hi O hT
    have on := O.2.2.2.1
    have ov := O.2.2.1
    obtain ⟨b14, s14, n14, n14'⟩ := (P.kn O).sw (k := 14) (by decide)
    obtain ⟨bi, si, ni, ni'⟩ := (P.kn O).sw (k := i) (by omega)
    obtain ⟨h3, e3, o2, S3, k3⟩ := t_a (E := dE zs m) s14 n14.1 n14'.1 (by have := cl_len 14 (by decide); omega)
    have g3 := ((P.sn O).grow (Nat.le_refl nx) k3).g8
    obtain ⟨gk, gk1, gk2, gk3⟩ := (P.kn O).2.1
    have ar3 : aR h3 (A 10) 8 (nI i) = some (zs (20 + i)) := aR_at ((k3 _ gk3.1).trans gk1) (by omega) (by decide) (gk2 i (by omega))
    obtain ⟨h4, h5, e4, o3, o4, e5, s5, k5⟩ := t_b (E := dE zs m) S3 k3 si ni.1 ni'.1 (by have := cl_len 14 (by decide); have := cl_len i (by omega); omega)
    have O6 := O.grow (nx' := nx + 5) (h' := hu h5 (nx + 4) (.inl (0, 1, .inl (fun _ => 0)))) (by omega) (fun q hq => by rw [hu_n (by omega)]; exact k5 q hq) h13
    obtain ⟨r1, r2⟩ := rule_v (k := i) G.1 (by omega)
    have S6 := P.sn O6
    obtain ⟨F, wk, rf, sc, la, oa, R6, Q6, -⟩ := S6.1.2
    have st6 : sI (hu h5 (nx + 4) (.inl (0, 1, .inl (fun _ => 0)))) (nx + 4) 0 0 (nI (wN w (224 + i))) = some (hu h5 (nx + 4) (.inl (0, 1, .inl (upd (fun _ => 0) 0 (nI (wN w (224 + i))))))) := by
      rw [show (0 : Int32) = nI 0 from rfl, sI_at hu_s (by decide) (by decide), hu_hu]
    have O7 := O.grow (nx' := nx + 5) (h' := hu h5 (nx + 4) (.inl (0, 1, .inl (upd (fun _ => 0) 0 (nI (wN w (224 + i))))))) (by omega) (fun q hq => by rw [hu_n (by omega)]; exact k5 q hq) h13
    have l14 := cl_len 14 (by decide)
    have li := cl_len i (by omega)
    obtain ⟨h8, v8, N8, c8, d8, e8, O8, x1, x2, x3, x4, x5⟩ := y_says (m := m) (s := nx + 2) (b := nx + 3) (r := nx + 4) (K := 1) (vv := fun _ => wN w (224 + i)) P O7 (s5.kept (hu_n (by omega)) (hu_n (by omega))) ⟨by omega, by omega, by omega⟩ ⟨by omega, by omega, by omega⟩ hu_s ⟨by omega, by omega, by omega⟩ (fun q hq => ⟨by rw [show q = 0 by omega]; rfl, r2⟩) (by omega) (by rw [List.length_append]; omega)
    have on8 := O8.2.2.2.1
    obtain ⟨h9, v9, N9, c9, d9, i9, e9, O9, y1, y2, y3⟩ := y_sayC (m := m) (k := 13) P O8 (by decide) (by
      have := nl_len (v := wN w (224 + i))
      rw [cl_e.2.1]
      simp only [List.length_append, apN, List.length_nil, List.length_cons]
      omega)
    have eT : T ++ (cl 14 ++ cl i) ++ apN (fun q => nl ((fun _ => wN w (224 + i)) q)) 1 ++ cl 13 = T ++ ruL w i := by
      unfold ruL
      rw [cl_e.1, cl_e.2.1]
      simp [apN]
    rw [eT] at O9
    have hl := ruL_len (w := w) (k := i) (by omega)
    obtain ⟨h', v', N', c, d, e', O', z1, z2, z3⟩ := ih (i + 1) j _ v9 N9 h9 (nx + 5 + c8 + 1 + c9) (by omega) O9 (by rw [List.length_append]; omega)
    refine ⟨h', v', N', 1 + (1 + (0 + (0 + (2 + (1 + (c8 + (1 + (c9 + c)))))))), 4 + (16 + (0 + (0 + (4 + (cl 14 ++ cl i).length + (1 + (d8 + (0 + (d9 + d)))))))), ?_, ?_, by omega, by omega, by rw [List.length_append]; omega⟩
    · rw [show j + (k + 1) + 1 = j + k + 1 + 1 by omega, f_X1_print_16, if_neg (nI_ge (by omega) (by decide)), sb_init, Option.bind_some]
      dsimp only [bd]
      rw [o2, gdT, dE_1, show nx + 1 + 1 = nx + 2 by omega, e3, Option.bind_some]
      dsimp only
      rw [g3, Option.bind_some, ar3, Option.bind_some, o3, gdT, Nat.add_zero, e4, Option.bind_some]
      dsimp only
      rw [o4, gdT, Nat.add_zero, e5, Option.bind_some]
      dsimp only
      rw [show nx + 2 + 2 = nx + 4 by omega, S6.g2, Option.bind_some, R6.g0, Option.bind_some, R6.a0 (by omega), Option.bind_some, Q6.1 i (by omega), r1, st6, Option.bind_some, (P.sn O7).i0, gdT, show nx + 4 + 1 = nx + 5 by omega, e8, Option.bind_some]
      dsimp only
      rw [i9, gdT, e9, Option.bind_some]
      dsimp only
      rw [nI_1, e', show nx + (1 + (1 + (0 + (0 + (2 + (1 + (c8 + (1 + (c9 + c))))))))) = nx + 5 + c8 + 1 + c9 + c by omega]
      simp only [aC_aC]
    · rw [show nx + (1 + (1 + (0 + (0 + (2 + (1 + (c8 + (1 + (c9 + c))))))))) = nx + 5 + c8 + 1 + c9 + c by omega, apN_at, ← List.append_assoc]
      exact O'
end PTT
