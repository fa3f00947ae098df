/-! the component's constructor -/
def aE8 (N : Nat) (g : Nat → Option Nat) : hE := .inl (8, N, .inr (.inr (.inr (.inr g))))
section YIN
variable {h h1 h2 : AH} {o nx a k N b : Nat} {zs : Nat → Nat} {z : Nat} {g : Nat → Option Nat} {v : Option Nat} {fs : List Value}
theorem sR_at (q : h a = some (aE8 N g)) (hk : k < N) (hN : N < 2 ^ 31) : sR h a 8 (nI k) v = some (hu h a (aE8 N (va_up g k v))) := by
  have q : h a = some (.inl (8, N, .inr (.inr (.inr (.inr g))))) := q
  unfold sR arR
  rw [q]
  dsimp only
  rw [if_pos rfl, Option.bind_some]
  dsimp only
  rw [gdn ⟨hk, hN⟩, nI_clamp (by omega)]
  rfl
theorem stS (q : h a = some (.inr (.inl (13, fs)))) : stO 8 (h a) = true := by rw [q]; rfl
/-- strings into a new array, one after the other -/
theorem sR_new (q : h a = some (aE8 N g)) (hk : k < N) (hN : N < 2 ^ 31) (hs : ∃ fs, h b = some (.inr (.inl (13, fs)))) (hba : b ≠ a) : gd (stO 8 (h b)) (sR h a 8 (nI k) (some b)) = some (hu h a (aE8 N (va_up g k (some b)))) := by
  obtain ⟨fs, hs⟩ := hs
  rw [stS hs, gdT, sR_at q hk hN]
/-- the constants before the object is made -/
def KZ (zs : Nat → Nat) (o : Nat) (h : AH) (nx : Nat) : Prop := (∀ k, k < 21 → ∃ b, StrH h (zs (20 + k)) b (cstL k) (cstG k) ∧ (zs (20 + k) < nx ∧ zs (20 + k) ≠ o) ∧ b < nx ∧ b ≠ o) ∧ ((∃ f : Nat → Int32, h (zs 2) = some (.inl (0, 6, .inl f)) ∧ ∀ k, k < 6 → f k = plR k) ∧ zs 2 < nx ∧ zs 2 ≠ o)
def yA (o nx : Nat) : Nat → Nat := fun k => match k with
  | 0 => o
  | 1 => nx + 4
  | 2 => nx + 21
  | 3 => nx + 23
  | 4 => 2
  | 5 => 2
  | 6 => nx
  | 7 => nx + 2
  | 8 => nx + 45
  | 9 => nx + 86
  | 10 => nx + 88
  | 11 => nx + 89
  | 12 => nx + 90
  | _ => nx + 91
def yB (nx : Nat) : Nat → Nat → Nat := fun i k => match i with
  | 0 => (match k with | 0 => nx + 4 | 1 => nx + 21 | 2 => nx + 23 | _ => 2)
  | _ => (match k with | 0 => nx + 45 | 1 => nx + 62 | 2 => nx + 64 | _ => 2)
def yI : Nat → Int32 := fun k => if k = 2 then 0 else -1
/-- the heap behind the constructor -/
def YH (zs : Nat → Nat) (o nx : Nat) (h h' : AH) : Prop :=
  h' o = some (oE (yA o nx) yI 0) ∧ (∀ q, q < nx → q ≠ o → h' q = h q) ∧ h' nx = some (lO 0 (nx + 1) 0) ∧ h' (nx + 1) = some (rO 2 (fun _ => none)) ∧ h' (nx + 2) = some (lO 0 (nx + 3) 0) ∧ h' (nx + 3) = some (rO 2 (fun _ => none)) ∧
  (∃ F, RegH h' o (nx + 4) (nx + 21) (nx + 23) F 0 0 (0, 0, 0, 0) 0 (fun _ => 0) 0 (fun _ => 0) 2 2 ∧ IniF F) ∧ (∃ F, RegH h' o (nx + 45) (nx + 62) (nx + 64) F 0 0 (0, 0, 0, 0) 0 (fun _ => 0) 0 (fun _ => 0) 2 2 ∧ IniF F) ∧
  h' (nx + 86) = some (lO 0 (nx + 87) 0) ∧ h' (nx + 87) = some (rO 2 (fun _ => none)) ∧ (∃ g, h' (nx + 88) = some (aE8 6 g) ∧ ∀ i, i < 6 → g i = some (zs (20 + i))) ∧ (∃ g, h' (nx + 89) = some (aE8 4 g) ∧ ∀ i, i < 4 → g i = some (zs (26 + i))) ∧
  h' (nx + 90) = some (tE (fun _ => 0)) ∧ h' (nx + 91) = some (sB3 (nx + 92) 0 0) ∧ h' (nx + 92) = some (.inl (2, 16, .inl (fun _ => 0)))
/-- the object's own fields -/
def oF13 (a b c d e : Value) (s f p : Int32) (i j k : Value) (m : Int32) (n : Value) : hE := .inr (.inl (0, [a, b, c, d, e, .int s, .int f, .int p, i, j, k, .int m, n]))
theorem yl {E : bE} {c : Nat} : ∃ h', f_J2_init E (hu h c (.inr (.inl (11, df_J2)))) (c + 1) c (nI 2) = some ((), h', 1, 2) ∧ (∀ q, q < c → h' q = h q) ∧ h' c = some (lO 0 (c + 1) 0) ∧ h' (c + 1) = some (rO 2 (fun _ => none)) :=
  ⟨_, l_new, fun q hq => by rw [hu_n (by omega), hu_n (by omega)], by rw [hu_n (by omega), hu_s], hu_s⟩
theorem yw {j : Nat} {x : Value} {fs fs' : List Value} (q : h o = some (.inr (.inl (0, fs)))) (hj : j < fs.length) (e : fs.set j x = fs') : ∃ h', wr h o 0 j x = some h' ∧ h' o = some (.inr (.inl (0, fs'))) ∧ ∀ q, q ≠ o → h' q = h q :=
  ⟨_, by rw [wr_at q hj, e], hu_s, fun q hq => hu_n hq⟩
theorem yr {c : Nat} (hz : zs 2 < c) (hP : ∃ f : Nat → Int32, h (zs 2) = some (.inl (0, 6, .inl f)) ∧ ∀ k, k < 6 → f k = plR k) : ∃ h', f_X2_init (dE zs z) (hu h c (.inr (.inl (1, df_X2)))) (c + 1) c o = some ((), h', 40, 206) ∧ (∃ F, RegH h' o c (c + 17) (c + 19) F 0 0 (0, 0, 0, 0) 0 (fun _ => 0) 0 (fun _ => 0) 2 2 ∧ IniF F) ∧ ∀ q, q < c → h' q = h q := by
  obtain ⟨f, p1, p2⟩ := hP
  obtain ⟨h', y1, y2, y3⟩ := x_init (E := dE zs z) (h := hu h c (.inr (.inl (1, df_X2)))) (r := c) (o := o) (la := fun _ => 0) (oa := fun _ => 0) hu_s (by rw [dE_1]; exact hz) ⟨f, by rw [dE_1, hu_n (by omega)]; exact p1, p2⟩
  exact ⟨h', y1, y2, fun q hq => (y3 q hq).trans (hu_n (by omega))⟩
/-- n strings in a new array -/
theorem ys {c : Nat} {f : Nat → Nat} (hz : ∀ i, i < N → (∃ fs, h (f i) = some (.inr (.inl (13, fs)))) ∧ f i ≠ c) (hN : N < 2 ^ 31) (q : h c = some (aE8 N g)) : ∀ m, m < N → (∀ i, i < m → g i = some (f i)) → ∃ h' g', gd (stO 8 (h (f m))) (sR h c 8 (nI m) (some (f m))) = some h' ∧ h' c = some (aE8 N g') ∧ (∀ i, i < m + 1 → g' i = some (f i)) ∧ ∀ q, q ≠ c → h' q = h q := by
  intro m hm hg
  obtain ⟨z1, z2⟩ := hz m hm
  refine ⟨_, _, sR_new q hm hN z1 z2, hu_s, fun i hi => ?_, fun q hq => hu_n hq⟩
  unfold va_up
  split
  · rename_i e; rw [e]
  · exact hg i (by omega)
set_option maxHeartbeats 4000000 in
theorem y_init (hO : h o = some (.inr (.inl (0, df_X1)))) (hon : o < nx) (K : KZ zs o h nx) : ∃ h', f_X1_init (dE zs z) h nx o = some ((), h', 93, 1411) ∧ YH zs o nx h h' := by
  obtain ⟨K1, ⟨fp, K2, K2'⟩, K3, K4⟩ := K
  have q0 : h o = some (.inr (.inl (0, [.null, .null, .null, .null, .null, .int 0, .int 0, .int 0, .null, .null, .null, .int 0, .null]))) := hO
  unfold f_X1_init
  simp only [bd]
  -- homes
  obtain ⟨h1, y1, k1, a1, a2⟩ := yl (h := h) (E := dE zs z) (c := nx)
  rw [y1, Option.bind_some]
  dsimp only
  obtain ⟨h2, w2, q2, k2⟩ := yw (x := .ref nx) ((k1 o hon).trans q0) (by show 0 < 13; decide) rfl
  rw [w2, Option.bind_some]
  have kk2 : ∀ q, q < nx → q ≠ o → h2 q = h q := fun q hq ho => (k2 q ho).trans (k1 q hq)
  have a1 := (k2 nx (by omega)).trans a1
  have a2 := (k2 (nx + 1) (by omega)).trans a2
  -- houses
  obtain ⟨h3, y3, k3, b1, b2⟩ := yl (h := h2) (E := dE zs z) (c := nx + 1 + 1)
  rw [y3, Option.bind_some]
  dsimp only
  obtain ⟨h4, w4, q4, k4⟩ := yw (x := .ref (nx + 1 + 1)) ((k3 o (by omega)).trans q2) (by show 1 < 13; decide) rfl
  rw [w4, Option.bind_some]
  have k34 : ∀ q, q < nx + 2 → q ≠ o → h4 q = h2 q := fun q hq ho => (k4 q ho).trans (k3 q hq)
  have kk4 : ∀ q, q < nx → q ≠ o → h4 q = h q := fun q hq ho => (k34 q (by omega) ho).trans (kk2 q hq ho)
  have a1 := (k34 nx (by omega) (by omega)).trans a1
  have a2 := (k34 (nx + 1) (by omega) (by omega)).trans a2
  have b1 := (k4 (nx + 2) (by omega)).trans b1
  have b2 := (k4 (nx + 3) (by omega)).trans b2
  -- now
  obtain ⟨h5, y5, r5, k5⟩ := yr (h := h4) (o := o) (z := z) (zs := zs) (c := nx + 1 + 1 + 1 + 1) (by omega) ⟨fp, (kk4 _ K3 K4).trans K2, K2'⟩
  rw [y5, Option.bind_some]
  dsimp only
  obtain ⟨h6, w6, q6, k6⟩ := yw (x := .ref (nx + 1 + 1 + 1 + 1)) ((k5 o (by omega)).trans q4) (by show 2 < 13; decide) rfl
  rw [w6, Option.bind_some]
  have k56 : ∀ q, q < nx + 4 → q ≠ o → h6 q = h4 q := fun q hq ho => (k6 q ho).trans (k5 q hq)
  have kk6 : ∀ q, q < nx → q ≠ o → h6 q = h q := fun q hq ho => (k56 q (by omega) ho).trans (kk4 q hq ho)
  -- aside
  obtain ⟨h7, y7, r7, k7⟩ := yr (h := h6) (o := o) (z := z) (zs := zs) (c := nx + 1 + 1 + 1 + 1 + 1 + 40) (by omega) ⟨fp, (kk6 _ K3 K4).trans K2, K2'⟩
  rw [y7, Option.bind_some]
  dsimp only
  obtain ⟨h8, w8, q8, k8⟩ := yw (x := .ref (nx + 1 + 1 + 1 + 1 + 1 + 40)) ((k7 o (by omega)).trans q6) (by show 3 < 13; decide) rfl
  rw [w8, Option.bind_some]
  have k78 : ∀ q, q < nx + 45 → q ≠ o → h8 q = h6 q := fun q hq ho => (k8 q ho).trans (k7 q hq)
  have kk8 : ∀ q, q < nx → q ≠ o → h8 q = h q := fun q hq ho => (k78 q (by omega) ho).trans (kk6 q hq ho)
  -- past
  obtain ⟨h9, y9, k9, c1, c2⟩ := yl (h := h8) (E := dE zs z) (c := nx + 1 + 1 + 1 + 1 + 1 + 40 + 1 + 40)
  rw [y9, Option.bind_some]
  dsimp only
  obtain ⟨h10, w10, q10, k10⟩ := yw (x := .ref (nx + 1 + 1 + 1 + 1 + 1 + 40 + 1 + 40)) ((k9 o (by omega)).trans q8) (by show 4 < 13; decide) rfl
  rw [w10, Option.bind_some]
  obtain ⟨h11, w11, q11, k11⟩ := yw (x := .int (-1)) q10 (by show 6 < 13; decide) rfl
  rw [w11, Option.bind_some]
  obtain ⟨h12, w12, q12, k12⟩ := yw (x := .int (-1)) q11 (by show 7 < 13; decide) rfl
  rw [w12, Option.bind_some]
  have k912 : ∀ q, q < nx + 86 → q ≠ o → h12 q = h8 q := fun q hq ho => (k12 q ho).trans ((k11 q ho).trans ((k10 q ho).trans (k9 q hq)))
  have kk12 : ∀ q, q < nx → q ≠ o → h12 q = h q := fun q hq ho => (k912 q (by omega) ho).trans (kk8 q hq ho)
  have c1 := (k12 (nx + 86) (by omega)).trans ((k11 (nx + 86) (by omega)).trans ((k10 (nx + 86) (by omega)).trans c1))
  have c2 := (k12 (nx + 87) (by omega)).trans ((k11 (nx + 87) (by omega)).trans ((k10 (nx + 87) (by omega)).trans c2))
  -- the kinds' and the lines' names
  have K1s : ∀ (hh : AH), (∀ q, q < nx → q ≠ o → hh q = h q) → ∀ k, k < 21 → ∃ fs, hh (zs (20 + k)) = some (.inr (.inl (13, fs))) := fun hh hk k hkl => by
    obtain ⟨b, ⟨x, y, f, s1, -⟩, ⟨s2, s3⟩, -⟩ := K1 k hkl
    exact ⟨_, (hk _ s2 s3).trans s1⟩
  have K1n : ∀ k, k < 21 → zs (20 + k) < nx ∧ zs (20 + k) ≠ o := fun k hkl => by
    obtain ⟨b, -, s, -⟩ := K1 k hkl
    exact s
  generalize hN : nx + 1 + 1 + 1 + 1 + 1 + 40 + 1 + 40 + 1 + 1 = n13
  have hN' : n13 = nx + 88 := by omega
  have e13 : hu h12 n13 (.inl (8, 6, .inr (.inr (.inr (.inr (fun _ => none)))))) n13 = some (aE8 6 (fun _ => none)) := hu_s
  have k13 : ∀ q, q ≠ n13 → hu h12 n13 (.inl (8, 6, .inr (.inr (.inr (.inr (fun _ => none)))))) q = h12 q := fun q hq => hu_n hq
  generalize hu h12 n13 (.inl (8, 6, .inr (.inr (.inr (.inr (fun _ => none)))))) = s0 at e13 k13 ⊢
  have t0 : ∀ q, q < nx → q ≠ o → s0 q = h q := fun q hq ho => (k13 q (by omega)).trans (kk12 q hq ho)
  obtain ⟨s1, g1, u1, v1, x1, j1⟩ := ys (h := s0) (N := 6) (c := n13) (f := fun i => zs (20 + i)) (fun i hi => ⟨K1s _ t0 i (by omega), by have := (K1n i (by omega)).1; omega⟩) (by decide) e13 0 (by decide) (fun i hi => absurd hi (by omega))
  have u1 : gd (stO 8 (s0 ((dE zs z).1 (20 + 0)))) (sR s0 n13 8 0 (some ((dE zs z).1 (20 + 0)))) = some s1 := by rw [dE_1]; exact u1
  have t1 : ∀ q, q < nx → q ≠ o → s1 q = h q := fun q hq ho => (j1 q (by omega)).trans (t0 q hq ho)
  obtain ⟨s2, g2, u2, v2, x2, j2⟩ := ys (h := s1) (N := 6) (c := n13) (f := fun i => zs (20 + i)) (fun i hi => ⟨K1s _ t1 i (by omega), by have := (K1n i (by omega)).1; omega⟩) (by decide) v1 1 (by decide) x1
  have u2 : gd (stO 8 (s1 ((dE zs z).1 (20 + 1)))) (sR s1 n13 8 1 (some ((dE zs z).1 (20 + 1)))) = some s2 := by rw [dE_1]; exact u2
  have t2 : ∀ q, q < nx → q ≠ o → s2 q = h q := fun q hq ho => (j2 q (by omega)).trans (t1 q hq ho)
  obtain ⟨s3, g3, u3, v3, x3, j3⟩ := ys (h := s2) (N := 6) (c := n13) (f := fun i => zs (20 + i)) (fun i hi => ⟨K1s _ t2 i (by omega), by have := (K1n i (by omega)).1; omega⟩) (by decide) v2 2 (by decide) x2
  have u3 : gd (stO 8 (s2 ((dE zs z).1 (20 + 2)))) (sR s2 n13 8 (nI 2) (some ((dE zs z).1 (20 + 2)))) = some s3 := by rw [dE_1]; exact u3
  have t3 : ∀ q, q < nx → q ≠ o → s3 q = h q := fun q hq ho => (j3 q (by omega)).trans (t2 q hq ho)
  obtain ⟨s4, g4, u4, v4, x4, j4⟩ := ys (h := s3) (N := 6) (c := n13) (f := fun i => zs (20 + i)) (fun i hi => ⟨K1s _ t3 i (by omega), by have := (K1n i (by omega)).1; omega⟩) (by decide) v3 3 (by decide) x3
  have u4 : gd (stO 8 (s3 ((dE zs z).1 (20 + 3)))) (sR s3 n13 8 (nI 3) (some ((dE zs z).1 (20 + 3)))) = some s4 := by rw [dE_1]; exact u4
  have t4 : ∀ q, q < nx → q ≠ o → s4 q = h q := fun q hq ho => (j4 q (by omega)).trans (t3 q hq ho)
  obtain ⟨s5, g5, u5, v5, x5, j5⟩ := ys (h := s4) (N := 6) (c := n13) (f := fun i => zs (20 + i)) (fun i hi => ⟨K1s _ t4 i (by omega), by have := (K1n i (by omega)).1; omega⟩) (by decide) v4 4 (by decide) x4
  have u5 : gd (stO 8 (s4 ((dE zs z).1 (20 + 4)))) (sR s4 n13 8 (nI 4) (some ((dE zs z).1 (20 + 4)))) = some s5 := by rw [dE_1]; exact u5
  have t5 : ∀ q, q < nx → q ≠ o → s5 q = h q := fun q hq ho => (j5 q (by omega)).trans (t4 q hq ho)
  obtain ⟨s6, g6, u6, v6, x6, j6⟩ := ys (h := s5) (N := 6) (c := n13) (f := fun i => zs (20 + i)) (fun i hi => ⟨K1s _ t5 i (by omega), by have := (K1n i (by omega)).1; omega⟩) (by decide) v5 5 (by decide) x5
  have u6 : gd (stO 8 (s5 ((dE zs z).1 (20 + 5)))) (sR s5 n13 8 (nI 5) (some ((dE zs z).1 (20 + 5)))) = some s6 := by rw [dE_1]; exact u6
  have t6 : ∀ q, q < nx → q ≠ o → s6 q = h q := fun q hq ho => (j6 q (by omega)).trans (t5 q hq ho)
  have gb : ∀ {α : Type} {b : Bool} {x : Option AH} {y : AH} {K : AH → Option α}, gd b x = some y → gd b (x.bind K) = K y := fun {α b x y K} hy => by
    obtain ⟨g1, g2⟩ := gd_t hy
    rw [g1, gdT, g2, Option.bind_some]
  rw [gb u1, gb u2, gb u3, gb u4, gb u5, gb u6]
  have jj : ∀ q, q ≠ n13 → s6 q = h12 q := fun q hq => (j6 q hq).trans ((j5 q hq).trans ((j4 q hq).trans ((j3 q hq).trans ((j2 q hq).trans ((j1 q hq).trans (k13 q hq))))))
  obtain ⟨h14, w14, q14, k14⟩ := yw (x := .ref n13) ((jj o (by omega)).trans q12) (by show 8 < 13; decide) rfl
  rw [w14, Option.bind_some]
  have d1 : h14 n13 = some (aE8 6 g6) := (k14 n13 (by omega)).trans v6
  have tk14 : ∀ q, q < nx → q ≠ o → h14 q = h q := fun q hq ho => (k14 q ho).trans (t6 q hq ho)
  generalize hL : n13 + 1 = nL
  have hL' : nL = nx + 89 := by omega
  have e15 : hu h14 nL (.inl (8, 4, .inr (.inr (.inr (.inr (fun _ => none)))))) nL = some (aE8 4 (fun _ => none)) := hu_s
  have k15 : ∀ q, q ≠ nL → hu h14 nL (.inl (8, 4, .inr (.inr (.inr (.inr (fun _ => none)))))) q = h14 q := fun q hq => hu_n hq
  generalize hu h14 nL (.inl (8, 4, .inr (.inr (.inr (.inr (fun _ => none)))))) = p0 at e15 k15 ⊢
  have f0 : ∀ q, q < nx → q ≠ o → p0 q = h q := fun q hq ho => (k15 q (by omega)).trans (tk14 q hq ho)
  obtain ⟨p1, gl1, ul1, vl1, xl1, jl1⟩ := ys (h := p0) (N := 4) (c := nL) (f := fun i => zs (26 + i)) (fun i hi => ⟨by have := K1s _ f0 (6 + i) (by omega); rw [show 20 + (6 + i) = 26 + i by omega] at this; exact this, by have := (K1n (6 + i) (by omega)).1; rw [show 20 + (6 + i) = 26 + i by omega] at this; omega⟩) (by decide) e15 0 (by decide) (fun i hi => absurd hi (by omega))
  have ul1 : gd (stO 8 (p0 ((dE zs z).1 (20 + 6)))) (sR p0 nL 8 0 (some ((dE zs z).1 (20 + 6)))) = some p1 := by rw [dE_1]; exact ul1
  have f1 : ∀ q, q < nx → q ≠ o → p1 q = h q := fun q hq ho => (jl1 q (by omega)).trans (f0 q hq ho)
  obtain ⟨p2, gl2, ul2, vl2, xl2, jl2⟩ := ys (h := p1) (N := 4) (c := nL) (f := fun i => zs (26 + i)) (fun i hi => ⟨by have := K1s _ f1 (6 + i) (by omega); rw [show 20 + (6 + i) = 26 + i by omega] at this; exact this, by have := (K1n (6 + i) (by omega)).1; rw [show 20 + (6 + i) = 26 + i by omega] at this; omega⟩) (by decide) vl1 1 (by decide) xl1
  have ul2 : gd (stO 8 (p1 ((dE zs z).1 (20 + 7)))) (sR p1 nL 8 1 (some ((dE zs z).1 (20 + 7)))) = some p2 := by rw [dE_1]; exact ul2
  have f2 : ∀ q, q < nx → q ≠ o → p2 q = h q := fun q hq ho => (jl2 q (by omega)).trans (f1 q hq ho)
  obtain ⟨p3, gl3, ul3, vl3, xl3, jl3⟩ := ys (h := p2) (N := 4) (c := nL) (f := fun i => zs (26 + i)) (fun i hi => ⟨by have := K1s _ f2 (6 + i) (by omega); rw [show 20 + (6 + i) = 26 + i by omega] at this; exact this, by have := (K1n (6 + i) (by omega)).1; rw [show 20 + (6 + i) = 26 + i by omega] at this; omega⟩) (by decide) vl2 2 (by decide) xl2
  have ul3 : gd (stO 8 (p2 ((dE zs z).1 (20 + 8)))) (sR p2 nL 8 (nI 2) (some ((dE zs z).1 (20 + 8)))) = some p3 := by rw [dE_1]; exact ul3
  have f3 : ∀ q, q < nx → q ≠ o → p3 q = h q := fun q hq ho => (jl3 q (by omega)).trans (f2 q hq ho)
  obtain ⟨p4, gl4, ul4, vl4, xl4, jl4⟩ := ys (h := p3) (N := 4) (c := nL) (f := fun i => zs (26 + i)) (fun i hi => ⟨by have := K1s _ f3 (6 + i) (by omega); rw [show 20 + (6 + i) = 26 + i by omega] at this; exact this, by have := (K1n (6 + i) (by omega)).1; rw [show 20 + (6 + i) = 26 + i by omega] at this; omega⟩) (by decide) vl3 3 (by decide) xl3
  have ul4 : gd (stO 8 (p3 ((dE zs z).1 (20 + 9)))) (sR p3 nL 8 (nI 3) (some ((dE zs z).1 (20 + 9)))) = some p4 := by rw [dE_1]; exact ul4
  have f4 : ∀ q, q < nx → q ≠ o → p4 q = h q := fun q hq ho => (jl4 q (by omega)).trans (f3 q hq ho)
  rw [gb ul1, gb ul2, gb ul3, gb ul4]
  have jl : ∀ q, q ≠ nL → p4 q = h14 q := fun q hq => (jl4 q hq).trans ((jl3 q hq).trans ((jl2 q hq).trans ((jl1 q hq).trans (k15 q hq))))
  obtain ⟨h16, w16, q16, k16⟩ := yw (x := .ref nL) ((jl o (by omega)).trans q14) (by show 9 < 13; decide) rfl
  rw [w16, Option.bind_some]
  have d2 : h16 nL = some (aE8 4 gl4) := (k16 nL (by omega)).trans vl4
  -- the tape, the out
  generalize hT : nL + 1 = nT
  have hT' : nT = nx + 90 := by omega
  have q17 : hu h16 nT (.inl (2, 900, .inl (fun _ => 0))) o = h16 o := hu_n (by omega)
  obtain ⟨h18, w18, q18, k18⟩ := yw (x := .ref nT) (q17.trans q16) (by show 10 < 13; decide) rfl
  rw [w18, Option.bind_some]
  have d3 : h18 nT = some (tE (fun _ => 0)) := (k18 nT (by omega)).trans hu_s
  have k1718 : ∀ q, q < nT → q ≠ o → h18 q = h16 q := fun q hq ho => (k18 q ho).trans (hu_n (by omega))
  generalize hB : nT + 1 = nB
  have hB' : nB = nx + 91 := by omega
  rw [sb_init, Option.bind_some]
  dsimp only
  have q19 : hu (hu h18 nB (sB3 (nB + 1) 0 0)) (nB + 1) (.inl (2, 16, .inl (fun _ => 0))) o = h18 o := by rw [hu_n (by omega), hu_n (by omega)]
  obtain ⟨h20, w20, q20, k20⟩ := yw (x := .ref nB) (q19.trans q18) (by show 12 < 13; decide) rfl
  rw [w20, Option.bind_some]
  have d4 : h20 nB = some (sB3 (nB + 1) 0 0) := (k20 nB (by omega)).trans (by rw [hu_n (by omega), hu_s])
  have d5 : h20 (nB + 1) = some (.inl (2, 16, .inl (fun _ => 0))) := (k20 (nB + 1) (by omega)).trans hu_s
  have k1920 : ∀ q, q < nB → q ≠ o → h20 q = h18 q := fun q hq ho => (k20 q ho).trans (by rw [hu_n (by omega), hu_n (by omega)])
  simp only [aC_some]
  -- what stays
  have z16 : ∀ q, q < nT → q ≠ o → h20 q = h16 q := fun q hq ho => (k1920 q (by omega) ho).trans (k1718 q hq ho)
  have z14 : ∀ q, q < nL → q ≠ o → h20 q = h14 q := fun q hq ho => (z16 q (by omega) ho).trans ((k16 q ho).trans (jl q (by omega)))
  have z12 : ∀ q, q < n13 → q ≠ o → h20 q = h12 q := fun q hq ho => (z14 q (by omega) ho).trans ((k14 q ho).trans (jj q (by omega)))
  have z8 : ∀ q, q < nx + 86 → q ≠ o → h20 q = h8 q := fun q hq ho => (z12 q (by omega) ho).trans (k912 q hq ho)
  have z6 : ∀ q, q < nx + 45 → q ≠ o → h20 q = h6 q := fun q hq ho => (z8 q (by omega) ho).trans (k78 q hq ho)
  have z4 : ∀ q, q < nx + 4 → q ≠ o → h20 q = h4 q := fun q hq ho => (z6 q (by omega) ho).trans (k56 q hq ho)
  subst hB; subst hT; subst hL; subst hN'
  refine ⟨h20, rfl, q20, fun q hq ho => (z4 q (by omega) ho).trans (kk4 q hq ho), (z4 nx (by omega) (by omega)).trans a1, (z4 (nx + 1) (by omega) (by omega)).trans a2, (z4 (nx + 2) (by omega) (by omega)).trans b1, (z4 (nx + 3) (by omega) (by omega)).trans b2, ?_, ?_, (z12 _ (by omega) (by omega)).trans c1, (z12 _ (by omega) (by omega)).trans c2, ⟨g6, (z14 _ (by omega) (by omega)).trans d1, x6⟩, ⟨gl4, (z16 _ (by omega) (by omega)).trans d2, xl4⟩, (k1920 _ (by omega) (by omega)).trans d3, d4, d5⟩
  · obtain ⟨F, R, iF⟩ := r5
    exact ⟨F, R.kept (fun q hq => by
      have hq : (nx + 4 ≤ q ∧ q < nx + 4 + 41) ∨ q = nx + 4 + 17 ∨ q = nx + 4 + 19 := hq
      rw [z6 q (by omega) (by omega), k6 q (by omega)]), iF⟩
  · obtain ⟨F, R, iF⟩ := r7
    exact ⟨F, R.kept (fun q hq => by
      have hq : (nx + 45 ≤ q ∧ q < nx + 45 + 41) ∨ q = nx + 45 + 17 ∨ q = nx + 45 + 19 := hq
      rw [z8 q (by omega) (by omega), k8 q (by omega)]), iF⟩
end YIN
