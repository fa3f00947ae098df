/-! load: the reference -/
section PLM
variable {ta rd nw : Nat → Int32} {th tp' st fk fp ac si fr tt kd nu fa pl x v : Int32} {wd : Int64} {nm rn : Nat → Int64} {tp i : Nat}
theorem m_plain : ∃ rd', f_X3_plain_rd rd = some rd' ∧ ∀ i, i < 390 → rd' i = if i = 224 then nI 3 else if i = 225 then nI 4 else if i = 228 then nI 999 else if i = 229 then nI 2 else 0 := by
  have key := lp_up (fun n i s => f_X3_plain_rd_2 n (nI i) s) (fun rd => some (upd (upd (upd (upd rd 224 (nI 3)) 225 (nI 4)) 228 (nI 999)) 229 (nI 2))) (fun i s => upd s i 0) 390 (fun n s => by
    simp only [f_X3_plain_rd_2]
    rw [if_pos (nI_leR _)]) (fun n i s hi => by
    simp only [f_X3_plain_rd_2]
    rw [if_neg (nI_ge hi (by decide)), gdn ⟨hi, by decide⟩, nI_clamp (by omega), nI_1]) FU 0 rd (Nat.zero_le _) (FU_lt (by omega))
  have inv := flN_i (f := fun i (s : Nat → Int32) => upd s i 0) (fun j s => ∀ i, i < j → s i = 0) 390 0 rd (fun i hi => absurd hi (by omega)) (fun j s h1 h2 h3 i hi => by
    by_cases hij : i = j
    · subst hij; exact upd_s
    · rw [upd_n hij]; exact h3 i (by omega))
  refine ⟨_, key, fun i hi => ?_⟩
  rw [Nat.sub_zero]
  have e := inv i (by omega)
  generalize flN (fun i (s : Nat → Int32) => upd s i 0) 0 390 rd = r at e ⊢
  by_cases h1 : i = 229
  · subst h1; rw [upd_s]; rfl
  rw [upd_n h1]
  by_cases h2 : i = 228
  · subst h2; rw [upd_s]; rfl
  rw [upd_n h2]
  by_cases h3 : i = 225
  · subst h3; rw [upd_s]; rfl
  rw [upd_n h3]
  by_cases h4 : i = 224
  · subst h4; rw [upd_s]; rfl
  rw [upd_n h4, e, if_neg h4, if_neg h3, if_neg h2, if_neg h1]
theorem m_load115 : ∃ nm', f_X3_load_115 FU ta 0 th tp' st fk fp ac si fr tt kd nu fa pl wd nw rd nm rn = some (nw 231, 0, tp', 0, fk, fp, 0, si, fr, tt, kd, nu, fa, pl, wd, nw, rd, nm', rn) ∧ ∀ i, i < 18 → nm' i = rn i := by
  have key := lp_up (fun n i s => f_X3_load_115 n ta (nI i) th tp' st fk fp ac si fr tt kd nu fa pl wd nw rd s rn) (fun s => some (nw 231, 0, tp', 0, fk, fp, 0, si, fr, tt, kd, nu, fa, pl, wd, nw, rd, s, rn)) (fun i s => vp_updL s i (rn i)) 18 (fun n s => by
    simp only [f_X3_load_115]
    rw [if_pos (nI_leR _)]
    rfl) (fun n i s hi => by
    simp only [f_X3_load_115]
    rw [if_neg (nI_ge hi (by decide)), gdn ⟨hi, by decide⟩, gdn ⟨hi, by decide⟩, nI_clamp (by omega), nI_1]) FU 0 nm (Nat.zero_le _) (FU_lt (by omega))
  have inv := flN_i (f := fun i (s : Nat → Int64) => vp_updL s i (rn i)) (fun j s => ∀ i, i < j → s i = rn i) 18 0 nm (fun i hi => absurd hi (by omega)) (fun j s h1 h2 h3 i hi => by
    by_cases hij : i = j
    · subst hij; exact pk_uLs
    · rw [pk_uLn hij]; exact h3 i (by omega))
  exact ⟨_, key, fun i hi => inv i (by omega)⟩
end PLM
/-! load: the component's constants, names -/
def KN (zs : Nat → Nat) (A : Nat → Nat) (M : Nat → Prop) (h : AH) (nx : Nat) : Prop :=
  (∀ k, k < 21 → ∃ b, StrH h (zs (20 + k)) b (cstL k) (cstG k) ∧ NI nx M (zs (20 + k)) ∧ NI nx M b) ∧
  (∃ g : Nat → Option Nat, h (A 10) = some (.inl (8, 6, .inr (.inr (.inr (.inr g))))) ∧ (∀ i, i < 6 → g i = some (zs (20 + i))) ∧ NI nx M (A 10)) ∧
  ∃ g : Nat → Option Nat, h (A 11) = some (.inl (8, 4, .inr (.inr (.inr (.inr g))))) ∧ (∀ i, i < 4 → g i = some (zs (26 + i))) ∧ NI nx M (A 11)
/-- the names of the homes and houses that are told (mh, mp of them) -/
def NmS (A : Nat → Nat) (M : Nat → Prop) (h : AH) (nx : Nat) (mh mp : Nat) (nm : Nat → Int64) : Prop := ∃ (eH eP : Nat) (hm hs sh bh sp bp : Nat → Nat), LstA h (A 6) eH mh hm ∧ LstA h (A 7) eP mp hs ∧ NI nx M (A 6) ∧ NI nx M eH ∧ NI nx M (A 7) ∧ NI nx M eP ∧
  (∀ i, i < mh → (∃ r0 r1, h (hm i) = some (hmE (sh i) r0 r1)) ∧ NmH h (sh i) (bh i) (nm i) ∧ NI nx M (hm i) ∧ NI nx M (sh i) ∧ NI nx M (bh i)) ∧
  ∀ p, p < mp → (∃ t, h (hs p) = some (hsE (sp p) t)) ∧ NmH h (sp p) (bp p) (nm (10 + p)) ∧ NI nx M (hs p) ∧ NI nx M (sp p) ∧ NI nx M (bp p)
section PLC
variable {A A' : Nat → Nat} {I : Nat → Int32} {st : Int32} {ta tb : Nat → Int32} {M M' : Nat → Prop} {h h' h0 : AH} {E : bE} {nx nx' b m n lo eH eP mh mp si t l1 : Nat} {zs : Nat → Nat} {nm rn : Nat → Int64} {w0 : Rw} {F : Nat → Nat → Int32} {T : T5}
theorem MS.k {q : Nat} (H : MS M h nx M' h' nx') (hq : NI nx M q) : h' q = h q := H.2.2 q hq.1 hq.2
theorem MS.i {q : Nat} (H : MS M h nx M' h' nx') (hq : NI nx M q) : NI nx' M' q := hq.ext H.1 H.2.1
theorem KN.ms (K : KN zs A M h nx) (H : MS M h nx M' h' nx') (h10 : A' 10 = A 10) (h11 : A' 11 = A 11) : KN zs A' M' h' nx' := by
  obtain ⟨k1, ⟨g1, k2, k3, k4⟩, g2, k5, k6, k7⟩ := K
  refine ⟨fun k hk => ?_, ⟨g1, by rw [h10, H.k k4]; exact k2, k3, by rw [h10]; exact H.i k4⟩, g2, by rw [h11, H.k k7]; exact k5, k6, by rw [h11]; exact H.i k7⟩
  obtain ⟨b, z1, z2, z3⟩ := k1 k hk
  exact ⟨b, z1.kept (H.k z2) (H.k z3), H.i z2, H.i z3⟩
theorem NmS.ms (K : NmS A M h nx mh mp nm) (H : MS M h nx M' h' nx') (h6 : A' 6 = A 6) (h7 : A' 7 = A 7) : NmS A' M' h' nx' mh mp nm := by
  obtain ⟨eH, eP, hm, hs, sh, bh, sp, bp, k1, k2, k3, k4, k5, k6, k7, k8⟩ := K
  refine ⟨eH, eP, hm, hs, sh, bh, sp, bp, by rw [h6]; exact k1.kept (H.k k3) (H.k k4), by rw [h7]; exact k2.kept (H.k k5) (H.k k6), by rw [h6]; exact H.i k3, H.i k4, by rw [h7]; exact H.i k5, H.i k6, fun i hi => ?_, fun p hp => ?_⟩
  · obtain ⟨⟨r0, r1, z1⟩, z2, z3, z4, z5⟩ := k7 i hi
    exact ⟨⟨r0, r1, (H.k z3).trans z1⟩, z2.kept (H.k z4) (H.k z5), H.i z3, H.i z4, H.i z5⟩
  · obtain ⟨⟨t, z1⟩, z2, z3, z4, z5⟩ := k8 p hp
    exact ⟨⟨t, (H.k z3).trans z1⟩, z2.kept (H.k z4) (H.k z5), H.i z3, H.i z4, H.i z5⟩
theorem aR_at {a t N i s : Nat} {g : Nat → Option Nat} (q : h a = some (.inl (t, N, .inr (.inr (.inr (.inr g)))))) (hi : i < N) (hN : N < 2 ^ 31) (hg : g i = some s) : aR h a t (nI i) = some s := by
  simp only [aR, arR, q, if_true, Option.bind_some]
  rw [gdn ⟨hi, hN⟩, nI_clamp (by omega)]; exact hg
theorem KN.cf (K : KN zs A M h nx) (D : ZS zs M h nx) (hb : nx ≤ b) (hr : RDH A I st tb h0) (hk : ∀ q, NI nx M q → h0 q = h q) (h12 : A 0 < b ∧ A 12 < b) : ∀ h', (∀ q, q < b → h' q = h0 q) → CF A I st tb zs h' := by
  intro h' hh
  obtain ⟨k1, ⟨g1, k2, k3, k4⟩, g2, k5, k6, k7⟩ := K
  obtain ⟨⟨f0, d1, d2⟩, ⟨f1, d3, d4⟩, d5⟩ := D
  have kk : ∀ q, NI nx M q → h' q = h q := fun q hq => (hh q (by have := hq.1; omega)).trans (hk q hq)
  have ks : ∀ k, k < 21 → ∃ b, StrH h' (zs (20 + k)) b (cstL k) (cstG k) := fun k hk => by
    obtain ⟨b, z1, z2, z3⟩ := k1 k hk
    exact ⟨b, z1.kept (kk _ z2) (kk _ z3)⟩
  have e10 := (kk _ k4).trans k2
  have e11 := (kk _ k7).trans k5
  refine ⟨⟨(hh _ h12.1).trans hr.1, (hh _ h12.2).trans hr.2⟩, ⟨by simp only [aL, e10]; rfl, fun i hi => ?_⟩, ⟨by simp only [aL, e11]; rfl, fun i hi => ?_⟩, fun k h1 h2 => ks k h2, ⟨f0, (kk _ (d5 0 (by decide))).trans d1, d2⟩, f1, (kk _ (d5 1 (by decide))).trans d3, d4⟩
  · obtain ⟨b, z⟩ := ks i (by omega)
    exact ⟨_, b, aR_at e10 hi (by decide) (k3 i hi), z⟩
  · obtain ⟨b, z⟩ := ks (6 + i) (by omega)
    rw [show 20 + (6 + i) = 26 + i by omega] at z
    exact ⟨_, b, aR_at e11 hi (by decide) (k6 i hi), z⟩
theorem l_new {k : Nat} : f_J2_init E (hu h k (.inr (.inl (11, df_J2)))) (k + 1) k (nI 2) = some ((), hu (hu h k (lO 0 (k + 1) 0)) (k + 1) (rO 2 (fun _ => none)), 1, 2) := by
  have w0 : wr (hu h k (.inr (.inl (11, df_J2)))) k 11 0 (.int 0) = some (hu h k (.inr (.inl (11, [.int 0, .null, .int 0])))) := by
    rw [wr_at hu_s (by decide), hu_hu]; rfl
  have w1 : wr (hu (hu h k (.inr (.inl (11, [.int 0, .null, .int 0])))) (k + 1) (rO 2 (fun _ => none))) k 11 1 (.ref (k + 1)) = some (hu (hu h k (lO 0 (k + 1) 0)) (k + 1) (rO 2 (fun _ => none))) := by
    have : hu (hu h k (.inr (.inl (11, [.int 0, .null, .int 0])))) (k + 1) (rO 2 (fun _ => none)) k = some (.inr (.inl (11, [.int 0, .null, .int 0]))) := by rw [hu_n (by omega)]; exact hu_s
    rw [wr_at this (by decide), hu_comm (by omega), hu_hu]; rfl
  simp only [f_J2_init, f_J1_init, f_J0_init, Option.bind_some, w0, bd]
  rw [if_neg (by decide), show nA (nI 2) = true by decide, gdT]
  simp only [Nat.add_zero, nI_clamp (show 2 < 2 ^ 31 by decide)]
  rw [show (Sum.inl (4, 2, Sum.inr (Sum.inr (Sum.inr (Sum.inr (fun _ => none))))) : hE) = rO 2 (fun _ => none) from rfl, w1, Option.bind_some, aC_some, aC_some]
theorem wr3 {a k : Nat} {fs : List Value} {x : Value} (q : h a = some (.inr (.inl (3, fs)))) (hk : k < fs.length) : wr h a 3 k x = some (hu h a (.inr (.inl (3, fs.set k x)))) := wr_at q hk
/-- a new reader -/
theorem x_reader (C : RdC A I st ta tb si E.1 b h0) (hz : E.1 2 < b) (hP : ∃ f : Nat → Int32, h0 (E.1 2) = some (.inl (0, 6, .inl f)) ∧ ∀ k, k < 6 → f k = plR k) (hT : TkE si ta 0 T) : ∃ h' c d F, f_X4_init E (hu h0 b (.inr (.inl (3, df_X4)))) (b + 1) b (A 0) (nI si) = some ((), h', 45 + c, 243 + d) ∧ IniF F ∧ RdS A b h0 si ta rn 0 0 (hF w0) (pF w0) F (b + 2) (b + 4) (b + 46) (b + 46) 0 T h' (b + 46 + c) ∧ c ≤ 4 ∧ d ≤ 40 := by
  obtain ⟨C1, C2, C3, C4, -⟩ := id C
  unfold f_X4_init
  rw [wrS (by show 9 < 10; decide), Option.bind_some, wrS (by show 5 < 10; decide), Option.bind_some]
  generalize hh2 : hu h0 b (.inr (.inl (3, (df_X4.set 9 (.ref (A 0))).set 5 (.ref (E.1 (20 + 16)))))) = h2
  have q2 : h2 b = some (.inr (.inl (3, (df_X4.set 9 (.ref (A 0))).set 5 (.ref (E.1 (20 + 16)))))) := by rw [← hh2]; exact hu_s
  have k2 : ∀ z, z < b → h2 z = h0 z := fun z hz => by rw [← hh2]; exact hu_n (by omega)
  rw [l_new, Option.bind_some]
  dsimp only
  generalize hh3 : hu (hu h2 (b + 1) (lO 0 (b + 1 + 1) 0)) (b + 1 + 1) (rO 2 (fun _ => none)) = h3
  have q3 := (show h3 b = h2 b by rw [← hh3, hu_n (by omega), hu_n (by omega)]).trans q2
  have k3 : ∀ z, z < b → h3 z = h0 z := fun z hz => by rw [← hh3, hu_n (by omega), hu_n (by omega)]; exact k2 z hz
  have l3 : h3 (b + 1) = some (lO 0 (b + 2) 0) := by rw [← hh3, hu_n (by omega)]; exact hu_s
  have e3 : h3 (b + 2) = some (rO 2 (fun _ => none)) := by rw [← hh3]; exact hu_s
  rw [wr3 q3 (by show 6 < 10; decide), Option.bind_some]
  generalize hh4 : hu h3 b (.inr (.inl (3, ((df_X4.set 9 (.ref (A 0))).set 5 (.ref (E.1 (20 + 16)))).set 6 (.ref (b + 1))))) = h4
  have q4 : h4 b = some (.inr (.inl (3, ((df_X4.set 9 (.ref (A 0))).set 5 (.ref (E.1 (20 + 16)))).set 6 (.ref (b + 1))))) := by rw [← hh4]; exact hu_s
  have o4 : ∀ z, z ≠ b → h4 z = h3 z := fun z hz => by rw [← hh4]; exact hu_n hz
  rw [show b + 1 + 1 + 1 = b + 2 + 1 by omega, show b + 1 + 1 = b + 2 by omega]
  rw [show b + 2 + 1 = b + 3 by omega, l_new, Option.bind_some]
  dsimp only
  generalize hh5 : hu (hu h4 (b + 3) (lO 0 (b + 3 + 1) 0)) (b + 3 + 1) (rO 2 (fun _ => none)) = h5
  have o5 : ∀ z, z ≠ b + 3 → z ≠ b + 4 → h5 z = h4 z := fun z z1 z2 => by rw [← hh5, hu_n (by omega), hu_n (by omega)]
  have q5 := (o5 b (by omega) (by omega)).trans q4
  have l5 : h5 (b + 3) = some (lO 0 (b + 4) 0) := by rw [← hh5, hu_n (by omega)]; exact hu_s
  have e5 : h5 (b + 4) = some (rO 2 (fun _ => none)) := by rw [← hh5]; exact hu_s
  rw [wr3 q5 (by show 7 < 10; decide), Option.bind_some]
  generalize hh6 : hu h5 b (.inr (.inl (3, (((df_X4.set 9 (.ref (A 0))).set 5 (.ref (E.1 (20 + 16)))).set 6 (.ref (b + 1))).set 7 (.ref (b + 3))))) = h6
  have q6 : h6 b = some (.inr (.inl (3, (((df_X4.set 9 (.ref (A 0))).set 5 (.ref (E.1 (20 + 16)))).set 6 (.ref (b + 1))).set 7 (.ref (b + 3))))) := by rw [← hh6]; exact hu_s
  have o6 : ∀ z, z ≠ b → h6 z = h5 z := fun z hz => by rw [← hh6]; exact hu_n hz
  dsimp only [bd]
  rw [show b + 3 + 1 + 1 = b + 5 by omega]
  have o7 : ∀ z, z ≠ b + 5 → hu h6 (b + 5) (.inr (.inl (1, df_X2))) z = h6 z := fun z hz => hu_n hz
  have q7 := (o7 b (by omega)).trans q6
  have g7 : gA (hu h6 (b + 5) (.inr (.inl (1, df_X2)))) b 3 9 = some (A 0) := by simp [gA, rd, q7, df_X4, vR]
  have k7 : ∀ z, z < b → hu h6 (b + 5) (.inr (.inl (1, df_X2))) z = h0 z := fun z hz => by rw [o7 z (by omega), o6 z (by omega), o5 z (by omega) (by omega), o4 z (by omega), k3 z hz]
  obtain ⟨fz, z1, z2⟩ := hP
  obtain ⟨h8, y8, ⟨F, R8, iF⟩, k8⟩ := x_init (E := E) (h := hu h6 (b + 5) (.inr (.inl (1, df_X2)))) (r := b + 5) (o := A 0) (la := fun _ => 0) (oa := fun _ => 0) hu_s (by omega) ⟨fz, (k7 _ hz).trans z1, z2⟩
  rw [g7, Option.bind_some, y8, Option.bind_some]
  dsimp only
  have q8 := (k8 b (by omega)).trans q7
  rw [wr3 q8 (by show 8 < 10; decide), Option.bind_some, wrS (by show 0 < 10; decide), Option.bind_some]
  generalize hh9 : hu h8 b (.inr (.inl (3, (((((df_X4.set 9 (.ref (A 0))).set 5 (.ref (E.1 (20 + 16)))).set 6 (.ref (b + 1))).set 7 (.ref (b + 3))).set 8 (.ref (b + 5))).set 0 (.int (nI si))))) = h9
  have q9 : h9 b = some (rdE (nI si) 0 (nI 0) 0 0 (E.1 (20 + 16)) (b + 1) (b + 3) (b + 5) (A 0)) := by rw [← hh9]; exact hu_s
  have o9 : ∀ z, z ≠ b → h9 z = h8 z := fun z hz => by rw [← hh9]; exact hu_n hz
  have lo9 : ∀ z, z < b + 5 → z ≠ b → h9 z = h6 z := fun z hz hz2 => by rw [o9 z hz2, k8 z hz, o7 z (by omega)]
  have B9 : RdB A b h0 rn 0 0 (hF w0) (pF w0) F (b + 2) (b + 4) (b + 46) h9 := by
    refine ⟨2, 2, fun _ => 0, fun _ => 0, fun _ => 0, fun _ => 0, fun _ => 0, fun _ => 0, fun _ => 0, fun _ => 0, fun _ => 0, fun q hq => ?_, Nat.le_refl _, ⟨0, fun _ => none, ?_, ?_, by omega, by omega, by omega, fun i hi => absurd hi (by omega), fun _ _ _ => rfl⟩, ⟨0, fun _ => none, ?_, ?_, by omega, by omega, by omega, fun i hi => absurd hi (by omega), fun _ _ _ => rfl⟩, by omega, by omega, fun i hi => absurd hi (by omega), fun i hi => absurd hi (by omega), R8.kept (fun q hq => o9 q (by rcases hq with z | z | z <;> omega))⟩
    · rw [lo9 q (by omega) (by omega), o6 q (by omega), o5 q (by omega) (by omega), o4 q (by omega)]; exact k3 q hq
    · rw [lo9 _ (by omega) (by omega), o6 _ (by omega), o5 _ (by omega) (by omega), o4 _ (by omega)]; exact l3
    · rw [lo9 _ (by omega) (by omega), o6 _ (by omega), o5 _ (by omega) (by omega), o4 _ (by omega)]; exact e3
    · rw [lo9 _ (by omega) (by omega), o6 _ (by omega)]; exact l5
    · rw [lo9 _ (by omega) (by omega), o6 _ (by omega)]; exact e5
  have is9 : isO h9 b 3 = true := by simp [isO, q9, rdE]
  obtain ⟨h', c, d, y9, T9, k9, c1, c2⟩ := y_goesOn (E := E) (nx := b + 46) C1 C2 (by omega) (by omega) (by omega) (by omega) (by omega) (Nat.zero_le _) (C.at B9).1 q9
  rw [is9, gdT, show b + 5 + 1 + 40 = b + 46 by omega, y9, Option.bind_some]
  dsimp only
  simp only [aC_some]
  refine ⟨h', c, d, F, ?_, iF, ⟨B9.keep (Nat.le_refl _) (fun z hz hz2 => k9 z hz hz2), Nat.le_refl _, by omega, T9.tn C2 (Nat.zero_le _), hT, Nat.zero_le _⟩, c1, c2⟩
  rw [show 1 + (1 + (1 + (1 + (1 + (40 + (c + 0)))))) = 45 + c by omega, show 3 + (2 + (3 + (2 + (27 + (206 + (d + 0)))))) = 243 + d by omega]
end PLC
