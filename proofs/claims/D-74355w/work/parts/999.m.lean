/-! load, both sides -/
section PLD
variable {A A' : Nat → Nat} {I : Nat → Int32} {st : Int32} {ta tb : Nat → Int32} {M M' : Nat → Prop} {h h' h0 h1 : AH} {E : bE} {nx nx' b m n lo eH eP eP0 mh mp si t l1 rN rA k tp cP eB : Nat} {zs : Nat → Nat} {nm rn : Nat → Int64} {w : Rw} {F : Nat → Nat → Int32} {T : T5} {B : Nat → Nat → Nat} {P : Nat → Rw} {C : Nat → hE}
theorem ow (q : h (A 0) = some (oE A I st)) : (∀ v, wr h (A 0) 0 5 (.int v) = some (hu h (A 0) (oE A I v))) ∧ (∀ v, wr h (A 0) 0 11 (.int v) = some (hu h (A 0) (oE A (upd I 2 v) st))) ∧ (∀ v, wr h (A 0) 0 6 (.int v) = some (hu h (A 0) (oE A (upd I 0 v) st))) ∧ ∀ v, wr h (A 0) 0 7 (.int v) = some (hu h (A 0) (oE A (upd I 1 v) st)) := by
  have q : h (A 0) = some (.inr (.inl (0, oFs (A 6) (A 7) (A 1) (A 8) (A 9) st (I 0) (I 1) (A 10) (A 11) (A 12) (I 2) (A 13)))) := q
  refine ⟨fun v => ?_, fun v => ?_, fun v => ?_, fun v => ?_⟩
  · rw [wr_at q (by show 5 < 13; decide)]; rfl
  · rw [wr_at q (by show 11 < 13; decide)]; rfl
  · rw [wr_at q (by show 6 < 13; decide)]; rfl
  · rw [wr_at q (by show 7 < 13; decide)]; rfl
/-- the register that was made, as one of the object's -/
theorem RdB.rx (Bd : RdB A b h0 rn m n (hF w) (pF w) F eH eP lo h) (Pw : PRw w m n F) (hk : ∀ q, b ≤ q → h1 q = h q) (O : ObjO h1 (A 0) (b + 1) (b + 3) rN rA) (hM : ∀ q, M q → q < b) (hA : M (A 0)) (hl : lo ≤ nx) (h6 : A' 6 = b + 1) (h7 : A' 7 = b + 3) : RX h1 nx (fun q => M q ∨ (b + 5 ≤ q ∧ q < b + 46)) (A 0) (b + 5) (b + 22) (b + 24) 2 2 w ∧ NmS A' (fun q => M q ∨ (b + 5 ≤ q ∧ q < b + 46)) h1 nx m n rn := by
  obtain ⟨nn1, nn2, nn3, nn4⟩ := Pw.nn
  obtain ⟨cH, cPq, hm, sh, bh, hs, sp, bp, tl, la, oa, b1, b2, b3, b4, b5, b6, b7, b8, b9⟩ := Bd
  have ni : ∀ q, b ≤ q → q < nx → (q < b + 5 ∨ b + 46 ≤ q) → NI nx (fun q => M q ∨ (b + 5 ≤ q ∧ q < b + 46)) q := fun q q1 q2 q3 => ⟨q2, fun z => by
    rcases z with z | z
    · have := hM q z; omega
    · omega⟩
  have im : ∀ q, Im b eH eP lo q → NI nx (fun q => M q ∨ (b + 5 ≤ q ∧ q < b + 46)) q := fun q hq => ni q (by have := hq.1; omega) (by have := hq.2.1; omega) (by have := hq.1; omega)
  have ki : ∀ q, Im b eH eP lo q → h1 q = h q := fun q hq => hk q (by have := hq.1; omega)
  have LH : LstA h1 (b + 1) eH m hm := ⟨_, b3.kept (hk _ (by omega)) (hk _ (by omega))⟩
  have LP : LstA h1 (b + 3) eP n hs := ⟨_, b4.kept (hk _ (by omega)) (hk _ (by omega))⟩
  have hA0 := hM _ hA
  refine ⟨⟨⟨b + 1, eH, b + 3, eP, rN, rA, hm, hs, sh, sp, tl, O, ⟨by rw [nn1]; exact LH, by rw [nn2]; exact LP, fun i hi => ?_, fun p hp => ?_⟩, ⟨ni _ (by omega) (by omega) (by omega), ni _ (by omega) (by omega) (by omega), ni _ (by omega) (by omega) (by omega), ni _ (by omega) (by omega) (by omega), fun i hi => ?_, fun p hp => ?_⟩, by omega, Or.inl hA, fun q hq => ?_⟩, F, 0, 0, (0, 0, 0, 0), la, oa, ?_, Pw.rel, ⟨nn3.symm ▸ rfl, fun i hi => by omega⟩, ⟨nn4.symm ▸ rfl, fun i hi => by omega⟩, rfl, fun i hi => by omega, fun i hi => by omega, fun q hq => ?_, fun z => ?_⟩, eH, eP, hm, hs, sh, bh, sp, bp, by rw [h6]; exact LH, by rw [h7]; exact LP, by rw [h6]; exact ni _ (by omega) (by omega) (by omega), ni _ (by omega) (by omega) (by omega), by rw [h7]; exact ni _ (by omega) (by omega) (by omega), ni _ (by omega) (by omega) (by omega), fun i hi => ?_, fun p hp => ?_⟩
  · obtain ⟨z1, z2, z3, z4, z5⟩ := b7 i (by omega)
    exact (ki _ z3).trans z1
  · obtain ⟨z1, z2, ⟨t, z3, z3'⟩, z4, z5, z6, z7⟩ := b8 p (by omega)
    exact ⟨(ki _ z4).trans z1, t, (ki _ z7).trans z3, z3' 0 (by decide), z3' 2 (by decide), z3' 3 (by decide)⟩
  · obtain ⟨z1, z2, z3, z4, z5⟩ := b7 i (by omega)
    exact im _ z3
  · obtain ⟨z1, z2, ⟨t, z3, z3'⟩, z4, z5, z6, z7⟩ := b8 p (by omega)
    exact ⟨im _ z4, im _ z7⟩
  · rcases hq with z | z
    · have := hM q z; omega
    · omega
  · rw [nn3, nn4]
    exact b9.kept (fun q hq => hk q (by rcases hq with z | z | z <;> omega))
  · rcases hq with z | z | z
    · exact ⟨Or.inr (by omega), by omega⟩
    · exact ⟨Or.inr (by omega), by omega⟩
    · exact ⟨Or.inr (by omega), by omega⟩
  · rcases z with z | z | z <;> omega
  · obtain ⟨z1, z2, z3, z4, z5⟩ := b7 i hi
    exact ⟨⟨_, _, (ki _ z3).trans z1⟩, z2.kept (ki _ z4) (ki _ z5), im _ z3, im _ z4, im _ z5⟩
  · obtain ⟨z1, z2, -, z4, z5, z6, z7⟩ := b8 p hp
    exact ⟨⟨_, (ki _ z4).trans z1⟩, z2.kept (ki _ z5) (ki _ z6), im _ z4, im _ z5, im _ z6⟩
/-- what load answers -/
def LdA (A : Nat → Nat) (I : Nat → Int32) (M : Nat → Prop) (w : Rw) (n : Nat) (P : Nat → Rw) (eB : Nat) (C : Nat → hE) (h : AH) (nx : Nat) (tp : Nat) (a0 : Int32) (y : Option (Int32 × AH × Nat × Nat)) (fk fp ac si fr tt kd nu fa pl : Int32) (wd : Int64) (rd : Nat → Int32) (nm rn : Nat → Int64) (mm : Option (Int32 × Int32 × Int32 × Int32 × Int32 × Int32 × Int32 × Int32 × Int32 × Int32 × Int32 × Int32 × Int32 × Int32 × Int64 × (Nat → Int32) × (Nat → Int32) × (Nat → Int64) × (Nat → Int64))) : Prop :=
  (SA A I M eB h nx y (-1) 1 w n P C ∧ mm = some (-1, 0, nI tp, 1, fk, fp, ac, si, fr, tt, kd, nu, fa, pl, wd, w, rd, nm, rn)) ∨
  (∃ fa' pl' x1 x2 x3 x4 x7 rd' rn', SA A (upd (upd (upd I 2 0) 0 fa') 1 pl') M eB h nx y (-1) (nI 9) w n P C ∧ mm = some (-1, 0, 0, nI 9, fa', pl', ac, a0, x1, x2, x3, x4, fa', pl', x7, w, rd', nm, rn')) ∨
  ∃ h' c d A' M' B' eP' cP' w' nm' m' n' x1 x2 x3 x4 x7 rd' rn', y = some (w' 231, h', c, d) ∧ Sys A' (upd (upd (upd I 2 0) 0 0) 1 (-1)) M' w' 0 P B' eP' cP' eB C 0 h' (nx + c) ∧ MS M h nx M' h' (nx + c) ∧ (∀ k, k = 0 ∨ 8 ≤ k → A' k = A k) ∧ NmS A' M' h' (nx + c) m' n' nm' ∧ Inv w' ∧ wN w' 232 = 0 ∧ c ≤ 15998 ∧ d ≤ 94215 ∧ mm = some (w' 231, 0, 0, 0, 0, -1, 0, a0, x1, x2, x3, x4, 0, -1, x7, w', rd', nm', rn')
theorem s_load {z : Nat} {a0 th stm fk fp ac si' fr tt kd nu fa pl : Int32} {wd : Int64} {rx : Nat → Int32} (S : Sys A I M w n P B eP0 cP eB C st h nx) (hI : I 2 = nI tp) (htp : tp ≤ 900) (hC : C 0 = tE tb) (H : Tps ta tb) (D : PZ zs M h nx) (DZ : ZS zs M h nx) (K : KN zs A M h nx) : LdA A I M w n P eB C h nx tp a0 (f_X1_load (dE zs z) h nx (A 0) a0) fk fp ac si' fr tt kd nu fa pl wd rx nm rn (f_X3_load ta th (nI tp) stm fk fp ac si' fr tt kd nu fa pl wd w rx nm rn a0) := by
  have S0 := S
  obtain ⟨s1, s2, s3, s4, s5, s6, s7, s8, s9, s10, s11, s12, s13, s14, s15⟩ := S
  have ne1 := s1.1.ne
  have ow0 := s1.1.own
  have f9 := s11 (A 9) (Or.inl rfl)
  have fP := s11 eP0 (Or.inr (Or.inl rfl))
  have f12 := s11 (A 12) (Or.inr (Or.inr (Or.inl rfl)))
  have f13 := s11 (A 13) (Or.inr (Or.inr (Or.inr (Or.inl rfl))))
  have fB := s11 eB (Or.inr (Or.inr (Or.inr (Or.inr rfl))))
  have hMA : M (A 0) := ow0.2.2.2
  have bM : ∀ q, M q → q < nx := s1.1.bd
  unfold f_X1_load f_X3_load
  rw [s1.g11, Option.bind_some, hI, lg_r a0 0 (nI tp) (l2 := 0) (by decide) rfl, Option.bind_some, m_from, Option.bind_some]
  cases hir : ir a0 0 (nI tp)
  · rw [if_pos (show bI false = 0 from rfl), if_pos (show bI false = 0 from rfl)]
    refine Or.inl ⟨?_, rfl⟩
    unfold f_X1_load_20
    exact An.sa S0 (a := (-1, 1)) (An.cn s1 (by decide))
  rw [if_neg (show ¬ bI true = 0 by decide), if_neg (show ¬ bI true = 0 by decide)]
  obtain ⟨si, hsi, rfl⟩ := (rg_c (by omega)).mp hir
  refine Or.inr ?_
  -- the reference begins
  obtain ⟨rd1, er1, er2⟩ := m_plain (rd := rx)
  obtain ⟨T, et1, et2⟩ := m_go0 (g := ta) (si := si) (nu := nu) (wd := wd) (fr := fr) (kd := kd) (by omega)
  rw [er1, Option.bind_some, et1, Option.bind_some]
  -- the component begins
  have q0 := s1.2
  unfold f_X1_load_20
  have ecan : f_X1_can (dE zs z) h nx (A 0) 0 = some (1, hu h (A 0) (oE A I 0), 0, 0) := by
    unfold f_X1_can
    rw [(ow q0).1, Option.bind_some, if_pos rfl]
  rw [s1.i0, gdT, ecan, Option.bind_some]
  dsimp only
  rw [if_neg (show ¬ (1 : Int32) = 0 by decide), (ow (hu_s (h := h))).2.1, hu_hu, Option.bind_some, (ow (hu_s (h := h))).2.2.1, hu_hu, Option.bind_some, (ow (hu_s (h := h))).2.2.2, hu_hu, Option.bind_some]
  have q7 : hu h (A 0) (oE A (upd (upd (upd I 2 0) 0 0) 1 (-1)) 0) (A 0) = some (oE A (upd (upd (upd I 2 0) 0 0) 1 (-1)) 0) := hu_s
  have k7 : ∀ q, q ≠ A 0 → hu h (A 0) (oE A (upd (upd (upd I 2 0) 0 0) 1 (-1)) 0) q = h q := fun q hq => hu_n hq
  generalize hu h (A 0) (oE A (upd (upd (upd I 2 0) 0 0) 1 (-1)) 0) = h7 at q7 k7 ⊢
  have R7 : RDH A (upd (upd (upd I 2 0) 0 0) 1 (-1)) 0 tb h7 := ⟨q7, by rw [k7 _ f12.2.2.1, s13, hC]⟩
  have CC : RdC A (upd (upd (upd I 2 0) 0 0) 1 (-1)) 0 ta tb si (dE zs z).1 nx h7 := by
    refine ⟨H, by omega, ne1.2.1, f12.2.1, ?_⟩
    rw [dE_1]
    exact K.cf DZ (Nat.le_refl _) R7 (fun q hq => k7 q (fun e => hq.2 (e ▸ hMA))) ⟨ne1.2.1, f12.2.1⟩
  obtain ⟨⟨fz, dz1, dz2⟩, dz3, dz4⟩ := D
  obtain ⟨h8, c8, d8, F, y8, iF, S8, b8, b8'⟩ := x_reader (E := dE zs z) (rn := rn) (w0 := rd1) CC (by rw [dE_1]; exact dz3) ⟨fz, by rw [dE_1, k7 (zs 2) (fun e : zs 2 = A 0 => dz4 (by rw [e]; exact hMA))]; exact dz1, dz2⟩ et2
  rw [Nat.add_zero, y8, Option.bind_some]
  dsimp only
  rw [S8.isr, gdT, show nx + 1 + (45 + c8) = nx + 46 + c8 by omega]
  have P0 := PRw.plain er2 iF
  rcases s_all (th := th) (tp := 0) (st' := stm) (fk := fk) (fp := fp) (ac := ac) (nw := w) (nm := nm) (fa := 0) (pl := -1) CC 1000 0 9000 8999 T rd1 rn 0 0 F _ _ _ _ h8 (nx + 46 + c8) _ (by omega) S8 P0 rfl with ⟨fa', pl', x1, x2, x3, x4, x7, rd', rn', ⟨ax, h9, c9, d9, y9, g6, g7, fr9, b9, b9'⟩, em⟩ | ⟨h9, c9, d9, t', T', rd', rn', m', n', F', eH', eP', lo', l1', y9, em, P9, S9, b9, b9', b9''⟩
  · -- something is wrong
    have em : f_X3_load_56 FU ta 1 th 0 stm fk fp ac (nI si) T.1 T.2.1 T.2.2.1 T.2.2.2.1 0 (-1) T.2.2.2.2 w rd1 nm rn = _ := em
    have y9 : f_X4_all (dE zs z) h8 (nx + 46 + c8) nx = _ := y9
    have q9 : h9 (A 0) = some (oE A (upd (upd (upd I 2 0) 0 0) 1 (-1)) 0) := (fr9 _ ne1.2.1).trans q7
    have hax : ax ≠ A 0 := fun e => by
      rw [e] at g6
      simp [gI, rd, q9, oE, vI] at g6
    have eI : upd (upd (upd (upd (upd I 2 0) 0 0) 1 (-1)) 0 fa') 1 pl' = upd (upd (upd I 2 0) 0 fa') 1 pl' := by
      funext i
      simp only [upd]
      split
      · rfl
      · split <;> rfl
    have g7' : ∀ x, gI (hu h9 (A 0) x) ax 4 7 = some pl' := fun x => by
      unfold gI rd at g7 ⊢
      rw [hu_n hax]; exact g7
    rw [y9, Option.bind_some, em]
    dsimp only [sumc]
    rw [g6, Option.bind_some, (ow q9).2.2.1, Option.bind_some, g7', Option.bind_some, (ow (hu_s (h := h9))).2.2.2, hu_hu, Option.bind_some]
    have o0 : isO (hu h9 (A 0) (oE A (upd (upd (upd (upd (upd I 2 0) 0 0) 1 (-1)) 0 fa') 1 pl') 0)) (A 0) 0 = true := by simp [isO, hu_s, oE]
    unfold f_X1_none
    rw [o0, gdT, (ow (hu_s (h := h9))).1, hu_hu, Option.bind_some, Option.bind_some, eI]
    dsimp only
    simp only [aC_some]
    refine Or.inl ⟨fa', pl', x1, x2, x3, x4, x7, rd', rn', ?_, ?_⟩
    · have k9 : ∀ q, q < nx → q ≠ A 0 → hu h9 (A 0) (oE A (upd (upd (upd I 2 0) 0 fa') 1 pl') (nI 9)) q = h q := fun q hq hq2 => by rw [hu_n hq2, fr9 q hq, k7 q hq2]
      obtain ⟨z1, z2⟩ := S0.cells (I' := upd (upd (upd I 2 0) 0 fa') 1 pl') (st' := nI 9) (h' := hu h9 (A 0) (oE A (upd (upd (upd I 2 0) 0 fa') 1 pl') (nI 9))) (nx' := nx + (0 + (1 + (45 + c8 + (c9 + (0 + 0)))))) (M' := M) (C' := C) (eB' := eB) (by omega) Ext.rfl' (fun q hq => by have := bM q hq; omega) hu_s (fun q hq y0 _ _ _ => k9 q hq y0) (by rw [k9 _ f12.2.1 f12.2.2.1]; exact s13) (by rw [k9 _ f13.2.1 f13.2.2.1]; exact s14) (by rw [k9 _ fB.2.1 fB.2.2.1]; exact s15) fB.1 (Or.inl rfl)
      exact ⟨_, _, _, A, M, B, eP0, cP, rfl, z1, z2, fun _ _ => rfl, by omega, by omega⟩
    · unfold f_X3_load_75
      rw [if_pos rfl]
      rfl
  · -- it is read
    have em : f_X3_load_56 FU ta 1 th 0 stm fk fp ac (nI si) T.1 T.2.1 T.2.2.1 T.2.2.2.1 0 (-1) T.2.2.2.2 w rd1 nm rn = _ := em
    have y9 : f_X4_all (dE zs z) h8 (nx + 46 + c8) nx = _ := y9
    have hfr := S9.1.fr
    have ts9 := S9.2.2.2.2.2
    have lo9 : lo' ≤ nx + 46 + c8 + c9 := by have := S9.2.1; have := S9.2.2.1; omega
    have q9 : h9 (A 0) = some (oE A (upd (upd (upd I 2 0) 0 0) 1 (-1)) 0) := (hfr _ ne1.2.1).trans q7
    obtain ⟨gr7, gr8, fr1, to1, so1, nu1, wd1, qb, -⟩ := S9.cell
    have gr6 := (rd0 qb).2.2.2.2.2.2.1
    obtain ⟨nm', en1, en2⟩ := m_load115 (ta := ta) (th := th) (tp' := 0) (st := stm) (fk := 0) (fp := -1) (ac := ac) (si := nI si) (fr := T'.1) (tt := T'.2.1) (kd := T'.2.2.1) (nu := T'.2.2.2.1) (fa := 0) (pl := -1) (wd := T'.2.2.2.2) (nw := cpr rd' w) (rd := rd') (nm := nm) (rn := rn')
    have ecp : ∀ i, i < 390 → cpr rd' w i = rd' i := fun i hi => if_pos hi
    have Pw := P9.re ecp
    obtain ⟨iv1, iv2⟩ := Pw.inv
    have p31 := Pw.1.2.2.1
    obtain ⟨m10, n8⟩ : m' ≤ 10 ∧ n' ≤ 8 := ⟨Pw.1.2.1, Pw.1.2.2.2⟩
    have B9 := S9.1.row (rn' := nm') (hv' := hF (cpr rd' w)) (pv' := pF (cpr rd' w)) (fun i hi => ⟨en2 i (by omega), ecp _ (by omega), ecp _ (by omega)⟩) (fun p hp => ⟨en2 _ (by omega), fun k hk => ecp _ (by omega)⟩)
    rw [y9, Option.bind_some, em]
    dsimp only [sumc]
    let A2 : Nat → Nat := fun k => if k = 1 then nx + 5 else if k = 2 then nx + 22 else if k = 3 then nx + 24 else if k = 4 then 2 else if k = 5 then 2 else if k = 6 then nx + 1 else if k = 7 then nx + 3 else A k
    have A20 : A2 0 = A 0 := rfl
    have q9' : h9 (A 0) = some (.inr (.inl (0, oFs (A 6) (A 7) (A 1) (A 8) (A 9) 0 0 (-1) (A 10) (A 11) (A 12) 0 (A 13)))) := q9
    have w1 : wr h9 (A 0) 0 0 (.ref (nx + 1)) = some (hu h9 (A 0) (.inr (.inl (0, oFs (nx + 1) (A 7) (A 1) (A 8) (A 9) 0 0 (-1) (A 10) (A 11) (A 12) 0 (A 13))))) := by
      rw [wr_at q9' (by show 0 < 13; decide)]; rfl
    have w2 : wr (hu h9 (A 0) (.inr (.inl (0, oFs (nx + 1) (A 7) (A 1) (A 8) (A 9) 0 0 (-1) (A 10) (A 11) (A 12) 0 (A 13))))) (A 0) 0 1 (.ref (nx + 3)) = some (hu h9 (A 0) (.inr (.inl (0, oFs (nx + 1) (nx + 3) (A 1) (A 8) (A 9) 0 0 (-1) (A 10) (A 11) (A 12) 0 (A 13))))) := by
      rw [wr_at hu_s (by show 1 < 13; decide), hu_hu]; rfl
    have w3 : wr (hu h9 (A 0) (.inr (.inl (0, oFs (nx + 1) (nx + 3) (A 1) (A 8) (A 9) 0 0 (-1) (A 10) (A 11) (A 12) 0 (A 13))))) (A 0) 0 2 (.ref (nx + 5)) = some (hu h9 (A 0) (oE A2 (upd (upd (upd I 2 0) 0 0) 1 (-1)) 0)) := by
      rw [wr_at hu_s (by show 2 < 13; decide), hu_hu]; rfl
    have nb : ∀ x, hu h9 (A 0) x nx = h9 nx := fun x => hu_n (by have := ne1.2.1; omega)
    have gq7 : ∀ x, gA (hu h9 (A 0) x) nx 3 7 = some (nx + 3) := fun x => by
      exact (rd0 ((nb x).trans qb)).2.2.2.2.2.2.2.1
    have gq8 : ∀ x, gA (hu h9 (A 0) x) nx 3 8 = some (nx + 5) := fun x => by
      exact (rd0 ((nb x).trans qb)).2.2.2.2.2.2.2.2.1
    have gr6 : gA h9 nx 3 6 = some (nx + 1) := gr6
    rw [gr6, Option.bind_some, w1, Option.bind_some, gq7, Option.bind_some, w2, Option.bind_some, gq8, Option.bind_some, w3, Option.bind_some]
    have q10 : hu h9 (A 0) (oE A2 (upd (upd (upd I 2 0) 0 0) 1 (-1)) 0) (A 0) = some (oE A2 (upd (upd (upd I 2 0) 0 0) 1 (-1)) 0) := hu_s
    have k10 : ∀ q, q ≠ A 0 → hu h9 (A 0) (oE A2 (upd (upd (upd I 2 0) 0 0) 1 (-1)) 0) q = h9 q := fun q hq => hu_n hq
    generalize hu h9 (A 0) (oE A2 (upd (upd (upd I 2 0) 0 0) 1 (-1)) 0) = h10 at q10 k10 ⊢
    have k10' : ∀ q, q < nx → q ≠ A 0 → h10 q = h q := fun q hq hq2 => by rw [k10 q hq2, hfr q hq, k7 q hq2]
    have g4 : gA h10 (A 0) 0 4 = some (A 9) := by simp [gA, rd, q10, oE, oFs, vR, A2]
    have L10 : LstC h10 (A 9) eP0 n (fun i => B (i + 2) 0) cP := s8.kept (k10' _ f9.2.1 f9.2.2.1) (k10' _ fP.2.1 fP.2.2.1)
    obtain ⟨h11, y11, L11, k11⟩ := L_clear (E := dE zs z) (nx := nx + 46 + c8 + c9) L10
    have q11 : h11 (A 0) = some (oE A2 (upd (upd (upd I 2 0) 0 0) 1 (-1)) 0) := (k11 _ (fun e => f9.2.2.1 e.symm) (fun e => fP.2.2.1 e.symm)).trans q10
    have k11' : ∀ q, nx ≤ q → h11 q = h9 q := fun q hq => by rw [k11 q (by have := f9.2.1; omega) (by have := fP.2.1; omega), k10 q (by have := ne1.2.1; omega)]
    have kk : ∀ q, q < nx → q ≠ A 0 → q ≠ A 9 → q ≠ eP0 → h11 q = h q := fun q hq z1 z2 z3 => by rw [k11 q z2 z3, k10' q hq z1]
    have g1 : gA h11 (A 0) 0 1 = some (nx + 3) := by simp [gA, rd, q11, oE, oFs, vR, A2]
    obtain ⟨fL, cap, L3⟩ := S9.1.lP
    have L3' : LstC h11 (nx + 3) eP' n' fL cap := L3.kept (k11' _ (by omega)) (k11' _ (by
      obtain ⟨-, z, -⟩ := S9.1.eb
      omega))
    rw [g4, Option.bind_some, L10.o, gdT, y11, Option.bind_some]
    dsimp only
    rw [g1, Option.bind_some, L3'.o, gdT, L3'.size, Option.bind_some]
    simp only [aC_some]
    have Ex : Ext M (fun q => M q ∨ (nx + 5 ≤ q ∧ q < nx + 46)) nx := ⟨fun q hq => Or.inl hq, fun q hq => by
      rcases hq with z | z
      · exact Or.inl z
      · exact Or.inr (by omega)⟩
    have kM : ∀ q, q < nx → ¬ M q → h11 q = h q := fun q hq hm => kk q hq (fun e => hm (by rw [e]; exact hMA)) (fun e => hm (by rw [e]; exact f9.1)) (fun e => hm (by rw [e]; exact fP.1))
    obtain ⟨X11, N11⟩ := B9.rx (A' := A2) (h1 := h11) (nx := nx + (0 + (1 + (45 + c8 + (c9 + (0 + 0)))))) (rN := nx + 5) (rA := A 8) Pw (fun q hq => k11' q hq) ⟨A 9, 0, 0, -1, A 10, A 11, A 12, 0, A 13, q11⟩ bM hMA (by omega) rfl rfl
    have own0 : ∀ q, Own (nx + 5) (nx + 22) (nx + 24) q → nx + 5 ≤ q ∧ q < nx + 46 := fun q hq => by
      rcases hq with z | z | z <;> omega
    have own1 : ∀ q, OwB B 1 q → q < nx ∧ q ≠ A 0 := fun q hq => by
      obtain ⟨F', wk, rf, sc, nl, la, no, oa, R, s0', hOwn, hno⟩ := s4
      exact ⟨(hOwn q hq).2, fun e => hno (by rw [← e]; exact hq)⟩
    refine Or.inr ⟨h11, _, _, A2, fun q => M q ∨ (nx + 5 ≤ q ∧ q < nx + 46), fun i => if i = 0 then (fun k => if k = 0 then nx + 5 else if k = 1 then nx + 22 else if k = 2 then nx + 24 else 2) else B i, eP0, cP, cpr rd' w, nm', m', n', T'.1, T'.2.1, T'.2.2.1, T'.2.2.2.1, T'.2.2.2.2, rd', rn', by rw [p31], ⟨⟨X11, q11⟩, fun k hk => ?_, s3, ?_, fun i hi => absurd hi (by omega), fun i hi => ?_, fun i j q hi hj z1 z2 => ?_, LstC.ext L11 (fun i hi => absurd hi (by omega)), s9, by omega, fun q hq => ?_, s12, ?_, ?_, ?_⟩, ⟨by omega, Ex, kM⟩, fun k hk => ?_, N11, iv1, iv2, by omega, by omega, ?_⟩
    · rcases (show k = 0 ∨ k = 1 ∨ k = 2 ∨ k = 3 ∨ k = 4 by omega) with rfl | rfl | rfl | rfl | rfl <;> rfl
    · exact s4.keep (by omega) Ex (fun q hq ho => kk q hq (own1 q ho).2 (fun e => f9.2.2.2 1 (by omega) (by rw [← e]; exact ho)) (fun e => fP.2.2.2 1 (by omega) (by rw [← e]; exact ho)))
    · rcases (show i = 0 ∨ i = 1 by omega) with rfl | rfl
      · exact ⟨by show 2 < 60; decide, by show 2 < 60; decide⟩
      · exact s6 1 (by omega)
    · rcases (show i = 0 ∨ i = 1 by omega) with rfl | rfl <;> rcases (show j = 0 ∨ j = 1 by omega) with rfl | rfl
      · rfl
      · have a1 := own0 q z1
        have a2 := own1 q z2
        omega
      · have a1 := own0 q z2
        have a2 := own1 q z1
        omega
      · rfl
    · obtain ⟨g1, g2, g3, g4⟩ := s11 q hq
      refine ⟨Or.inl g1, by omega, g3, fun i hi => ?_⟩
      rcases (show i = 0 ∨ i = 1 by omega) with rfl | rfl
      · intro z
        have := own0 q z
        omega
      · exact g4 1 (by omega)
    · exact (kk _ f12.2.1 f12.2.2.1 s12.1 s12.2.1).trans s13
    · exact (kk _ f13.2.1 f13.2.2.1 s12.2.2.1 s12.2.2.2.1).trans s14
    · exact (kk _ fB.2.1 fB.2.2.1 s12.2.2.2.2.1 s12.2.2.2.2.2).trans s15
    · show (if k = 1 then _ else if k = 2 then _ else if k = 3 then _ else if k = 4 then _ else if k = 5 then _ else if k = 6 then _ else if k = 7 then _ else A k) = A k
      rw [if_neg (by omega), if_neg (by omega), if_neg (by omega), if_neg (by omega), if_neg (by omega), if_neg (by omega), if_neg (by omega)]
    · unfold f_X3_load_75
      rw [if_neg (by decide), m_cp_rn, Option.bind_some, en1]
end PLD
