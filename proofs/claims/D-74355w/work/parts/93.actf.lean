/-! undo: the component's side -/
theorem LstC.ext {h : AH} {a e n cap : Nat} {f f' : Nat → Nat} (L : LstC h a e n f cap) (hf : ∀ i, i < n → f' i = f i) : LstC h a e n f' cap := by
  obtain ⟨m, g, q1, q2, q3, q4, q5, q6, q7⟩ := L
  exact ⟨m, g, q1, q2, q3, q4, q5, fun i hi => by rw [hf i hi]; exact q6 i hi, q7⟩
section PAG
variable {A A' A5 : Nat → Nat} {I I' : Nat → Int32} {M M' M1 M5 : Nat → Prop} {w w' W : Rw} {st st' : Int32} {h h0 h1 h2 h' h5 : AH} {nx nx' n0 n1 n2 : Nat} {E : bE} {v a b u : Int32} {p x y N k q d K r c eL eO_ cL cO eL' eO' cL' cO' o bc bs c1 d1 : Nat} {f f1 : Option (Int32 × AH × Nat × Nat)} {zs : Nat → Nat} {n m : Nat} {P P' : Nat → Rw} {B B' B5 : Nat → Nat → Nat} {eP cP eB eP' cP' : Nat} {C C' : Nat → hE}
theorem Sys.pop (S : Sys A I M w (n + 1) P B eP cP eB C st h nx) (hL : LstC h2 (A 9) eP n (fun j => B (j + 2) 0) cP) (hk : ∀ q, q ≠ A 9 → q ≠ eP → h2 q = h q) : ∃ (h3 : AH) (A' : Nat → Nat) (B' : Nat → Nat → Nat), wr h2 (A 0) 0 2 (.ref (B (n + 2) 0)) = some h3 ∧ Sys A' I M (P n) n P B' eP cP eB C st h3 nx ∧ MS M h nx M h3 nx ∧ (∀ k, k = 0 ∨ 6 ≤ k → A' k = A k) ∧ isO h2 (B (n + 2) 0) 1 = true := by
  obtain ⟨o0, o1⟩ := S.own0
  have ow := S.1.1.own
  obtain ⟨s1, s2, s3, s4, s5, s6, s7, s8, s9, s10, s11, s12, s13, s14, s15⟩ := id S
  have f9 := s11 (A 9) (Or.inl rfl)
  have fP := s11 eP (Or.inr (Or.inl rfl))
  let A' : Nat → Nat := fun k => if k = 1 then B (n + 2) 0 else if k = 2 then B (n + 2) 1 else if k = 3 then B (n + 2) 2 else if k = 4 then B (n + 2) 3 else if k = 5 then B (n + 2) 4 else A k
  let B' : Nat → Nat → Nat := fun i => if i = 0 then B (n + 2) else B i
  have h20 : h2 (A 0) = some (oE A I st) := by rw [hk _ (fun e => f9.2.2.1 e.symm) (fun e => fP.2.2.1 e.symm)]; exact s1.2
  have ew : wr h2 (A 0) 0 2 (.ref (B (n + 2) 0)) = some (hu h2 (A 0) (oE A' I st)) := by
    have : h2 (A 0) = some (.inr (.inl (0, oFs (A 6) (A 7) (A 1) (A 8) (A 9) st (I 0) (I 1) (A 10) (A 11) (A 12) (I 2) (A 13)))) := h20
    rw [wr_at this (by show 2 < 13; decide)]
    rfl
  have hA : ∀ k, k = 0 ∨ 6 ≤ k → A' k = A k := fun k hk => by
    show (if k = 1 then _ else if k = 2 then _ else if k = 3 then _ else if k = 4 then _ else if k = 5 then _ else A k) = A k
    rw [if_neg (by omega), if_neg (by omega), if_neg (by omega), if_neg (by omega), if_neg (by omega)]
  have b0 : B' 0 = B (n + 2) := rfl
  have bi : ∀ i, i ≠ 0 → B' i = B i := fun i hi => if_neg hi
  have K : ∀ q, q ≠ A 0 → q ≠ A 9 → q ≠ eP → hu h2 (A 0) (oE A' I st) q = h q := fun q z0 z1 z2 => by rw [hu_n z0, hk q z1 z2]
  have bM : ∀ q, M q → q < nx := s1.1.bd
  have rx : ∀ i, i < n + 1 → RX (hu h2 (A 0) (oE A' I st)) nx M (A 0) (B (i + 2) 0) (B (i + 2) 1) (B (i + 2) 2) (B (i + 2) 3) (B (i + 2) 4) (P i) := fun i hi => (s5 i hi).keepO s1.2 (A' := A') (I' := I) (st' := st) hu_s (hA 6 (by omega)) (hA 7 (by omega)) (Nat.le_refl _) Ext.rfl' bM (fun q hq hqo hz => by
    refine K q hqo (fun e => ?_) (fun e => ?_)
    · rcases hz with z | z
      · exact z (e ▸ f9.1)
      · exact f9.2.2.2 (i + 2) (by omega) (e ▸ z)
    · rcases hz with z | z
      · exact z (e ▸ fP.1)
      · exact fP.2.2.2 (i + 2) (by omega) (e ▸ z))
  have idx : ∀ i q, i < n + 2 → OwB B' i q → ∃ j, j < n + 1 + 2 ∧ OwB B j q ∧ ((i = 0 ∧ j = n + 2) ∨ (i ≠ 0 ∧ j = i)) := fun i q hi hq => by
    by_cases h0 : i = 0
    · subst h0
      refine ⟨n + 2, by omega, ?_, Or.inl ⟨rfl, rfl⟩⟩
      unfold OwB at hq ⊢; rw [b0] at hq; exact hq
    · refine ⟨i, by omega, ?_, Or.inr ⟨h0, rfl⟩⟩
      unfold OwB at hq ⊢; rw [bi i h0] at hq; exact hq
  refine ⟨_, A', B', ew, ⟨⟨rx n (by omega), hu_s⟩, fun k hk => ?_, ?_, ?_, fun i hi => ?_, fun i hi => ?_, fun i j q hi hj h1 h2 => ?_, ?_, s9, by omega, fun q hq => ?_, ?_, ?_, ?_, ?_⟩, ⟨Nat.le_refl _, Ext.rfl', fun q hq hm => K q (fun e => hm (e ▸ ow.2.2.2)) (fun e => hm (e ▸ f9.1)) (fun e => hm (e ▸ fP.1))⟩, hA, ?_⟩
  · rw [b0]
    rcases (show k = 0 ∨ k = 1 ∨ k = 2 ∨ k = 3 ∨ k = 4 by omega) with rfl | rfl | rfl | rfl | rfl <;> rfl
  · rw [hA 8 (by omega), bi 1 (by decide)]; exact s3
  · rw [bi 1 (by decide), hA 0 (Or.inl rfl)]
    obtain ⟨F, wk, rf, sc, nl, la, no, oa, R, s0, hOwn, hno⟩ := id s4
    refine s4.keep (Nat.le_refl _) Ext.rfl' (fun q hq ho => K q (fun e => hno (e ▸ ho)) (fun e => f9.2.2.2 1 (by omega) (e ▸ ho)) (fun e => fP.2.2.2 1 (by omega) (e ▸ ho)))
  · rw [bi (i + 2) (by omega), hA 0 (Or.inl rfl)]
    exact rx i (by omega)
  · by_cases h0 : i = 0
    · rw [h0, b0]; exact s6 (n + 2) (by omega)
    · rw [bi i h0]; exact s6 i (by omega)
  · obtain ⟨i', z1, z2, z3⟩ := idx i q hi h1
    obtain ⟨j', y1, y2, y3⟩ := idx j q hj h2
    have := s7 i' j' q z1 y1 z2 y2
    omega
  · rw [hA 9 (by omega)]
    have ef : (fun i => B' (i + 2) 0) = fun i => B (i + 2) 0 := funext fun i => by rw [bi (i + 2) (by omega)]
    rw [ef]
    exact hL.kept (hu_n (fun e => f9.2.2.1 e)) (hu_n (fun e => fP.2.2.1 e))
  · have hq' : Fix A eP eB q := by
      unfold Fix at hq ⊢
      rw [hA 9 (by omega), hA 12 (by omega), hA 13 (by omega)] at hq
      exact hq
    obtain ⟨f1, f2, f3, f4⟩ := s11 q hq'
    refine ⟨f1, f2, by rw [hA 0 (Or.inl rfl)]; exact f3, fun i hi z => ?_⟩
    obtain ⟨j, y1, y2, -⟩ := idx i q hi z
    exact f4 j y1 y2
  · rw [hA 9 (by omega), hA 12 (by omega), hA 13 (by omega)]; exact s12
  · obtain ⟨g1, g2, g3, g4, g5, g6⟩ := s12
    rw [hA 12 (by omega), K _ (s11 _ (Or.inr (Or.inr (Or.inl rfl)))).2.2.1 g1 g2]; exact s13
  · obtain ⟨g1, g2, g3, g4, g5, g6⟩ := s12
    rw [hA 13 (by omega), K _ (s11 _ (Or.inr (Or.inr (Or.inr (Or.inl rfl))))).2.2.1 g3 g4]; exact s14
  · obtain ⟨g1, g2, g3, g4, g5, g6⟩ := s12
    rw [K _ (s11 _ (Or.inr (Or.inr (Or.inr (Or.inr rfl))))).2.2.1 g5 g6]; exact s15
  · have hown : OwB B (n + 2) (B (n + 2) 0) := Or.inl ⟨by omega, by omega⟩
    obtain ⟨F, wk, rf, sc, nl, la, no, oa, R, -⟩ := (s5 n (by omega)).rs
    have : isO h (B (n + 2) 0) 1 = true := R.o1
    unfold isO at this ⊢
    rw [hk _ (fun e => f9.2.2.2 (n + 2) (by omega) (e ▸ hown)) (fun e => fP.2.2.2 (n + 2) (by omega) (e ▸ hown))]
    exact this
theorem y_undo (S : Sys A I M w n P B eP cP eB C st h nx) : SA A I M eB h nx (f_X1_undo (dE zs m) h nx (A 0)) (an_undo n).1 (an_undo n).2 (if n = 0 then w else P (n - 1)) (n - 1) P C := by
  have SN1 := S.1
  have hn12 : n ≤ 12 := S.2.2.2.2.2.2.2.2.2.1
  have L := S.2.2.2.2.2.2.2.1
  have ee : f_J2_isEmpty (dE zs m) h (A 9) = some (if n = 0 then 1 else 0) := by
    unfold f_J2_isEmpty
    rw [L.gS, Option.bind_some]
    by_cases h0 : n = 0
    · rw [if_pos h0, h0, if_pos (show nI 0 = 0 from rfl)]
    · rw [if_neg h0, if_neg (nI_ne0 (by omega) (by omega))]
  unfold f_X1_undo an_undo
  rw [SN1.g4, Option.bind_some, L.o, gdT, ee, Option.bind_some]
  by_cases h0 : n = 0
  · subst h0
    rw [if_pos rfl, if_neg (show ¬ (1 : Int32) = 0 by decide)]
    unfold f_X1_undo_16
    exact An.sa S (a := (-1, nI 5)) (An.cn SN1 (by decide))
  · obtain ⟨n', rfl⟩ : ∃ n', n = n' + 1 := ⟨n - 1, by omega⟩
    rw [if_neg h0, if_pos rfl, if_neg h0, if_neg h0, Nat.add_sub_cancel]
    unfold f_X1_undo_16
    obtain ⟨h1, e1, S1, q1⟩ := SN1.can (dE zs m) 0
    obtain ⟨Y1, m1⟩ := S.sn S1 q1
    have L1 := Y1.2.2.2.2.2.2.2.1
    have e1' : f_X1_can (dE zs m) h nx (A 0) 0 = some (1, h1, 0, 0) := e1
    have past : ∀ j, j < n' + 1 → stO 4 (h1 (B (j + 2) 0)) = true := fun j hj => by
      obtain ⟨F', wk, rf, sc, nl, la, no, oa, R, -⟩ := (Y1.2.2.2.2.1 j hj).rs
      rw [R.1]; rfl
    obtain ⟨h2, e2, L2, k2⟩ := L_remove (E := dE zs m) (nx := nx) (i := n') L1 (by omega) past
    obtain ⟨h3, A3, B3, e3, S3, m3, a3, o3⟩ := Y1.pop (h2 := h2) (L2.ext (fun i hi => by
      have hi : i < n' := hi
      show B (i + 2) 0 = if i < n' then B (i + 2) 0 else B (i + 1 + 2) 0
      rw [if_pos hi])) k2
    have e4 : gA h3 (A 0) 0 4 = some (A 9) := by
      have := S3.1.g4
      rw [a3 0 (Or.inl rfl), a3 9 (by omega)] at this
      exact this
    have L3 := S3.2.2.2.2.2.2.2.1
    rw [a3 9 (by omega)] at L3
    refine ⟨h3, 0, 0, A3, M, B3, eP, cP, ?_, S3, m1.trans m3, a3, by omega, by omega⟩
    rw [SN1.i0, gdT, e1', Option.bind_some]
    dsimp only
    simp only [Nat.add_zero]
    rw [aC00, if_neg (show ¬ (1 : Int32) = 0 by decide), S1.g4, Option.bind_some, Option.bind_some, L1.o, gdT, L1.size, Option.bind_some, gdT, nI_pred, e2, Option.bind_some]
    dsimp only
    rw [aC00, o3, gdT, e3, Option.bind_some, e4, Option.bind_some, L3.o, gdT, L3.size, Option.bind_some]
end PAG
