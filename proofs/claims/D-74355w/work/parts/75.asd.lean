/-! what is tried aside: the frame, weeks ahead -/
/-- rows that agree where they are read -/
def RE (w W : Rw) : Prop := ∀ i, i < 390 → W i = w i
theorem RX.keep {h h1 : AH} {nx nx' : Nat} {M M' : Nat → Prop} {o r eL eO_ cL cO : Nat} {w : Rw} (X : RX h nx M o r eL eO_ cL cO w) (hn : nx ≤ nx') (E : Ext M M' nx) (hB : ∀ q, M' q → q < nx') (hk : ∀ q, q < nx → (¬ M q ∨ q = o ∨ Own r eL eO_ q) → h1 q = h q) : RX h1 nx' M' o r eL eO_ cL cO w := by
  obtain ⟨H, F, wk, rf, sc, la, oa, R, Q, L, K, s0, il, io, hOwn, hno⟩ := X
  refine ⟨H.step hn E hB (fun q hq hz => hk q hq (by
    rcases hz with z | z
    · exact Or.inl z
    · exact Or.inr (Or.inl z))), F, wk, rf, sc, la, oa, R.kept (fun q hq => hk q (hOwn q hq).2 (Or.inr (Or.inr hq))), Q, L.kept (fun i hi => hk _ (il i hi).1 (Or.inl (il i hi).2)), K.kept (fun i hi => hk _ (io i hi).1 (Or.inl (io i hi).2)), s0, fun i hi => (il i hi).ext hn E, fun i hi => (io i hi).ext hn E, fun q hq => ⟨E.1 _ (hOwn q hq).1, by have := (hOwn q hq).2; omega⟩, hno⟩
theorem RS.keep {h h1 : AH} {nx nx' : Nat} {M M' : Nat → Prop} {o r eL eO_ cL cO : Nat} (Y : RS h nx M o r eL eO_ cL cO) (hn : nx ≤ nx') (E : Ext M M' nx) (hk : ∀ q, q < nx → Own r eL eO_ q → h1 q = h q) : RS h1 nx' M' o r eL eO_ cL cO := by
  obtain ⟨F, wk, rf, sc, nl, la, no, oa, R, s0, hOwn, hno⟩ := Y
  exact ⟨F, wk, rf, sc, nl, la, no, oa, R.kept (fun q hq => hk q (hOwn q hq).2 hq), s0, fun q hq => ⟨E.1 _ (hOwn q hq).1, by have := (hOwn q hq).2; omega⟩, hno⟩
theorem RX.bd {h : AH} {nx : Nat} {M : Nat → Prop} {o r eL eO_ cL cO : Nat} {w : Rw} (X : RX h nx M o r eL eO_ cL cO w) : ∀ q, M q → q < nx := X.1.bd
theorem RX.own {h : AH} {nx : Nat} {M : Nat → Prop} {o r eL eO_ cL cO : Nat} {w : Rw} (X : RX h nx M o r eL eO_ cL cO w) : (∀ q, Own r eL eO_ q → M q ∧ q < nx) ∧ ¬ Own r eL eO_ o ∧ o < nx ∧ M o := by
  obtain ⟨⟨aH, eH, aP, eP, rN, rA, hm, hs, nh, np, tl, O, T, TI, ho, hMM⟩, F, wk, rf, sc, la, oa, R, Q, L, K, s0, il, io, hOwn, hno⟩ := X
  exact ⟨hOwn, hno, ho, hMM.1⟩
/-- a register elsewhere: the names of its cells -/
def Asd (A : Nat → Nat) (eL eO_ cL cO : Nat) : Nat → Nat := fun i => if i = 1 then A 8 else if i = 2 then eL else if i = 3 then eO_ else if i = 4 then cL else if i = 5 then cO else A i
/-- what is answered after something was tried aside; d: the aside register's rows and caps ahead -/
def AX (A : Nat → Nat) (I : Nat → Int32) (M : Nat → Prop) (w : Rw) (eL eO_ : Nat) (h : AH) (nx : Nat) (f : Option (Int32 × AH × Nat × Nat)) (a : Int32 × Int32) : Prop := ∃ (h' : AH) (M' : Nat → Prop) (eL' eO' cL' cO' c d : Nat), f = some (a.1, h', c, d) ∧ SN A I M' w a.2 h' (nx + c) ∧ RS h' (nx + c) M' (A 0) (A 8) eL' eO' cL' cO' ∧ cL' < 60 ∧ cO' < 60 ∧ (eL' = eL ∨ nx ≤ eL') ∧ (eO' = eO_ ∨ nx ≤ eO') ∧ Ext M M' nx ∧ (∀ q, q < nx → q ≠ A 1 → q ≠ A 0 → ¬ Own (A 8) eL eO_ q → h' q = h q) ∧ c ≤ 15998 ∧ d ≤ 94215
section PAS
variable {A : Nat → Nat} {I : Nat → Int32} {M M' M1 : Nat → Prop} {w W : Rw} {st : Int32} {h h0 h1 h2 h' : AH} {nx nx' n0 n1 n2 : Nat} {E : bE} {v a b u : Int32} {p x y N k q d K eL eO_ cL cO eL' eO' cL' cO' : Nat} {f : Option (Int32 × AH × Nat × Nat)} {zs : Nat → Nat} {n : Nat}
/-- the aside register's start: apart from the one now -/
def AP (A : Nat → Nat) (eL eO_ : Nat) : Prop := ∀ q, Own (A 1) (A 2) (A 3) q → ¬ Own (A 8) eL eO_ q
/-- tried aside: the aside register tells W -/
def AW (A : Nat → Nat) (I : Nat → Int32) (M : Nat → Prop) (w : Rw) (eL eO_ : Nat) (h0 : AH) (n0 : Nat) (M' : Nat → Prop) (W : Rw) (eL' eO' cL' cO' : Nat) (h : AH) (nx : Nat) : Prop := SN A I M' w 0 h nx ∧ RX h nx M' (A 0) (A 8) eL' eO' cL' cO' W ∧ n0 ≤ nx ∧ Ext M M' n0 ∧ cL' < 60 ∧ cO' < 60 ∧ (eL' = eL ∨ n0 ≤ eL') ∧ (eO' = eO_ ∨ n0 ≤ eO') ∧ AP A eL' eO' ∧ ∀ q, q < n0 → q ≠ A 1 → q ≠ A 0 → ¬ Own (A 8) eL eO_ q → h q = h0 q
theorem AW.ra (B : AW A I M w eL eO_ h0 n0 M' W eL' eO' cL' cO' h nx) : RA (Asd A eL' eO' cL' cO') M' W h nx := B.2.1
/-- reading on the aside register -/
theorem AW.lt (B : AW A I M w eL eO_ h0 n0 M' W eL' eO' cL' cO' h nx) (X : RA (Asd A eL' eO' cL' cO') M' W h1 n1) (L : Lt (A 8) h nx h1 n1) : AW A I M w eL eO_ h0 n0 M' W eL' eO' cL' cO' h1 n1 := by
  obtain ⟨b1, b2, b3, b4, b5, b6, b7, b8, b9, b10⟩ := B
  have o8 : Own (A 8) eL' eO' (A 8) := Or.inl ⟨by omega, by omega⟩
  have ow := b2.own
  have hM8 := (ow.1 _ o8).1
  have h08 : A 0 ≠ A 8 := fun z => ow.2.1 (z ▸ o8)
  have hE : Ext M' M' nx := Ext.rfl'
  refine ⟨⟨RX.keep b1.1 L.1 Ext.rfl' X.bd (fun q hq hz => L.2 q hq (fun e => ?_)), by rw [L.2 _ b1.1.ne.2.1 h08]; exact b1.2⟩, X, by have := L.1; omega, b4, b5, b6, b7, b8, b9, fun q hq h1 h2 h3 => ?_⟩
  · subst e
    rcases hz with z | z | z
    · exact z hM8
    · exact h08 z.symm
    · exact b9 _ z o8
  · rw [L.2 q (by omega) (fun e => h3 (Or.inl ⟨by omega, by omega⟩))]
    exact b10 q hq h1 h2 h3
/-- reading on the register now -/
theorem AW.ln (B : AW A I M w eL eO_ h0 n0 M' W eL' eO' cL' cO' h nx) (X : RA A M' w h1 n1) (L : Lt (A 1) h nx h1 n1) : AW A I M w eL eO_ h0 n0 M' W eL' eO' cL' cO' h1 n1 := by
  obtain ⟨b1, b2, b3, b4, b5, b6, b7, b8, b9, b10⟩ := B
  have o1 : Own (A 1) (A 2) (A 3) (A 1) := Or.inl ⟨by omega, by omega⟩
  have ow := b1.1.own
  have hM1 := (ow.1 _ o1).1
  refine ⟨b1.lt X L, RX.keep b2 L.1 Ext.rfl' X.bd (fun q hq hz => L.2 q hq (fun e => ?_)), by have := L.1; omega, b4, b5, b6, b7, b8, b9, fun q hq h1 h2 h3 => (L.2 q (by omega) h1).trans (b10 q hq h1 h2 h3)⟩
  subst e
  rcases hz with z | z | z
  · exact z hM1
  · exact b1.1.ne.1 z.symm
  · exact b9 _ o1 z
theorem AW.grow (B : AW A I M w eL eO_ h0 n0 M' W eL' eO' cL' cO' h nx) (hn : nx ≤ n1) (hk : ∀ q, q < nx → h1 q = h q) : AW A I M w eL eO_ h0 n0 M' W eL' eO' cL' cO' h1 n1 := by
  obtain ⟨b1, b2, b3, b4, b5, b6, b7, b8, b9, b10⟩ := B
  exact ⟨⟨RX.grow b1.1 hn hk, by rw [hk _ b1.1.ne.2.1]; exact b1.2⟩, RX.grow b2 hn hk, by omega, b4, b5, b6, b7, b8, b9, fun q hq h1 h2 h3 => (hk q (by omega)).trans (b10 q hq h1 h2 h3)⟩
theorem AW.no (B : AW A I M w eL eO_ h0 n0 M' W eL' eO' cL' cO' h nx) (E : bE) (v : Int32) : ∃ h1, f_X1_none E h nx (A 0) v = some (-1, h1, 0, 0) ∧ SN A I M' w v h1 nx ∧ RS h1 nx M' (A 0) (A 8) eL' eO' cL' cO' ∧ ∀ q, q < n0 → q ≠ A 1 → q ≠ A 0 → ¬ Own (A 8) eL eO_ q → h1 q = h0 q := by
  obtain ⟨b1, b2, b3, b4, b5, b6, b7, b8, b9, b10⟩ := B
  obtain ⟨h1, e1, S1, q1⟩ := b1.no E v
  have ow := b2.own
  refine ⟨h1, e1, S1, b2.rs.keep (Nat.le_refl _) Ext.rfl' (fun z hz ho => q1.2 z hz (fun e => ?_) (fun e => ?_)), fun q hq h1' h2 h3 => (q1.2 q (by omega) h1' h2).trans (b10 q hq h1' h2 h3)⟩
  · subst e; exact b9 _ (Or.inl ⟨by omega, by omega⟩) ho
  · subst e; exact ow.2.1 ho
theorem AW.out (B : AW A I M w eL eO_ h nx M' W eL' eO' cL' cO' h' (nx + k)) (hf : f = some (a, h', k, d)) (hc : k ≤ 15998) (hd : d ≤ 94215) : AX A I M w eL eO_ h nx f (a, 0) := by
  obtain ⟨b1, b2, b3, b4, b5, b6, b7, b8, b9, b10⟩ := B
  exact ⟨h', M', eL', eO', cL', cO', k, d, hf, b1, b2.rs, b5, b6, b7, b8, b4, b10, hc, hd⟩
/-- nothing was tried -/
theorem An.ax (B : An A I M w h nx f (a, v)) (Y : RS h nx M (A 0) (A 8) eL eO_ cL cO) (hc : cL < 60) (hc2 : cO < 60) (P : AP A eL eO_) : AX A I M w eL eO_ h nx f (a, v) := by
  obtain ⟨h', c, d, e, S, q, b1, b2⟩ := B
  have ow := S.1.own
  have hY := Y
  obtain ⟨F, wk, rf, sc, nl, la, no, oa, R, s0, hOwn, hno⟩ := hY
  refine ⟨h', M, eL, eO_, cL, cO, c, d, e, S, Y.keep (by omega) Ext.rfl' (fun z hz ho => q.2 z hz (fun e => ?_) (fun e => ?_)), hc, hc2, Or.inl rfl, Or.inl rfl, Ext.rfl', fun z hz h1 h2 _ => q.2 z hz h1 h2, by omega, by omega⟩
  · subst e; exact P _ (Or.inl ⟨by omega, by omega⟩) ho
  · subst e; exact hno ho
theorem AX.of (q1 : QS A h nx h1 nx) (B : AX A I M w eL eO_ h1 nx f (a, v)) : AX A I M w eL eO_ h nx f (a, v) := by
  obtain ⟨h', M', eL', eO', cL', cO', c, d, e, S, Y, y1, y2, y3, y4, E', hk, b1, b2⟩ := B
  exact ⟨h', M', eL', eO', cL', cO', c, d, e, S, Y, y1, y2, y3, y4, E', fun q hq h1' h2 h3 => (hk q hq h1' h2 h3).trans (q1.2 q hq h1' h2), b1, b2⟩
/-- aside becomes now -/
theorem y_aside (S : SN A I M w 0 h nx) (G : Gd w) (Y : RS h nx M (A 0) (A 8) eL eO_ cL cO) (hc : cL < 60) (hc2 : cO < 60) (P : AP A eL eO_) : ∃ h' M' eL' eO' cL' cO' c d, f_X2_become E h nx (A 8) (A 1) = some ((), h', c, d) ∧ AW A I M w eL eO_ h nx M' w eL' eO' cL' cO' h' (nx + c) ∧ c ≤ 6 ∧ d ≤ 204 := by
  obtain ⟨h', M', e2L', e2O', c2L', c2O', c, d, e, X', E', z1, z2, z3, z4, b1, b2, hk⟩ := x_become (E := E) S.1 Y G P hc hc2
  obtain ⟨F, wk, rf, sc, nl, la, no, oa, R, s0, hOwn, hno⟩ := Y
  have ow := S.1.own
  refine ⟨h', M', e2L', e2O', c2L', c2O', c, d, e, ⟨⟨RX.keep S.1 (by omega) E' X'.bd (fun q hq hz => hk q hq (fun o => ?_)), by rw [hk _ S.1.ne.2.1 hno]; exact S.2⟩, X', by omega, E', z3, z4, z1, z2, fun q hq ho => ?_, fun q hq _ _ hn => hk q hq hn⟩, b1, b2⟩
  · rcases hz with z | z | z
    · exact z (hOwn q o).1
    · exact hno (z ▸ o)
    · exact P q z o
  · have hqn := (ow.1 q hq).2
    rcases ho with z | z | z
    · exact P q hq (Or.inl z)
    · rcases z1 with y | y
      · exact P q hq (Or.inr (Or.inl (z.trans y)))
      · omega
    · rcases z2 with y | y
      · exact P q hq (Or.inr (Or.inr (z.trans y)))
      · omega
/-- steps of the aside register -/
theorem AW.xw {bc bs d : Nat} {W' : Rw} {M'' : Nat → Prop} {eL'' eO'' cL'' cO'' : Nat} (B : AW A I M w eL eO_ h0 n0 M' W eL' eO' cL' cO' h nx) (V : XW (A 0) (A 8) h nx M' eL' eO' cL' cO' W h1 n1 M'' eL'' eO'' cL'' cO'' W' bc bs d) : AW A I M w eL eO_ h0 n0 M'' W' eL'' eO'' cL'' cO'' h1 n1 := by
  obtain ⟨b1, b2, b3, b4, b5, b6, b7, b8, b9, b10⟩ := B
  have V0 := V
  obtain ⟨a1, a2, a3, a4, a5, a6, a7, a8, a9, a10, a11, a12, a13⟩ := V
  have ow := b2.own
  have own1 := b1.1.own
  refine ⟨⟨RX.keep b1.1 a2 a3 a1.bd (fun q hq hz => a13 q hq (fun o => ?_)), by rw [a13 _ b1.1.ne.2.1 ow.2.1]; exact b1.2⟩, a1, by omega, b4.trans b3 a3, a8, a9, by omega, by omega, fun q hq ho => ?_, fun q hq h1' h2 h3 => ?_⟩
  · rcases hz with z | z | z
    · exact z (ow.1 q o).1
    · exact ow.2.1 (z ▸ o)
    · exact b9 q z o
  · exact V0.own (own1.1 q hq).2 (b9 q hq) ho
  · rw [a13 q (by omega) (fun o => ?_)]
    · exact b10 q hq h1' h2 h3
    · rcases o with z | z | z
      · exact h3 (Or.inl z)
      · rcases b7 with y | y
        · exact h3 (Or.inr (Or.inl (z.trans y)))
        · omega
      · rcases b8 with y | y
        · exact h3 (Or.inr (Or.inr (z.trans y)))
        · omega
theorem omN_1 : ∀ (k : Nat) (w : Rw), omN (k + 1) w = omE (omN k w)
  | 0, w => rfl
  | k + 1, w => omN_1 k (omE w)
theorem omN_ok (G : Gd w) : ∀ (k : Nat), wN w 232 + k ≤ 999 → Gd (omN k w) ∧ KT w (omN k w) ∧ wN (omN k w) 232 = wN w 232 + k ∧ nL w ≤ nL (omN k w)
  | 0, _ => ⟨G, KT.rfl', rfl, Nat.le_refl _⟩
  | k + 1, hk => by
    obtain ⟨g1, g2, g3, g4⟩ := omN_ok G k (by omega)
    obtain ⟨-, e1, e2, e3, e4, -⟩ := m_oneMore g1 (by omega)
    rw [omN_1]
    refine ⟨e1, g2.trans e2, ?_, by omega⟩
    show (omE (omN k w) 232).toNatClampNeg = _
    rw [e4, nI_clamp (by omega), g3]
    omega
theorem y_asideGoes (B : AW A I M w eL eO_ h0 n0 M' W eL' eO' cL' cO' h nx) (G : Gd W) (hK : K ≤ 1000) (hw : wN W 232 + K ≤ 999) : ∃ h' M'' eL'' eO'' cL'' cO'' c d, f_X2_goes (dE zs (n + 5)) h nx (A 8) (nI K) = some ((), h', c, d) ∧ AW A I M w eL eO_ h0 n0 M'' (omN K W) eL'' eO'' cL'' cO'' h' (nx + c) ∧ c ≤ 30 * K + 140 ∧ d ≤ 90 * K + 600 := by
  obtain ⟨h', M'', eL'', eO'', cL'', cO'', c, d, e, V⟩ := x_goes (zs := zs) (n := n) hK G hw B.2.1 B.2.2.2.2.1 B.2.2.2.2.2.1
  have V0 := V
  obtain ⟨a1, a2, a3, a4, a5, a6, a7, a8, a9, a10, a11, a12, a13⟩ := V
  have h8 := (omN_ok G K hw).1.1.gL.2
  exact ⟨h', M'', eL'', eO'', cL'', cO'', c, d, e, B.xw V0, by omega, by omega⟩
/-- the aside register's start, behind a step that writes the object and the register now alone -/
theorem RS.qs (Y : RS h nx M (A 0) (A 8) eL eO_ cL cO) (P : AP A eL eO_) (q : QS A h nx h1 n1) : RS h1 n1 M (A 0) (A 8) eL eO_ cL cO := by
  have hY := Y
  obtain ⟨F, wk, rf, sc, nl, la, no, oa, R, s0, hOwn, hno⟩ := hY
  refine Y.keep q.1 Ext.rfl' (fun z hz ho => q.2 z hz (fun e => ?_) (fun e => ?_))
  · subst e; exact P _ (Or.inl ⟨by omega, by omega⟩) ho
  · subst e; exact hno ho
theorem AX.can0 {K : Int32 × AH × Nat × Nat → Option (Int32 × AH × Nat × Nat)} {an : Int32 × Int32} (S : SN A I M w st h nx) (Y : RS h nx M (A 0) (A 8) eL eO_ cL cO) (P : AP A eL eO_) (hk : ∀ h1, SN A I M w 0 h1 nx → QS A h nx h1 nx → RS h1 nx M (A 0) (A 8) eL eO_ cL cO → AX A I M w eL eO_ h1 nx (K (1, h1, 0, 0)) an) : AX A I M w eL eO_ h nx (gd (isO h (A 0) 0) ((f_X1_can E h nx (A 0) 0).bind fun v2 => aC v2.2.2.1 v2.2.2.2 (if v2.1 = 0 then some (-1, v2.2.1, 0, 0) else K v2))) an := by
  obtain ⟨h1, e1, S1, q1⟩ := S.can E 0
  rw [S.i0, gdT, e1, Option.bind_some]
  dsimp only
  rw [aC00, if_neg (show ¬ bI (decide ((0 : Int32) = 0)) = 0 by decide)]
  obtain ⟨a1, a2⟩ := an
  exact AX.of q1 (hk h1 S1 q1 (Y.qs P q1))
end PAS
