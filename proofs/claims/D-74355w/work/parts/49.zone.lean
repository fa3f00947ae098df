/-! THE COMPONENT's side: steps of a register, one behind the other; a home's offers -/
def XW (o r : Nat) (h : AH) (nx : Nat) (M : Nat → Prop) (eL eO_ cL cO : Nat) (w : Rw) (h' : AH) (nx' : Nat) (M' : Nat → Prop) (eL' eO' cL' cO' : Nat) (w' : Rw) (bc bs d : Nat) : Prop := RX h' nx' M' o r eL' eO' cL' cO' w' ∧ nx ≤ nx' ∧ Ext M M' nx ∧ (eL' = eL ∨ nx ≤ eL') ∧ (eO' = eO_ ∨ nx ≤ eO') ∧ cL ≤ cL' ∧ cO ≤ cO' ∧ cL' < 60 ∧ cO' < 60 ∧ nL w ≤ nL w' ∧ nx' ≤ nx + bc + 2 * (nL w' - nL w) + (cL' - cL) + (cO' - cO) ∧ d ≤ bs + 14 * (nL w' - nL w) + 4 * (cL' - cL) + 4 * (cO' - cO) ∧ ∀ q, q < nx → ¬ Own r eL eO_ q → h' q = h q
section PZO
variable {h h' h'' : AH} {nx nx' nx'' : Nat} {M M' M'' : Nat → Prop} {o r eL eO_ cL cO eL' eO' cL' cO' eL'' eO'' cL'' cO'' : Nat} {w w' w'' : Rw} {bc bs d bc' bs' d' : Nat} {p x off dn k : Nat} {zs : Nat → Nat} {n : Nat} {E : bE}
theorem XW.own (A : XW o r h nx M eL eO_ cL cO w h' nx' M' eL' eO' cL' cO' w' bc bs d) {q : Nat} (hq : q < nx) (hn : ¬ Own r eL eO_ q) : ¬ Own r eL' eO' q := by
  obtain ⟨a1, a2, a3, a4, a5, a6⟩ := A
  intro z
  have z : (r ≤ q ∧ q < r + 41) ∨ q = eL' ∨ q = eO' := z
  rcases z with z | z | z
  · exact hn (Or.inl z)
  · rcases a4 with y | y
    · exact hn (Or.inr (Or.inl (z.trans y)))
    · omega
  · rcases a5 with y | y
    · exact hn (Or.inr (Or.inr (z.trans y)))
    · omega
theorem XW.trans (A : XW o r h nx M eL eO_ cL cO w h' nx' M' eL' eO' cL' cO' w' bc bs d) (B : XW o r h' nx' M' eL' eO' cL' cO' w' h'' nx'' M'' eL'' eO'' cL'' cO'' w'' bc' bs' d') : XW o r h nx M eL eO_ cL cO w h'' nx'' M'' eL'' eO'' cL'' cO'' w'' (bc + bc') (bs + bs') (d + d') := by
  have A0 := A
  obtain ⟨a1, a2, a3, a4, a5, a6, a7, a8, a9, a10, a11, a12, a13⟩ := A
  obtain ⟨b1, b2, b3, b4, b5, b6, b7, b8, b9, b10, b11, b12, b13⟩ := B
  exact ⟨b1, by omega, a3.trans a2 b3, by omega, by omega, by omega, by omega, b8, b9, by omega, by omega, by omega, fun q hq hn => (b13 q (by omega) (A0.own hq hn)).trans (a13 q hq hn)⟩
/-- a step in place -/
theorem XW.here (X : RX h' nx M o r eL eO_ cL cO w') (hcL : cL < 60) (hcO : cO < 60) (hl : nL w' = nL w) (hk : ∀ q, q < nx → ¬ Own r eL eO_ q → h' q = h q) : XW o r h nx M eL eO_ cL cO w h' nx M eL eO_ cL cO w' 0 0 0 :=
  ⟨X, Nat.le_refl _, Ext.rfl', Or.inl rfl, Or.inl rfl, Nat.le_refl _, Nat.le_refl _, hcL, hcO, by omega, by omega, by omega, hk⟩
theorem x_isTaken (G : Gd w) (X : RX h nx M o r eL eO_ cL cO w) (hp : p < nP w) (hx : x < nH w) (hl : nL w < 8) (hO : nO w < 30) (hcL : cL < 60) (hcO : cO < 60) : ∃ (h' : AH) (M' : Nat → Prop) (eL' eO' cL' cO' c d : Nat), f_X2_isTaken E h nx r (nI p) (nI x) (nI off) (bI (lcl w x)) (bI (qta w)) = some (bI (wTk w p x), h', c, d) ∧ XW o r h nx M eL eO_ cL cO w h' (nx + c) M' eL' eO' cL' cO' (if wTk w p x = true then takd (offd w p x true) p x off else refd (offd w p x false) p) 1 3 d := by
  have Z := G.1
  have b1 := Z.gH.2
  have b2 := Z.gP.2
  have hp8 : p < 8 := by omega
  have hx10 : x < 10 := by omega
  obtain ⟨⟨aH, eH, aP, eP', rN, rA, hm, hs, nh, np, tl, O, T, TI, ho, hM'⟩, F, wk, rf, sc, la, oa, R, Q, L, K, s0, il, io, hOwn, hno⟩ := id X
  have l40 := (hOwn (r + 40) (Or.inl ⟨by omega, by omega⟩)).2
  have st : ∀ (g : Nat → Int32) (i : Nat) (u : Int32), i < 3 → sI (hu h nx (.inl (0, 3, .inl g))) nx 0 (nI i) u = some (hu h nx (.inl (0, 3, .inl (upd g i u)))) := fun g i u hi => by rw [sI_at hu_s hi (by decide), hu_hu]
  have st0 : ∀ (g : Nat → Int32) (u : Int32), sI (hu h nx (.inl (0, 3, .inl g))) nx 0 0 u = some (hu h nx (.inl (0, 3, .inl (upd g 0 u)))) := fun g u => st g 0 u (by decide)
  have st1 : ∀ (g : Nat → Int32) (u : Int32), sI (hu h nx (.inl (0, 3, .inl g))) nx 0 1 u = some (hu h nx (.inl (0, 3, .inl (upd g 1 u)))) := fun g u => st g 1 u (by decide)
  have st2 : ∀ (g : Nat → Int32) (u : Int32), sI (hu h nx (.inl (0, 3, .inl g))) nx 0 (nI 2) u = some (hu h nx (.inl (0, 3, .inl (upd g 2 u)))) := fun g u => st g 2 u (by decide)
  obtain ⟨h1, M1, eO1, cO1, c1, d1, a1, a2, a3, aa, a4, a5, a6, a7, a8⟩ := x_offer (E := E) (p := p) (x := x) (t := wTk w p x) X Z hcO hO
  have A1 := offd_a (p := p) (h := x) (t := wTk w p x) Z
  have Z1 : Rng (offd w p x (wTk w p x)) := Rng_offd Z hp8 hx10 hO
  have L1 : nL (offd w p x (wTk w p x)) = nL w := ag_nL A1
  have W1 : XW o r h nx M eL eO_ cL cO w h1 (nx + 1 + c1) M1 eL eO1 cL cO1 (offd w p x (wTk w p x)) 1 3 (3 + d1) := ⟨a2, by omega, a3, Or.inl rfl, aa, Nat.le_refl _, a4, hcL, a5, by omega, by omega, by omega, a8⟩
  have iL : isO (hu h nx (.inl (0, 3, .inl (of3 p x (wTk w p x))))) (r + 18) 11 = true := (R.2.2.2.1.kept (hu_n (by omega)) (hu_n (by have := (hOwn eO_ (Or.inr (Or.inr rfl))).2; omega))).o
  have hR1 : isO h1 r 1 = true := by
    obtain ⟨_, F2, wk2, rf2, sc2, la2, oa2, R2, -⟩ := a2
    exact R2.o1
  simp only [f_X2_isTaken, R.o1, gdT, c_wouldTake R Q Z hp, Option.bind_some, R.g16, st0, st1, st2, one_b]
  rw [show upd (upd (upd (fun _ => (0 : Int32)) 0 (nI p)) 1 (nI x)) 2 (bI (wTk w p x)) = of3 p x (wTk w p x) from rfl, iL, gdT, a1, Option.bind_some]
  dsimp only
  rw [hR1, gdT, gdT]
  cases ht : wTk w p x
  · rw [ht] at a2 W1 Z1 L1 A1
    obtain ⟨h2, e1, e2, e3⟩ := x_refuses (E := E) (p := p) a2 Z1 (by rw [ag_nP A1]; exact hp)
    rw [if_pos (show bI false = 0 from rfl), e1, Option.bind_some, aC00, aC_some, aC_some]
    have L2 : nL (refd (offd w p x false) p) = nL (offd w p x false) := by unfold nL wN; rw [refd_g hp8 (by decide) (by decide)]
    refine ⟨h2, M1, eL, eO1, cL, cO1, _, _, rfl, ?_⟩
    have := W1.trans (XW.here e2 hcL a5 L2 (fun q hq hn => e3 q (by
      by_cases z : q < r
      · exact Or.inl z
      · refine Or.inr ?_
        have : ¬ (r ≤ q ∧ q < r + 41) := fun y => hn (Or.inl y)
        omega)))
    simp only [Bool.false_eq_true, if_false]
    rw [Nat.add_assoc nx 1 c1] at this
    exact this
  · rw [ht] at a2 W1 Z1 L1 A1
    obtain ⟨h2, M2, eL2, cL2, c2, d2, e1, e2, e3, e4, e5, e6, e7, e8, e9⟩ := x_lets (E := E) (p := p) (x := x) (off := off) Z1 (by rw [ag_nP A1]; exact hp) (by rw [ag_nH A1]; exact hx) (by rw [L1]; exact hl) hcL a2
    rw [ag_lcl A1 Z hx10, ag_qta A1] at e1
    rw [if_neg (show ¬ bI true = 0 by decide), e1, Option.bind_some]
    dsimp only
    rw [aC_some, aC_some, aC_some]
    have L2 : nL (takd (offd w p x true) p x off) = nL (offd w p x true) + 1 := takd_nL Z1 hp8 hx10 (by rw [L1]; exact hl)
    have W2 : XW o r h1 (nx + 1 + c1) M1 eL eO1 cL cO1 (offd w p x true) h2 (nx + 1 + c1 + c2) M2 eL2 eO1 cL2 cO1 (takd (offd w p x true) p x off) 0 0 d2 := ⟨e2, by omega, e3, e4, Or.inl rfl, e5, Nat.le_refl _, e6, a5, by omega, by omega, by omega, e9⟩
    have W := W1.trans W2
    refine ⟨h2, M2, eL2, eO1, cL2, cO1, _, _, rfl, ?_⟩
    simp only [if_true]
    rw [show nx + (1 + (c1 + (c2 + 0))) = nx + 1 + c1 + c2 by omega, show 3 + (d1 + (d2 + 0)) = 3 + d1 + d2 by omega]
    exact W
end PZO
