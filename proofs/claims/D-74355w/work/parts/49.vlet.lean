/-! THE COMPONENT's side: a home is let, whole -/
section PVL
variable {h h1 : AH} {nx nx' : Nat} {M M' : Nat → Prop} {o r eL eO_ cL cO : Nat} {w W : Rw} {p x a b dn k off : Nat} {zs : Nat → Nat} {n : Nat} {E : bE}
theorem RX.grow (X : RX h nx M o r eL eO_ cL cO w) (hn : nx ≤ nx') (hk : ∀ q, q < nx → h1 q = h q) : RX h1 nx' M o r eL eO_ cL cO w := by
  obtain ⟨H, F, wk, rf, sc, la, oa, R, Q, L, K, s0, il, io, hOwn, hno⟩ := X
  have hE : Ext M M nx := Ext.rfl'
  exact ⟨H.step hn hE (fun q hq => Nat.lt_of_lt_of_le (H.bd q hq) hn) (fun q hq _ => hk q hq), F, wk, rf, sc, la, oa, R.kept (fun q hq => hk q (hOwn q hq).2), Q, L.kept (fun i hi => hk _ (il i hi).1), K.kept (fun i hi => hk _ (io i hi).1), s0, fun i hi => (il i hi).ext hn hE, fun i hi => (io i hi).ext hn hE, fun q hq => ⟨(hOwn q hq).1, Nat.lt_of_lt_of_le (hOwn q hq).2 hn⟩, hno⟩
theorem x_letAdd {F : Nat → Nat → Int32} {wk rf : Int32} {sc : Int32 × Int32 × Int32 × Int32} {nl no y : Nat} {la oa : Nat → Nat} (R : RegH h o r eL eO_ F wk rf sc nl la no oa cL cO) (hOwn : ∀ q, Own r eL eO_ q → q < nx) (hn : nl < 8) (hc : cL < 60) (hy : stO 4 (h y) = true) (hyo : ¬ Own r eL eO_ y) (hyn : y < nx) (hf : ∀ j, j < nl → stO 4 (h (la j)) = true ∧ la j < nx) :
    ∃ (h' : AH) (eL' cL' c d : Nat), f_J2_add E h nx (r + 16) y = some (1, h', c, d) ∧ RegH h' o r eL' eO_ F wk rf sc (nl + 1) (fun j => if j = nl then y else la j) no oa cL' cO ∧ ((eL' = eL ∧ c = 0) ∨ (eL' = nx ∧ c = 1)) ∧ cL ≤ cL' ∧ cL' < 60 ∧ c ≤ cL' - cL ∧ d ≤ 4 * (cL' - cL) ∧ ∀ q, q < nx → ¬ Own r eL eO_ q → h' q = h q := by
  obtain ⟨r1, r2, r3, r4, r5, r6, r7, r8⟩ := id R
  have l40 := hOwn (r + 40) (Or.inl ⟨by omega, by omega⟩)
  have lE := hOwn eO_ (Or.inr (Or.inr rfl))
  have lL := hOwn eL (Or.inr (Or.inl rfl))
  have hok6 : eL < r ∨ r + 41 ≤ eL ∨ eL = r + 17 ∨ eL = r + 19 := r6
  have hok7 : eO_ < r ∨ r + 41 ≤ eO_ ∨ eO_ = r + 17 ∨ eO_ = r + 19 := r7
  obtain ⟨h', e', cap', c, d, a1, a2, a3, a4, a5, a6, a7, a8⟩ := L_add (E := E) (x := y) (nx := nx) r3 (by omega) hc hy (fun z => hyo (by rw [z]; exact Or.inl ⟨by omega, by omega⟩)) (fun z => hyo (by rw [z]; exact Or.inr (Or.inl rfl))) hyn (by omega) lL hf
  refine ⟨h', e', cap', c, d, a1, ⟨by rw [a3 r (by omega) (by omega) (by omega)]; exact r1, fun a ha => by rw [a3 _ (by omega) (by omega) (by omega)]; exact r2 a ha, a2, r4.kept (a3 _ (by omega) (by omega) (by omega)) (a3 _ (by omega) (Ne.symm r8) lE), fun i h1 h2 => by rw [a3 _ (by omega) (by omega) (by omega)]; exact r5 i h1 h2, ?_, r7, ?_⟩, a4, a5, a8, a6, a7, fun q h1 h2 => a3 q (fun z => h2 (by rw [z]; exact Or.inl ⟨by omega, by omega⟩)) (fun z => h2 (by rw [z]; exact Or.inr (Or.inl rfl))) h1⟩
  · show e' < r ∨ r + 41 ≤ e' ∨ e' = r + 17 ∨ e' = r + 19
    rcases a4 with z | z <;> omega
  · rcases a4 with z | z
    · rw [z.1]; exact r8
    · omega
theorem x_chain (X : RX h nx M o r eL eO_ cL cO w) (Z : Rng w) (hP : nP w ≤ 8) (hx : x < nH w) (m : Nat) (x3 x4 x5 x6 : Int32) : f_X2_lets_10 (m + 1) E r (nI p) (nI x) x3 x4 x5 x6 (nI (nP w)) h nx = f_X2_lets_112 E r (nI p) (nI x) x3 x4 x5 x6 (hF w x 5 + 1) h nx := by
  have b1 := Z.gH.2
  have bL := Z.gL.2
  obtain ⟨⟨aH, eH, aP, eP', rN, rA, hm, hs, nh, np, tl, O, T, TI, ho, hM'⟩, F, wk, rf, sc, la, oa, R, Q, L, K, s0, il, io, hOwn, hno⟩ := X
  have RL := R.2.2.1
  simp only [f_X2_lets_10, R.g26, Option.bind_some, O.g1, T.2.1.o, gdT, T.2.1.size, R.g9, R.g15, RL.o]
  rw [if_pos (nI_leR _), R.a9 (by omega), Option.bind_some, Option.bind_some]
  rcases Q.2.2.2.2.1 x hx with ⟨z1, z2⟩ | ⟨i, z1, z2, z3⟩
  · rw [z1, z2, if_neg (by decide)]
    rfl
  · have h1 := L.2 i z1
    rw [z2, if_pos (nI_pos' (by omega)), RL.get z1, Option.bind_some]
    rw [show isO h (la i) 7 = true by simp [isO, h1], gdT, show gI h (la i) 7 3 = some (lF w i 3) by simp [gI, rd, h1, vI], Option.bind_some, z3]
end PVL
