/-! the whole object: its registers, what it remembers, its other cells -/
def OwB (B : Nat → Nat → Nat) (i q : Nat) : Prop := Own (B i 0) (B i 1) (B i 2) q
def Fix (A : Nat → Nat) (eP eB q : Nat) : Prop := q = A 9 ∨ q = eP ∨ q = A 12 ∨ q = A 13 ∨ q = eB
/-- B: 0 the register now, 1 the one aside, from 2 on those that are remembered; C: the tape, the out, its row -/
def Sys (A : Nat → Nat) (I : Nat → Int32) (M : Nat → Prop) (w : Rw) (n : Nat) (P : Nat → Rw) (B : Nat → Nat → Nat) (eP cP eB : Nat) (C : Nat → hE) (st : Int32) (h : AH) (nx : Nat) : Prop :=
  SN A I M w st h nx ∧ (∀ k, k < 5 → A (k + 1) = B 0 k) ∧ A 8 = B 1 0 ∧ RS h nx M (A 0) (B 1 0) (B 1 1) (B 1 2) (B 1 3) (B 1 4) ∧ (∀ i, i < n → RX h nx M (A 0) (B (i + 2) 0) (B (i + 2) 1) (B (i + 2) 2) (B (i + 2) 3) (B (i + 2) 4) (P i)) ∧ (∀ i, i < n + 2 → B i 3 < 60 ∧ B i 4 < 60) ∧ (∀ i j q, i < n + 2 → j < n + 2 → OwB B i q → OwB B j q → i = j) ∧ LstC h (A 9) eP n (fun i => B (i + 2) 0) cP ∧ cP < 60 ∧ n ≤ 12 ∧ (∀ q, Fix A eP eB q → M q ∧ q < nx ∧ q ≠ A 0 ∧ ∀ i, i < n + 2 → ¬ OwB B i q) ∧ (A 12 ≠ A 9 ∧ A 12 ≠ eP ∧ A 13 ≠ A 9 ∧ A 13 ≠ eP ∧ eB ≠ A 9 ∧ eB ≠ eP) ∧ h (A 12) = some (C 0) ∧ h (A 13) = some (C 1) ∧ h eB = some (C 2)
/-- from one heap to a later one: what may not be written stays -/
def MS (M : Nat → Prop) (h : AH) (nx : Nat) (M' : Nat → Prop) (h' : AH) (nx' : Nat) : Prop := nx ≤ nx' ∧ Ext M M' nx ∧ ∀ q, q < nx → ¬ M q → h' q = h q
section PSY
variable {A A' : Nat → Nat} {I I' : Nat → Int32} {M M' M1 : Nat → Prop} {w w' W : Rw} {st st' : Int32} {h h0 h1 h2 h' : AH} {nx nx' n0 n1 n2 : Nat} {E : bE} {v a b u : Int32} {p x y N k q d K r eL eO_ cL cO eL' eO' cL' cO' o : Nat} {f : Option (Int32 × AH × Nat × Nat)} {zs : Nat → Nat} {n m : Nat} {P : Nat → Rw} {B B' : Nat → Nat → Nat} {eP cP eB : Nat} {C : Nat → hE}
theorem MS.rfl' : MS M h nx M h nx := ⟨Nat.le_refl _, Ext.rfl', fun _ _ _ => rfl⟩
theorem MS.trans (a : MS M h nx M' h' nx') (b : MS M' h' nx' M1 h1 n1) : MS M h nx M1 h1 n1 := ⟨Nat.le_trans a.1 b.1, a.2.1.trans a.1 b.2.1, fun q hq hm => (b.2.2 q (Nat.lt_of_lt_of_le hq a.1) (fun z => by
  rcases a.2.1.2 q z with y | y
  · exact hm y
  · omega)).trans (a.2.2 q hq hm)⟩
/-- a register that keeps its cells while the object's own are written -/
theorem RX.keepO (X : RX h nx M o r eL eO_ cL cO w) (hO : h o = some (oE A I st)) (hO' : h' o = some (oE A' I' st')) (h6 : A' 6 = A 6) (h7 : A' 7 = A 7) (hn : nx ≤ nx') (Ex : Ext M M' nx) (hB : ∀ q, M' q → q < nx') (hk : ∀ q, q < nx → q ≠ o → (¬ M q ∨ Own r eL eO_ q) → h' q = h q) : RX h' nx' M' o r eL eO_ cL cO w := by
  have hO1 : h o = some (.inr (.inl (0, oFs (A 6) (A 7) (A 1) (A 8) (A 9) st (I 0) (I 1) (A 10) (A 11) (A 12) (I 2) (A 13)))) := hO
  have X1 := X.obj hO1 (rN' := A' 1) (rA' := A' 8) (aQ' := A' 9) (st' := st') (fk' := I' 0) (fa' := I' 1) (kn' := A' 10) (ln' := A' 11) (tp' := A' 12) (td' := I' 2) (ou' := A' 13)
  refine RX.keep X1 hn Ex hB (fun q hq hz => ?_)
  by_cases hqo : q = o
  · subst hqo
    rw [hu_s, hO']
    unfold oE
    rw [h6, h7]
  · rw [hu_n hqo]
    refine hk q hq hqo ?_
    rcases hz with z | z | z
    · exact Or.inl z
    · exact absurd z hqo
    · exact Or.inr z
theorem Sys.step (S : Sys A I M w n P B eP cP eB C st h nx) (S' : SN A' I' M' w' st' h' nx') (hA0 : A' 0 = A 0) (hA6 : ∀ k, 6 ≤ k → A' k = A k) (hA1 : ∀ k, k < 5 → A' (k + 1) = B' 0 k) (Y : RS h' nx' M' (A 0) (B' 1 0) (B' 1 1) (B' 1 2) (B' 1 3) (B' 1 4)) (hB2 : ∀ i, 2 ≤ i → B' i = B i) (hB0 : ∀ z, z < 2 → B' z 0 = B z 0 ∧ (B' z 1 = B z 1 ∨ nx ≤ B' z 1) ∧ (B' z 2 = B z 2 ∨ nx ≤ B' z 2) ∧ B' z 3 < 60 ∧ B' z 4 < 60) (hd : ∀ q, nx ≤ q → OwB B' 0 q → ¬ OwB B' 1 q) (Ex : Ext M M' nx) (hn : nx ≤ nx') (hk : ∀ q, q < nx → q ≠ A 0 → ¬ OwB B 0 q → ¬ OwB B 1 q → h' q = h q) : Sys A' I' M' w' n P B' eP cP eB C st' h' nx' ∧ MS M h nx M' h' nx' := by
  obtain ⟨s1, s2, s3, s4, s5, s6, s7, s8, s9, s10, s11, s12, s13, s14, s15⟩ := S
  have ow0 := s1.1.own
  have o0 : ∀ q, OwB B 0 q → M q ∧ q < nx := fun q hq => by
    refine ow0.1 q ?_
    have e1 := s2 0 (by decide); have e2 := s2 1 (by decide); have e3 := s2 2 (by decide)
    unfold OwB at hq
    rw [← e1, ← e2, ← e3] at hq
    exact hq
  have o1 : ∀ q, OwB B 1 q → M q ∧ q < nx := fun q hq => by
    obtain ⟨F, wk, rf, sc, nl, la, no, oa, R, s0, hOwn, hno⟩ := s4
    exact hOwn q hq
  have o2 : ∀ i, i < n → ∀ q, OwB B (i + 2) q → M q ∧ q < nx := fun i hi q hq => (s5 i hi).own.1 q hq
  have oAll : ∀ i, i < n + 2 → ∀ q, OwB B i q → M q ∧ q < nx := fun i hi q hq => by
    rcases i with _ | _ | i
    · exact o0 q hq
    · exact o1 q hq
    · exact o2 i (by omega) q hq
  have back : ∀ i, i < n + 2 → ∀ q, OwB B' i q → q < nx → OwB B i q := fun i hi q hq hqn => by
    by_cases h2 : 2 ≤ i
    · unfold OwB at hq ⊢; rw [hB2 i h2] at hq; exact hq
    · obtain ⟨z0, z1, z2, -⟩ := hB0 i (by omega)
      unfold OwB at hq ⊢
      rcases hq with y | y | y
      · rw [z0] at y; exact Or.inl y
      · rcases z1 with t | t
        · exact Or.inr (Or.inl (y.trans t))
        · omega
      · rcases z2 with t | t
        · exact Or.inr (Or.inr (y.trans t))
        · omega
  have hMA0 : M (A 0) := ow0.2.2.2
  have noA0 : ∀ i, i < n → ¬ OwB B (i + 2) (A 0) := fun i hi => (s5 i hi).own.2.1
  have fix : ∀ q, Fix A eP eB q → h' q = h q := fun q hq => by
    obtain ⟨f1, f2, f3, f4⟩ := s11 q hq
    exact hk q f2 f3 (f4 0 (by omega)) (f4 1 (by omega))
  have b4 : ∀ q, M' q → q < nx' := S'.1.bd
  refine ⟨⟨S', hA1, by rw [hA6 8 (by decide), s3]; exact (hB0 1 (by decide)).1.symm, by rw [hA0]; exact Y, fun i hi => ?_, fun i hi => ?_, fun i j q hi hj h1 h2 => ?_, ?_, s9, s10, fun q hq => ?_, ?_, ?_, ?_, ?_⟩, hn, Ex, fun q hq hm => hk q hq (fun e => hm (e ▸ hMA0)) (fun z => hm (o0 q z).1) (fun z => hm (o1 q z).1)⟩
  · rw [hA0, hB2 (i + 2) (by omega)]
    exact (s5 i hi).keepO s1.2 (hA0 ▸ S'.2) (hA6 6 (by decide)) (hA6 7 (by decide)) hn Ex b4 (fun q hq hqo hz => by
      refine hk q hq hqo (fun z => ?_) (fun z => ?_)
      · rcases hz with y | y
        · exact y (o0 q z).1
        · exact absurd (s7 0 (i + 2) q (by omega) (by omega) z y) (by omega)
      · rcases hz with y | y
        · exact y (o1 q z).1
        · exact absurd (s7 1 (i + 2) q (by omega) (by omega) z y) (by omega))
  · by_cases h2 : 2 ≤ i
    · rw [hB2 i h2]; exact s6 i hi
    · exact (hB0 i (by omega)).2.2.2
  · by_cases hq : q < nx
    · exact s7 i j q hi hj (back i hi q h1 hq) (back j hj q h2 hq)
    · have small : ∀ i, i < n + 2 → OwB B' i q → i < 2 := fun i hi hz => by
        by_cases h2 : 2 ≤ i
        · exfalso
          unfold OwB at hz
          rw [hB2 i h2] at hz
          exact hq (oAll i hi q hz).2
        · omega
      have hi2 := small i hi h1
      have hj2 := small j hj h2
      have hcs : i = j ∨ (i = 0 ∧ j = 1) ∨ (i = 1 ∧ j = 0) := by omega
      rcases hcs with z | ⟨rfl, rfl⟩ | ⟨rfl, rfl⟩
      · exact z
      · exact absurd h2 (hd q (by omega) h1)
      · exact absurd h1 (hd q (by omega) h2)
  · have e9 : A' 9 = A 9 := hA6 9 (by decide)
    rw [e9]
    have ef : (fun i => B' (i + 2) 0) = fun i => B (i + 2) 0 := funext fun i => by rw [hB2 (i + 2) (by omega)]
    rw [ef]
    exact s8.kept (fix _ (Or.inl rfl)) (fix _ (Or.inr (Or.inl rfl)))
  · have hq' : Fix A eP eB q := by
      unfold Fix at hq ⊢
      rw [hA6 9 (by decide), hA6 12 (by decide), hA6 13 (by decide)] at hq
      exact hq
    obtain ⟨f1, f2, f3, f4⟩ := s11 q hq'
    exact ⟨Ex.1 q f1, by omega, by rw [hA0]; exact f3, fun i hi z => f4 i hi (back i hi q z f2)⟩
  · rw [hA6 9 (by decide), hA6 12 (by decide), hA6 13 (by decide)]; exact s12
  · rw [hA6 12 (by decide), fix _ (Or.inr (Or.inr (Or.inl rfl)))]; exact s13
  · rw [hA6 13 (by decide), fix _ (Or.inr (Or.inr (Or.inr (Or.inl rfl))))]; exact s14
  · rw [fix _ (Or.inr (Or.inr (Or.inr (Or.inr rfl))))]; exact s15
/-- what a call answers, and where it leaves the object -/
def SA (A : Nat → Nat) (I' : Nat → Int32) (M : Nat → Prop) (eB : Nat) (h : AH) (nx : Nat) (f : Option (Int32 × AH × Nat × Nat)) (v st' : Int32) (w' : Rw) (n' : Nat) (P' : Nat → Rw) (C' : Nat → hE) : Prop := ∃ (h' : AH) (c d : Nat) (A' : Nat → Nat) (M' : Nat → Prop) (B' : Nat → Nat → Nat) (eP' cP' : Nat), f = some (v, h', c, d) ∧ Sys A' I' M' w' n' P' B' eP' cP' eB C' st' h' (nx + c) ∧ MS M h nx M' h' (nx + c) ∧ (∀ k, k = 0 ∨ 6 ≤ k → A' k = A k) ∧ c ≤ 15998 ∧ d ≤ 94215
theorem Sys.ap (S : Sys A I M w n P B eP cP eB C st h nx) : AP A (B 1 1) (B 1 2) := by
  obtain ⟨s1, s2, s3, s4, s5, s6, s7, -⟩ := S
  intro q h1 h2
  have e1 := s2 0 (by decide); have e2 := s2 1 (by decide); have e3 := s2 2 (by decide)
  refine absurd (s7 0 1 q (by omega) (by omega) ?_ ?_) (by decide)
  · unfold OwB; rw [← e1, ← e2, ← e3]; exact h1
  · unfold OwB; rw [← s3]; exact h2
theorem Sys.rs (S : Sys A I M w n P B eP cP eB C st h nx) : RS h nx M (A 0) (A 8) (B 1 1) (B 1 2) (B 1 3) (B 1 4) ∧ B 1 3 < 60 ∧ B 1 4 < 60 := by
  obtain ⟨s1, s2, s3, s4, s5, s6, s7, -⟩ := S
  exact ⟨s3 ▸ s4, s6 1 (by omega)⟩
theorem Sys.caps (S : Sys A I M w n P B eP cP eB C st h nx) : A 4 < 60 ∧ A 5 < 60 := by
  obtain ⟨s1, s2, s3, s4, s5, s6, s7, -⟩ := S
  have := s6 0 (by omega)
  rw [← s2 3 (by decide), ← s2 4 (by decide)] at this
  exact this
/-- an answer after something was tried aside -/
theorem AX.sa (S : Sys A I M w n P B eP cP eB C st h nx) {a : Int32 × Int32} (X : AX A I M w (B 1 1) (B 1 2) h nx f a) : SA A I M eB h nx f a.1 a.2 w n P C := by
  obtain ⟨h', M', eL', eO', cL', cO', c, d, e, S', Y, y1, y2, y3, y4, Ex, hk, b1, b2⟩ := X
  have S0 := S
  obtain ⟨s1, s2, s3, s4, s5, s6, s7, s8⟩ := S
  have ow0 := s1.1.own
  have e1 := s2 0 (by decide); have e2 := s2 1 (by decide); have e3 := s2 2 (by decide)
  have hown : ∀ q, OwB B 0 q ↔ Own (A 1) (A 2) (A 3) q := fun q => by unfold OwB; rw [← e1, ← e2, ← e3]
  obtain ⟨z1, z2⟩ := S0.step (B' := fun i => if i = 1 then fun k => if k = 1 then eL' else if k = 2 then eO' else if k = 3 then cL' else if k = 4 then cO' else B 1 k else B i) S' rfl (fun _ _ => rfl) (fun k hk => s2 k hk) (by rw [s3] at Y; exact Y) (fun i hi => if_neg (by omega)) (fun z hz => by
    rcases (show z = 0 ∨ z = 1 by omega) with rfl | rfl
    · exact ⟨rfl, Or.inl rfl, Or.inl rfl, s6 0 (by omega)⟩
    · exact ⟨rfl, y3, y4, y1, y2⟩) (fun q hq z => absurd (ow0.1 q ((hown q).mp z)).2 (by omega)) Ex (by omega) (fun q hq hq0 h1 h2 => hk q hq (fun e => h1 ((hown q).mpr (Or.inl ⟨by omega, by omega⟩))) hq0 (fun z => h2 (by unfold OwB; rw [← s3]; exact z)))
  exact ⟨h', c, d, A, M', _, eP, cP, e, z1, z2, fun _ _ => rfl, b1, b2⟩
/-- an answer of what only reads -/
theorem An.sa (S : Sys A I M w n P B eP cP eB C st h nx) {a : Int32 × Int32} (X : An A I M w h nx f a) : SA A I M eB h nx f a.1 a.2 w n P C := by
  obtain ⟨y1, y2, y3⟩ := S.rs
  exact AX.sa S (An.ax (a := a.1) (v := a.2) X y1 y2 y3 S.ap)
end PSY
