/-! what is remembered -/
def psS (n : Nat) : Nat := if n = 12 then 1 else 0
def psN (n : Nat) : Nat := n - psS n + 1
def psP (n : Nat) (P : Nat → Rw) (w : Rw) : Nat → Rw := fun i => if i = n - psS n then w else P (i + psS n)
/-- the plain rules, as the class keeps them -/
def PZ (zs : Nat → Nat) (M : Nat → Prop) (h : AH) (nx : Nat) : Prop := (∃ f : Nat → Int32, h (zs 2) = some (.inl (0, 6, .inl f)) ∧ ∀ k, k < 6 → f k = plR k) ∧ zs 2 < nx ∧ ¬ M (zs 2)
section PRE
variable {A A' : Nat → Nat} {I I' : Nat → Int32} {M M' M1 : Nat → Prop} {w w' W : Rw} {st st' : Int32} {h h0 h1 h2 h' : AH} {nx nx' n0 n1 n2 : Nat} {E : bE} {v a b u : Int32} {p x y N k q d K r eL eO_ cL cO eL' eO' cL' cO' o : Nat} {f : Option (Int32 × AH × Nat × Nat)} {zs : Nat → Nat} {n m : Nat} {P : Nat → Rw} {B B' : Nat → Nat → Nat} {eP cP eB : Nat} {C : Nat → hE}
theorem psS_le (hn : n ≤ 12) : n - psS n + psS n = n ∧ psN n ≤ 12 ∧ psS n ≤ 1 := by
  unfold psN psS
  split <;> omega
theorem y_remembers (S : Sys A I M w n P B eP cP eB C st h nx) (G : Gd w) (D : PZ zs M h nx) : ∃ (h' : AH) (c d : Nat) (M' : Nat → Prop) (B' : Nat → Nat → Nat) (eP' cP' : Nat), f_X1_remembers (dE zs m) h nx (A 0) = some ((), h', c, d) ∧ Sys A I M' w (psN n) (psP n P w) B' eP' cP' eB C st h' (nx + c) ∧ MS M h nx M' h' (nx + c) ∧ c ≤ 50 ∧ d ≤ 700 := by
  have S0 := S
  obtain ⟨s1, s2, s3, s4, s5, s6, s7, s8, s9, s10, s11, s12, s13, s14, s15⟩ := S
  obtain ⟨⟨fz, dz1, dz2⟩, dz3, dz4⟩ := D
  obtain ⟨l1, l2, l3⟩ := psS_le s10
  have f9 := s11 (A 9) (Or.inl rfl)
  have fP := s11 eP (Or.inr (Or.inl rfl))
  have ne1 := s1.1.ne
  -- a new register
  obtain ⟨h2, e2, ⟨F, R2, -⟩, k2⟩ := x_init (E := dE zs m) (h := hu h nx (.inr (.inl (1, df_X2)))) (r := nx) (o := A 0) (la := fun _ => 0) (oa := fun _ => 0) hu_s (by rw [dE_1]; exact dz3) ⟨fz, by rw [dE_1, hu_n (by omega)]; exact dz1, dz2⟩
  have k2' : ∀ q, q < nx → h2 q = h q := fun q hq => by rw [k2 q hq, hu_n (by omega)]
  have bM : ∀ q, M q → q < nx := s1.1.bd
  have E1 : Ext M (fun q => M q ∨ (nx ≤ q ∧ q < nx + 41)) nx := ⟨fun q hq => Or.inl hq, fun q hq => by
    rcases hq with z | z
    · exact Or.inl z
    · exact Or.inr z.1⟩
  have ownN : ∀ q, Own nx (nx + 17) (nx + 19) q → nx ≤ q ∧ q < nx + 41 := fun q hq => by
    rcases hq with z | z | z <;> omega
  have X2 : RX h2 (nx + 41) (fun q => M q ∨ (nx ≤ q ∧ q < nx + 41)) (A 0) (A 1) (A 2) (A 3) (A 4) (A 5) w := RX.keep s1.1 (by omega) E1 (fun q hq => by
    rcases hq with z | z
    · have := bM q z; omega
    · exact z.2) (fun q hq _ => k2' q hq)
  have Y2 : RS h2 (nx + 41) (fun q => M q ∨ (nx ≤ q ∧ q < nx + 41)) (A 0) nx (nx + 17) (nx + 19) 2 2 := ⟨F, 0, 0, (0, 0, 0, 0), 0, _, 0, _, R2, rfl, fun q hq => ⟨Or.inr (ownN q hq), (ownN q hq).2⟩, fun z => by have := ownN _ z; omega⟩
  obtain ⟨h3, M3, eL3, eO3, cL3, cO3, c3, d3, e3, X3, E3, t1, t2, t3, t4, t5, t6, k3⟩ := x_become (E := dE zs m) X2 Y2 G (fun q h1 h2 => by
    have a1 := ownN q h2
    have a2 := (s1.1.own.1 q h1).2
    omega) (by decide) (by decide)
  have k3' : ∀ q, q < nx → h3 q = h q := fun q hq => by
    rw [k3 q (by omega) (fun z => by have := ownN q z; omega)]; exact k2' q hq
  have o3 : h3 (A 0) = some (oE A I st) := by rw [k3' _ ne1.2.1]; exact s1.2
  have L3 : LstC h3 (A 9) eP n (fun i => B (i + 2) 0) cP := s8.kept (k3' _ f9.2.1) (k3' _ fP.2.1)
  have past3 : ∀ i, i < n → stO 4 (h3 (B (i + 2) 0)) = true ∧ B (i + 2) 0 < nx := fun i hi => by
    have ow := (s5 i hi).own.1 (B (i + 2) 0) (Or.inl ⟨by omega, by omega⟩)
    obtain ⟨F', wk, rf, sc, nl, la, no, oa, R, -⟩ := (s5 i hi).rs
    refine ⟨?_, ow.2⟩
    rw [k3' _ ow.2, R.1]
    rfl
  -- one is forgotten
  obtain ⟨h4, eq4, L4, k4⟩ : ∃ h4, f_X1_remembers (dE zs m) h nx (A 0) = aC 1 27 (aC 40 206 (aC c3 d3 (f_X1_remembers_38 (dE zs m) (A 0) nx h4 (nx + 1 + 40 + c3)))) ∧ LstC h4 (A 9) eP (n - psS n) (fun i => B (i + 2 + psS n) 0) cP ∧ ∀ q, q ≠ A 9 → q ≠ eP → h4 q = h3 q := by
    have g2 : gA h2 (A 0) 0 2 = some (A 1) := by
      have : h2 (A 0) = some (oE A I st) := by rw [k2' _ ne1.2.1]; exact s1.2
      simp [gA, rd, this, oE, oFs, vR]
    have g4 : gA h3 (A 0) 0 4 = some (A 9) := by simp [gA, rd, o3, oE, oFs, vR]
    unfold f_X1_remembers
    rw [e2, Option.bind_some]
    dsimp only
    rw [g2, Option.bind_some, R2.o1, gdT, show nx + 1 + 40 = nx + 41 by omega, e3, Option.bind_some]
    dsimp only
    rw [g4, Option.bind_some, L3.o, gdT, L3.size, Option.bind_some]
    by_cases h12 : n = 12
    · have hp1 : psS n = 1 := if_pos h12
      rw [if_pos (by rw [h12]), Option.bind_some, L3.o, gdT]
      obtain ⟨h4, e4, L4, k4⟩ := L_remove (E := dE zs m) (nx := nx + 41 + c3) (i := 0) L3 (by omega) (fun j hj => (past3 j hj).1)
      rw [show (0 : Int32) = nI 0 from rfl, e4, Option.bind_some]
      refine ⟨h4, ?_, ?_, k4⟩
      · dsimp only
        rw [aC00, Nat.add_zero]
      · rw [hp1]
        exact L4
    · have hp0 : psS n = 0 := if_neg h12
      have hne : ¬ nI n = nI 12 := fun z => h12 ((nI_eq (by omega) (by decide)).mp z)
      rw [if_neg hne]
      refine ⟨h3, rfl, ?_, fun _ _ _ => rfl⟩
      rw [hp0]
      exact L3
  have R3 := X3.rs
  have own3 := X3.own
  have x4 : stO 4 (h4 nx) = true := by
    obtain ⟨F', wk, rf, sc, nl, la, no, oa, R, -⟩ := R3
    rw [k4 _ (by omega) (by omega), R.1]
    rfl
  obtain ⟨h5, eP5, cP5, c5, d5, e5, L5, k5, a1, a2, a3, a4, a5⟩ := L_add (E := dE zs m) (x := nx) (nx := nx + 1 + 40 + c3) L4 (by omega) s9 x4 (by omega) (by omega) (by omega) (by omega) (by omega) (fun j hj => by
    obtain ⟨q1, q2⟩ := past3 (j + psS n) (by omega)
    rw [show j + 2 + psS n = j + psS n + 2 by omega]
    refine ⟨?_, by omega⟩
    have hr : OwB B (j + psS n + 2) (B (j + psS n + 2) 0) := Or.inl ⟨by omega, by omega⟩
    rw [k4 _ (fun z => f9.2.2.2 _ (by omega) (z ▸ hr)) (fun z => fP.2.2.2 _ (by omega) (z ▸ hr))]
    exact q1)
  have K3 : ∀ q, q < nx + 1 + 40 + c3 → q ≠ A 9 → q ≠ eP → h5 q = h3 q := fun q hq z1 z2 => by rw [k5 q z1 z2 hq, k4 q z1 z2]
  have K0 : ∀ q, q < nx → q ≠ A 9 → q ≠ eP → h5 q = h q := fun q hq z1 z2 => by rw [K3 q (by omega) z1 z2, k3' q hq]
  have eN : psN n = n - psS n + 1 := rfl
  -- what may be written
  have E5 : Ext M (fun q => M3 q ∨ q = eP5) nx := ⟨fun q hq => Or.inl (E3.1 q (Or.inl hq)), fun q hq => by
    rcases hq with z | z
    · rcases E3.2 q z with (y | y) | y
      · exact Or.inl y
      · exact Or.inr y.1
      · exact Or.inr (by omega)
    · subst z
      rcases a1 with ⟨y, -⟩ | ⟨y, -⟩
      · rw [y]; exact Or.inl fP.1
      · exact Or.inr (by omega)⟩
  have hM9 : M3 (A 9) := E3.1 _ (Or.inl f9.1)
  have hMP : M3 eP := E3.1 _ (Or.inl fP.1)
  have bd5 : ∀ q, (M3 q ∨ q = eP5) → q < nx + 1 + 40 + c3 + c5 := fun q hq => by
    rcases hq with z | z
    · have := X3.bd q z; omega
    · rcases a1 with ⟨y, -⟩ | ⟨y, y2⟩
      · have := fP.2.1; omega
      · omega
  have E35 : Ext M3 (fun q => M3 q ∨ q = eP5) (nx + 1 + 40 + c3) := ⟨fun q hq => Or.inl hq, fun q hq => by
    rcases hq with z | z
    · exact Or.inl z
    · rcases a1 with ⟨y, -⟩ | ⟨y, y2⟩
      · rw [z, y]; exact Or.inl hMP
      · exact Or.inr (by omega)⟩
  have o5 : h5 (A 0) = some (oE A I st) := by rw [K0 _ ne1.2.1 (fun e => f9.2.2.1 e.symm) (fun e => fP.2.2.1 e.symm)]; exact s1.2
  have ownNew : ∀ q, Own nx eL3 eO3 q → nx ≤ q ∧ q < nx + 1 + 40 + c3 := fun q hq => by
    have hb := (own3.1 q hq).2
    rcases hq with z | z | z
    · omega
    · rcases t1 with y | y <;> omega
    · rcases t2 with y | y <;> omega
  have SN5 : SN A I (fun q => M3 q ∨ q = eP5) w st h5 (nx + 1 + 40 + c3 + c5) := by
    refine ⟨RX.keep s1.1 (by omega) E5 bd5 (fun q hq hz => K0 q hq (fun e => ?_) (fun e => ?_)), o5⟩
    · rcases hz with z | z | z
      · exact z (e ▸ f9.1)
      · exact f9.2.2.1 (e ▸ z)
      · refine f9.2.2.2 0 (by omega) ?_
        have e1 := s2 0 (by decide); have e2 := s2 1 (by decide); have e3 := s2 2 (by decide)
        unfold OwB; rw [← e1, ← e2, ← e3, ← e]; exact z
    · rcases hz with z | z | z
      · exact z (e ▸ fP.1)
      · exact fP.2.2.1 (e ▸ z)
      · refine fP.2.2.2 0 (by omega) ?_
        have e1 := s2 0 (by decide); have e2 := s2 1 (by decide); have e3 := s2 2 (by decide)
        unfold OwB; rw [← e1, ← e2, ← e3, ← e]; exact z
  have oAll : ∀ i, i < n + 2 → ∀ q, OwB B i q → M q ∧ q < nx := fun i hi q hq => by
    rcases i with _ | _ | i
    · have e1 := s2 0 (by decide); have e2 := s2 1 (by decide); have e3 := s2 2 (by decide)
      unfold OwB at hq
      rw [← e1, ← e2, ← e3] at hq
      exact s1.1.own.1 q hq
    · obtain ⟨F', wk, rf, sc, nl, la, no, oa, R, s0, hOwn, hno⟩ := s4
      exact hOwn q hq
    · exact (s5 i (by omega)).own.1 q hq
  let bN : Nat → Nat := fun k => if k = 0 then nx else if k = 1 then eL3 else if k = 2 then eO3 else if k = 3 then cL3 else cO3
  let B5 : Nat → Nat → Nat := fun i => if i < 2 then B i else if i = n - psS n + 2 then bN else B (i + psS n)
  have b0 : ∀ i, i < 2 → B5 i = B i := fun i hi => if_pos hi
  have bn : B5 (n - psS n + 2) = bN := by show (if _ then _ else _) = _; rw [if_neg (by omega), if_pos rfl]
  have bo : ∀ i, 2 ≤ i → i < n - psS n + 2 → B5 i = B (i + psS n) := fun i h1 h2 => by show (if _ then _ else _) = _; rw [if_neg (by omega), if_neg (by omega)]
  have cls : ∀ i q, i < psN n + 2 → OwB B5 i q → (i = n - psS n + 2 ∧ nx ≤ q ∧ q < nx + 1 + 40 + c3) ∨ (∃ j, j < n + 2 ∧ OwB B j q ∧ ((i < 2 ∧ j = i) ∨ (2 ≤ i ∧ i < n - psS n + 2 ∧ j = i + psS n))) := fun i q hi hq => by
    by_cases h2 : i < 2
    · refine Or.inr ⟨i, by omega, ?_, Or.inl ⟨h2, rfl⟩⟩
      unfold OwB at hq ⊢; rw [b0 i h2] at hq; exact hq
    by_cases hn : i = n - psS n + 2
    · subst hn
      refine Or.inl ⟨rfl, ?_⟩
      unfold OwB at hq; rw [bn] at hq
      exact ownNew q hq
    · refine Or.inr ⟨i + psS n, by omega, ?_, Or.inr ⟨by omega, by omega, rfl⟩⟩
      unfold OwB at hq ⊢; rw [bo i (by omega) (by omega)] at hq; exact hq
  refine ⟨h5, 1 + (40 + (c3 + (c5 + 0))), 27 + (206 + (d3 + (d5 + 0))), fun q => M3 q ∨ q = eP5, B5, eP5, cP5, ?_, ?_, ?_, by omega, by omega⟩
  · rw [eq4]
    have g4 : gA h4 (A 0) 0 4 = some (A 9) := by
      have : h4 (A 0) = some (oE A I st) := by rw [k4 _ (fun e => f9.2.2.1 e.symm) (fun e => fP.2.2.1 e.symm)]; exact o3
      simp [gA, rd, this, oE, oFs, vR]
    unfold f_X1_remembers_38
    rw [g4, Option.bind_some, L4.o, gdT, e5, Option.bind_some]
    rfl
  · rw [show nx + (1 + (40 + (c3 + (c5 + 0)))) = nx + 1 + 40 + c3 + c5 by omega]
    refine ⟨SN5, fun k hk => by rw [b0 0 (by decide)]; exact s2 k hk, by rw [b0 1 (by decide)]; exact s3, ?_, fun i hi => ?_, fun i hi => ?_, fun i j q hi hj h1 h2 => ?_, ?_, a5, l2, fun q hq => ?_, ?_, ?_, ?_, ?_⟩
    · rw [b0 1 (by decide)]
      refine s4.keep (by omega) E5 (fun q hq ho => K0 q hq (fun e => ?_) (fun e => ?_))
      · exact f9.2.2.2 1 (by omega) (e ▸ ho)
      · exact fP.2.2.2 1 (by omega) (e ▸ ho)
    · by_cases hin : i = n - psS n
      · subst hin
        rw [bn]
        have ew : psP n P w (n - psS n) = w := if_pos rfl
        rw [ew]
        refine RX.keep X3 (by omega) E35 bd5 (fun q hq hz => K3 q (by omega) (fun e => ?_) (fun e => ?_))
        · rcases hz with z | z | z
          · exact z (e ▸ hM9)
          · exact f9.2.2.1 (e ▸ z)
          · have := ownNew q z; omega
        · rcases hz with z | z | z
          · exact z (e ▸ hMP)
          · exact fP.2.2.1 (e ▸ z)
          · have := ownNew q z; omega
      · have ew : psP n P w i = P (i + psS n) := if_neg hin
        rw [ew, bo (i + 2) (by omega) (by omega), show i + 2 + psS n = i + psS n + 2 by omega]
        refine RX.keep (s5 (i + psS n) (by omega)) (by omega) E5 bd5 (fun q hq hz => K0 q hq (fun e => ?_) (fun e => ?_))
        · rcases hz with z | z | z
          · exact z (e ▸ f9.1)
          · exact f9.2.2.1 (e ▸ z)
          · exact f9.2.2.2 (i + psS n + 2) (by omega) (e ▸ z)
        · rcases hz with z | z | z
          · exact z (e ▸ fP.1)
          · exact fP.2.2.1 (e ▸ z)
          · exact fP.2.2.2 (i + psS n + 2) (by omega) (e ▸ z)
    · by_cases h2 : i < 2
      · rw [b0 i h2]; exact s6 i (by omega)
      by_cases hn : i = n - psS n + 2
      · rw [hn, bn]; exact ⟨t3, t4⟩
      · rw [bo i (by omega) (by omega)]; exact s6 _ (by omega)
    · rcases cls i q hi h1 with ⟨z1, z2, z3⟩ | ⟨i', z1, z2, z3⟩
      · rcases cls j q hj h2 with ⟨y1, y2, y3⟩ | ⟨j', y1, y2, y3⟩
        · omega
        · have := (oAll j' y1 q y2).2; omega
      · rcases cls j q hj h2 with ⟨y1, y2, y3⟩ | ⟨j', y1, y2, y3⟩
        · have := (oAll i' z1 q z2).2; omega
        · have := s7 i' j' q z1 y1 z2 y2
          omega
    · have ef : (fun i => B5 (i + 2) 0) = fun j => if j = n - psS n then nx else B (j + 2 + psS n) 0 := funext fun j => by
        by_cases hj : j = n - psS n
        · rw [if_pos hj, hj, bn]; rfl
        · rw [if_neg hj]
          show (if j + 2 < 2 then B (j + 2) else if j + 2 = n - psS n + 2 then bN else B (j + 2 + psS n)) 0 = _
          rw [if_neg (by omega), if_neg (by omega)]
      rw [ef]
      exact L5
    · have hfo : ∀ q, Fix A eP eB q → (M3 q ∨ q = eP5) ∧ q < nx + 1 + 40 + c3 + c5 ∧ q ≠ A 0 ∧ ∀ i, i < psN n + 2 → ¬ OwB B5 i q := fun q hq => by
        obtain ⟨f1, f2, f3, f4⟩ := s11 q hq
        refine ⟨Or.inl (E3.1 _ (Or.inl f1)), by omega, f3, fun i hi z => ?_⟩
        rcases cls i q hi z with ⟨-, y, -⟩ | ⟨j, y1, y2, -⟩
        · omega
        · exact f4 j y1 y2
      rcases hq with z | z | z
      · exact hfo q (Or.inl z)
      · rcases a1 with ⟨y, -⟩ | ⟨y, y2⟩
        · exact hfo q (Or.inr (Or.inl (z.trans y)))
        · refine ⟨Or.inr z, by omega, by omega, fun i hi t => ?_⟩
          rcases cls i q hi t with ⟨-, -, y3⟩ | ⟨j, y1, y4, -⟩
          · omega
          · have := (oAll j y1 q y4).2; omega
      · exact hfo q (Or.inr (Or.inr z))
    · obtain ⟨g1, g2, g3, g4, g5, g6⟩ := s12
      have b12 := (s11 (A 12) (Or.inr (Or.inr (Or.inl rfl)))).2.1
      have b13 := (s11 (A 13) (Or.inr (Or.inr (Or.inr (Or.inl rfl))))).2.1
      have bB := (s11 eB (Or.inr (Or.inr (Or.inr (Or.inr rfl))))).2.1
      refine ⟨g1, ?_, g3, ?_, g5, ?_⟩ <;> rcases a1 with ⟨y, -⟩ | ⟨y, -⟩ <;> omega
    · rw [K0 _ (s11 _ (Or.inr (Or.inr (Or.inl rfl)))).2.1 s12.1 s12.2.1]; exact s13
    · rw [K0 _ (s11 _ (Or.inr (Or.inr (Or.inr (Or.inl rfl))))).2.1 s12.2.2.1 s12.2.2.2.1]; exact s14
    · rw [K0 _ (s11 _ (Or.inr (Or.inr (Or.inr (Or.inr rfl))))).2.1 s12.2.2.2.2.1 s12.2.2.2.2.2]; exact s15
  · refine ⟨by omega, E5, fun q hq hm => K0 q hq (fun e => hm (e ▸ f9.1)) (fun e => hm (e ▸ fP.1))⟩
end PRE
