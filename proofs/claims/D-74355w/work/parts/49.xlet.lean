/-! THE COMPONENT's side: Register.lets, joined -/
section PXL
variable {h h1 : AH} {nx nx' : Nat} {M M' : Nat → Prop} {o r eL eO_ cL cO : Nat} {w W : Rw} {p x y a b dn k off : Nat} {zs : Nat → Nat} {n : Nat} {E : bE}
theorem KT.symm' (K : KT w W) : KT W w := ⟨fun q k a1 a2 a3 => (K.1 q k a1 a2 a3).symm, fun y k a1 a2 => (K.2.1 y k a1 a2).symm, fun i a1 a2 => (K.2.2 i a1 a2).symm⟩
theorem KT_psj {band : Int32} (hP : nP w ≤ 8) : KT w (psj w x band (nP w)) := ⟨fun q k a1 a2 a3 => psj_p a2 (by omega), fun y k a1 a2 => by unfold hF; exact psj_o (by omega), fun i a1 a2 => psj_g a1 hP⟩
theorem aC_some {α : Type} {c d c' d' : Nat} {v : α} {h : AH} : aC c d (some (v, h, c', d')) = some (v, h, c + c', d + d') := rfl
theorem l5_1 (a b : Bool) : (bI a + (if b = true then 0 else nI 2)) &&& 1 = bI a := by cases a <;> cases b <;> decide
theorem l5_2 (a b : Bool) : (bI a + (if b = true then 0 else nI 2)) >>> (1 &&& 31) = bI (!b) := by cases a <;> cases b <;> decide
theorem x_letMade {l q mv td : Bool} {v : Int32} {wk ch band : Int32} (R17 : ∀ h1 : AH, (∀ q, q < nx → h1 q = h q) → gI h1 r 1 17 = some wk) (rO : ∀ h1 : AH, (∀ q, q < nx → h1 q = h q) → isO h1 r 1 = true) (r1 : gA h r 1 1 = some (r + 2)) (r2 : aI h (r + 2) 0 (nI p) = some v) (hv : decide (v < 0) = !mv) (r15 : gA h r 1 15 = some (r + 16)) (hT : ∀ h1 : AH, (∀ q, q < nx → h1 q = h q) → f_X2_hasTie E h1 r (nI p) (nI x) = some (bI td)) :
    f_X2_lets_112 E r (nI p) (nI x) (nI off) (bI l) (bI q) band ch h nx = aC 2 14 (bd (hu (hu (hu h nx (.inr (.inl (7, df_X8)))) (nx + 1) (.inl (3, 4, .inl (let4 l q mv td)))) nx (.inr (.inl (7, letV p x wk ch off band l q mv td)))) fun h5 => gd (isO h5 (r + 16) 11) ((f_J2_add E h5 (nx + 2) (r + 16) nx).bind fun v8 => aC v8.2.2.1 v8.2.2.2 (if v < 0 then (f_X2_lets_203 E r (nI p) (nI x) v8.2.1 ((nx + 2) + v8.2.2.1)) else ((gA v8.2.1 r 1 15).bind fun v11 => gd (isO v8.2.1 v11 11) ((f_J2_size E v8.2.1 v11).bind fun v13 => gd (isO v8.2.1 r 1) ((f_X2_frees E v8.2.1 ((nx + 2) + v8.2.2.1) r v (v13 - 1)).bind fun v15 => aC v15.2.2.1 v15.2.2.2 (f_X2_lets_203 E r (nI p) (nI x) v15.2.1 (((nx + 2) + v8.2.2.1) + v15.2.2.1)))))))) := by
  have st : ∀ (g : Nat → Int32) (i : Nat) (u : Int32), i < 4 → sI (hu (hu h nx (.inr (.inl (7, df_X8)))) (nx + 1) (.inl (3, 4, .inl g))) (nx + 1) 3 (nI i) u = some (hu (hu h nx (.inr (.inl (7, df_X8)))) (nx + 1) (.inl (3, 4, .inl (upd g i u)))) := fun g i u hi => by rw [sI_at hu_s hi (by decide), hu_hu]
  have kp : ∀ (e e' : hE) (z : Nat), z < nx → hu (hu h nx e) (nx + 1) e' z = h z := fun e e' z hz => by rw [hu_n (by omega), hu_n (by omega)]
  have h17 : gI (hu h nx (.inr (.inl (7, df_X8)))) r 1 17 = some wk := R17 _ (fun z hz => hu_n (by omega))
  have st0 : ∀ (g : Nat → Int32) (u : Int32), sI (hu (hu h nx (.inr (.inl (7, df_X8)))) (nx + 1) (.inl (3, 4, .inl g))) (nx + 1) 3 0 u = some (hu (hu h nx (.inr (.inl (7, df_X8)))) (nx + 1) (.inl (3, 4, .inl (upd g 0 u)))) := fun g u => st g 0 u (by decide)
  have st1 : ∀ (g : Nat → Int32) (u : Int32), sI (hu (hu h nx (.inr (.inl (7, df_X8)))) (nx + 1) (.inl (3, 4, .inl g))) (nx + 1) 3 1 u = some (hu (hu h nx (.inr (.inl (7, df_X8)))) (nx + 1) (.inl (3, 4, .inl (upd g 1 u)))) := fun g u => st g 1 u (by decide)
  simp only [f_X2_lets_112, r1, Option.bind_some, r2, r15, h17, bd, nar_b, st0, st1]
  have fin : ∀ u : Int32, u = bI mv → f_X2_lets_166 E r (nI p) (nI x) v (r + 16) nx nx (nI p) (nI x) wk ch (nI off) band (nx + 1) (nx + 1) (nI 2) u (hu (hu h nx (.inr (.inl (7, df_X8)))) (nx + 1) (.inl (3, 4, .inl (upd (upd (fun _ => 0) 0 (bI l)) 1 (bI q))))) (nx + 1 + 1) = gd (isO (hu (hu (hu h nx (.inr (.inl (7, df_X8)))) (nx + 1) (.inl (3, 4, .inl (let4 l q mv td)))) nx (.inr (.inl (7, letV p x wk ch off band l q mv td)))) (r + 16) 11) ((f_J2_add E (hu (hu (hu h nx (.inr (.inl (7, df_X8)))) (nx + 1) (.inl (3, 4, .inl (let4 l q mv td)))) nx (.inr (.inl (7, letV p x wk ch off band l q mv td)))) (nx + 2) (r + 16) nx).bind fun v8 => aC v8.2.2.1 v8.2.2.2 (if v < 0 then (f_X2_lets_203 E r (nI p) (nI x) v8.2.1 ((nx + 2) + v8.2.2.1)) else ((gA v8.2.1 r 1 15).bind fun v11 => gd (isO v8.2.1 v11 11) ((f_J2_size E v8.2.1 v11).bind fun v13 => gd (isO v8.2.1 r 1) ((f_X2_frees E v8.2.1 ((nx + 2) + v8.2.2.1) r v (v13 - 1)).bind fun v15 => aC v15.2.2.1 v15.2.2.2 (f_X2_lets_203 E r (nI p) (nI x) v15.2.1 (((nx + 2) + v8.2.2.1) + v15.2.2.1))))))) := by
    intro u hu'
    subst hu'
    unfold f_X2_lets_166
    rw [nar_b, st _ 2 _ (by decide), Option.bind_some, rO _ (kp _ _), gdT, hT _ (kp _ _), Option.bind_some, nar_b, st _ 3 _ (by decide), Option.bind_some]
    rw [show (upd (upd (upd (upd (fun _ => (0 : Int32)) 0 (bI l)) 1 (bI q)) 2 (bI mv)) 3 (bI td)) = let4 l q mv td from rfl]
    rw [x_letInit (l := l) (q := q) (mv := mv) (td := td) (by rw [hu_n (by omega), hu_s]) hu_s (by omega), Option.bind_some, aC00]
    rfl
  cases mv
  · rw [if_pos (by simpa using hv), fin 0 rfl]
    simp only [aC, Option.bind_assoc, Option.bind_some]
    congr 1
    funext z
    simp only [Option.some.injEq, Prod.mk.injEq, true_and]
    omega
  · rw [if_neg (by simpa using hv), fin 1 rfl]
    simp only [aC, Option.bind_assoc, Option.bind_some]
    congr 1
    funext z
    simp only [Option.some.injEq, Prod.mk.injEq, true_and]
    omega
end PXL
