/-! the fresh object -/
def yM (o nx : Nat) : Nat → Prop := fun q => q = o ∨ (nx + 4 ≤ q ∧ q < nx + 88) ∨ (nx + 90 ≤ q ∧ q < nx + 93)
def yC (nx : Nat) : Nat → hE := fun k => match k with
  | 0 => tE (fun _ => 0)
  | 1 => sB3 (nx + 92) 0 0
  | _ => .inl (2, 16, .inl (fun _ => 0))
section YSY
variable {h h' : AH} {o nx : Nat} {zs : Nat → Nat} {w : Rw} {P : Nat → Rw} {nm : Nat → Int64}
theorem yM_ni {q : Nat} (h1 : q < nx + 93) (h2 : q ≠ o) (h3 : q < nx + 4 ∨ q = nx + 88 ∨ q = nx + 89) : NI (nx + 93) (yM o nx) q := ⟨h1, fun z => by
  rcases z with z | z | z
  · exact h2 z
  · omega
  · omega⟩
theorem yl2 {a : Nat} {f : Nat → Nat} (h1 : h a = some (lO 0 (a + 1) 0)) (h2 : h (a + 1) = some (rO 2 (fun _ => none))) : LstC h a (a + 1) 0 f 2 :=
  ⟨0, fun _ => none, h1, h2, by omega, by omega, by omega, fun i hi => absurd hi (by omega), fun _ _ _ => rfl⟩
theorem yown {c q : Nat} (hq : Own c (c + 17) (c + 19) q) : c ≤ q ∧ q < c + 41 := by
  rcases hq with z | z | z <;> omega
theorem y_rx (hon : o < nx) (Y : YH zs o nx h h') (hw : ∀ i, i < 390 → w i = if i = 224 then nI 3 else if i = 225 then nI 4 else if i = 228 then nI 999 else if i = 229 then nI 2 else 0) : RX h' (nx + 93) (yM o nx) o (nx + 4) (nx + 21) (nx + 23) 2 2 w := by
  obtain ⟨y1, y2, y3, y4, y5, y6, ⟨F, R, iF⟩, -, -⟩ := Y
  have Pw := PRw.plain hw iF
  obtain ⟨nn1, nn2, nn3, nn4⟩ := Pw.nn
  refine ⟨⟨nx, nx + 1, nx + 2, nx + 3, nx + 4, nx + 45, fun _ => 0, fun _ => 0, fun _ => 0, fun _ => 0, fun _ => 0, ⟨_, _, _, _, _, _, _, _, _, y1⟩, ⟨by rw [nn1]; exact ⟨2, yl2 y3 y4⟩, by rw [nn2]; exact ⟨2, yl2 y5 y6⟩, fun i hi => ?_, fun p hp => ?_⟩, ⟨yM_ni (by omega) (by omega) (by omega), yM_ni (by omega) (by omega) (by omega), yM_ni (by omega) (by omega) (by omega), yM_ni (by omega) (by omega) (by omega), fun i hi => ?_, fun p hp => ?_⟩, by omega, Or.inl rfl, fun q hq => ?_⟩, F, 0, 0, (0, 0, 0, 0), fun _ => 0, fun _ => 0, ?_, Pw.rel, ⟨nn3.symm ▸ rfl, fun i hi => by omega⟩, ⟨nn4.symm ▸ rfl, fun i hi => by omega⟩, rfl, fun i hi => by omega, fun i hi => by omega, fun q hq => ?_, fun z => ?_⟩
  · omega
  · omega
  · omega
  · omega
  · rcases hq with z | z | z <;> omega
  · rw [nn3, nn4]; exact R
  · have := yown (c := nx + 4) hq
    exact ⟨Or.inr (Or.inl (by omega)), by omega⟩
  · have := yown (c := nx + 4) z
    omega
theorem y_sys (hon : o < nx) (Y : YH zs o nx h h') (hw : ∀ i, i < 390 → w i = if i = 224 then nI 3 else if i = 225 then nI 4 else if i = 228 then nI 999 else if i = 229 then nI 2 else 0) : Sys (yA o nx) yI (yM o nx) w 0 P (yB nx) (nx + 87) 2 (nx + 92) (yC nx) 0 h' (nx + 93) := by
  have X := y_rx hon Y hw
  obtain ⟨y1, y2, y3, y4, y5, y6, -, ⟨F, R, iF⟩, y7, y8, y9, y10, y11, y12, y13⟩ := Y
  have ow : ∀ i q, i < 0 + 2 → OwB (yB nx) i q → (i = 0 ∧ nx + 4 ≤ q ∧ q < nx + 45) ∨ (i = 1 ∧ nx + 45 ≤ q ∧ q < nx + 86) := fun i q hi hq => by
    rcases (show i = 0 ∨ i = 1 by omega) with rfl | rfl
    · left; have := yown (c := nx + 4) hq; omega
    · right; have := yown (c := nx + 45) hq; omega
  refine ⟨⟨X, y1⟩, fun k hk => ?_, rfl, ⟨F, 0, 0, (0, 0, 0, 0), 0, fun _ => 0, 0, fun _ => 0, R, rfl, fun q hq => ?_, fun z => ?_⟩, fun i hi => absurd hi (by omega), fun i hi => ?_, fun i j q hi hj h1 h2 => ?_, yl2 y7 y8, by omega, by omega, fun q hq => ?_, ⟨by show nx + 90 ≠ nx + 86; omega, by show nx + 90 ≠ nx + 87; omega, by show nx + 91 ≠ nx + 86; omega, by show nx + 91 ≠ nx + 87; omega, by show nx + 92 ≠ nx + 86; omega, by omega⟩, y11, y12, y13⟩
  · rcases (show k = 0 ∨ k = 1 ∨ k = 2 ∨ k = 3 ∨ k = 4 by omega) with rfl | rfl | rfl | rfl | rfl <;> rfl
  · have := yown (c := nx + 45) hq
    exact ⟨Or.inr (Or.inl (by omega)), by omega⟩
  · have := yown (c := nx + 45) z
    have : (yA o nx 0) = o := rfl
    omega
  · rcases (show i = 0 ∨ i = 1 by omega) with rfl | rfl <;> exact ⟨by show 2 < 60; omega, by show 2 < 60; omega⟩
  · have a1 := ow i q hi h1
    have a2 := ow j q hj h2
    omega
  · have hq : q = nx + 86 ∨ q = nx + 87 ∨ q = nx + 90 ∨ q = nx + 91 ∨ q = nx + 92 := hq
    refine ⟨by rcases hq with z | z | z | z | z <;> (right; omega), by omega, by show q ≠ o; omega, fun i hi z => ?_⟩
    have := ow i q hi z
    omega
theorem y_kn (hon : o < nx) (K : KZ zs o h nx) (Y : YH zs o nx h h') : KN zs (yA o nx) (yM o nx) h' (nx + 93) := by
  obtain ⟨K1, -⟩ := K
  obtain ⟨y1, y2, y3, y4, y5, y6, -, -, y7, y8, ⟨g6, y9, y9'⟩, ⟨g4, y10, y10'⟩, -⟩ := Y
  refine ⟨fun k hk => ?_, ⟨g6, y9, y9', yM_ni (by show nx + 88 < _; omega) (by show nx + 88 ≠ _; omega) (Or.inr (Or.inl rfl))⟩, g4, y10, y10', yM_ni (by show nx + 89 < _; omega) (by show nx + 89 ≠ _; omega) (Or.inr (Or.inr rfl))⟩
  obtain ⟨b, s, ⟨s1, s2⟩, s3, s4⟩ := K1 k hk
  exact ⟨b, s.kept (y2 _ s1 s2) (y2 _ s3 s4), yM_ni (by omega) s2 (Or.inl (by omega)), yM_ni (by omega) s4 (Or.inl (by omega))⟩
theorem y_nm (hon : o < nx) (Y : YH zs o nx h h') : NmS (yA o nx) (yM o nx) h' (nx + 93) 0 0 nm := by
  obtain ⟨y1, y2, y3, y4, y5, y6, -⟩ := Y
  exact ⟨nx + 1, nx + 3, fun _ => 0, fun _ => 0, fun _ => 0, fun _ => 0, fun _ => 0, fun _ => 0, ⟨2, yl2 y3 y4⟩, ⟨2, yl2 y5 y6⟩, yM_ni (by show nx < _; omega) (by show nx ≠ _; omega) (Or.inl (by show nx < _; omega)), yM_ni (by omega) (by omega) (Or.inl (by omega)), yM_ni (by show nx + 2 < _; omega) (by show nx + 2 ≠ _; omega) (Or.inl (by show nx + 2 < _; omega)), yM_ni (by omega) (by omega) (Or.inl (by omega)), fun i hi => absurd hi (by omega), fun i hi => absurd hi (by omega)⟩
theorem y_oc : OC (yC nx) (nx + 92) [] := ⟨16, 0, fun _ => 0, rfl, rfl, fun i hi => absurd hi (by simp), by simp, by omega, fun x hx => by cases hx⟩
theorem y_inv (hw : ∀ i, i < 390 → w i = if i = 224 then nI 3 else if i = 225 then nI 4 else if i = 228 then nI 999 else if i = 229 then nI 2 else 0) (Y : YH zs o nx h h') : Inv w ∧ wN w 232 = 0 := by
  obtain ⟨y1, y2, y3, y4, y5, y6, ⟨F, R, iF⟩, -⟩ := Y
  exact (PRw.plain hw iF).inv
end YSY
