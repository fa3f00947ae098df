/-! print: numbers; says -/
/-- the digits, as the class of ints keeps them -/
def DGs (e : Nat → Nat) (h : AH) : Prop := (∃ f : Nat → Int32, h (e 5) = some (.inl (2, 100, .inl f)) ∧ ∀ k, k < 100 → f k = nI (48 + k % 10)) ∧ ∃ f : Nat → Int32, h (e 6) = some (.inl (2, 100, .inl f)) ∧ ∀ k, k < 100 → f k = nI (48 + k / 10)
section PQS
variable {h h' : AH} {E : bE} {a v N nx k n s b i p u : Nat} {mb : Int32} {T L : List Int32} {f g : Nat → Int32}
theorem dg_1 (h : u < 10) : dg u = [nI (48 + u)] := if_pos h
theorem dg_2 (h1 : ¬ u < 10) (h2 : u < 100) : dg u = [nI (48 + u / 10), nI (48 + u % 10)] := by unfold dg; rw [if_neg h1, if_pos h2]
theorem dg_3 (h2 : ¬ u < 100) : dg u = [nI (48 + u / 100), nI (48 + u / 10 % 10), nI (48 + u % 10)] := by unfold dg; rw [if_neg (by omega), if_neg h2]
theorem ng_f : ∀ u, u < 1000 → (((-100 : Int32) < -(nI u)) ↔ u < 100) ∧ (((-9 : Int32) ≤ -(nI u)) ↔ u < 10) ∧ -(-(nI u)) = nI u ∧ -(nI u) / nI 100 = -(nI (u / 100)) ∧ -(nI u) / nI 100 * nI 100 - -(nI u) = nI (u % 100) ∧ ((-(nI u) ≤ (-10 : Int32)) ↔ ¬ u < 10) ∧ ((-(nI u) ≤ nI 10 * (-10 : Int32)) ↔ ¬ u < 100) ∧ ¬ (-(nI u) ≤ nI 10 * (nI 10 * (-10 : Int32))) := by decide +kernel
theorem x_size (h9 : u < 1000) : f_J5_stringSize (nI u) = some (nI (dg u).length) := by
  obtain ⟨-, -, -, -, -, n1, n2, n3⟩ := ng_f u h9
  unfold f_J5_stringSize
  rw [if_neg (nI_pos (by omega)), show FU = 9997 + 1 + 1 + 1 from rfl, f_J5_stringSize_16, if_neg (by decide)]
  by_cases h1 : u < 10
  · rw [if_neg (fun z => (n1.mp z) h1), dg_1 h1]; rfl
  · rw [if_pos (n1.mpr h1), f_J5_stringSize_16, if_neg (by decide)]
    by_cases h2 : u < 100
    · rw [if_neg (fun z => (n2.mp z) h2), dg_2 h1 h2]; rfl
    · rw [if_pos (n2.mpr h2), f_J5_stringSize_16, if_neg (by decide), if_neg n3, dg_3 h2]; rfl
theorem nI_p1 (k : Nat) : nI (k + 1) + (-1) = nI k := by
  rw [← Int32.sub_eq_add_neg]; exact nI_pred k
theorem nar_d (c : Nat) (hc : c < 128) : vp_nar .byte (nI c) = nI c := by
  have := nar_c c hc
  rw [vp_nar_byte, Int8.toInt8_toInt32] at this
  rw [vp_nar_byte]; exact this
theorem x_getc (h9 : u < 1000) (q : h v = some (.inl (2, N, .inl f))) (D : DGs E.1 h) (n5 : E.1 5 ≠ v) (n6 : E.1 6 ≠ v) (hp : p + (dg u).length ≤ N) (hN : N ≤ 2700) : ∃ f' : Nat → Int32, f_J5_getChars E h nx (nI u) (nI (p + (dg u).length)) v = some (nI p, hu h v (.inl (2, N, .inl f')), 0, 0) ∧ (∀ i, i < p → f' i = f i) ∧ ∀ i, i < (dg u).length → f' (p + i) = (dg u).getD i 0 := by
  obtain ⟨⟨fo, o1, o2⟩, ft, t1, t2⟩ := D
  have ko : ∀ x, hu h v x (E.1 5) = some (.inl (2, 100, .inl fo)) := fun x => (hu_n n5).trans o1
  have kt : ∀ x, hu h v x (E.1 6) = some (.inl (2, 100, .inl ft)) := fun x => (hu_n n6).trans t1
  have w : ∀ (g : Nat → Int32) (j c : Nat), j < N → c < 128 → sI (hu h v (.inl (2, N, .inl g))) v 2 (nI j) (nI c) = some (hu h v (.inl (2, N, .inl (upd g j (nI c))))) := fun g j c hj hc => by rw [sI_at hu_s hj (by omega), hu_hu]
  have w0 : ∀ (j c : Nat), j < N → sI h v 2 (nI j) (nI c) = some (hu h v (.inl (2, N, .inl (upd f j (nI c))))) := fun j c hj => sI_at q hj (by omega) _
  have last : ∀ (m : Nat) (u p : Nat) (g : Nat → Int32) (hh : AH), u < 10 → p < N → hh v = some (.inl (2, N, .inl g)) → hh (E.1 5) = some (.inl (2, 100, .inl fo)) → f_J5_getChars_22 (m + 1) E (-(nI u)) v (nI (p + 1)) 0 hh nx = some (nI p, hu hh v (.inl (2, N, .inl (upd g p (nI (48 + u))))), 0, 0) := fun m u p g hh h1 h2 h3 h4 => by
    obtain ⟨n1, n2, n3, -⟩ := ng_f u (by omega)
    rw [f_J5_getChars_22, if_pos (n1.mpr (by omega)), n3, aI_at h4 (by omega) (by decide), Option.bind_some, o2 u (by omega), nI_p1, show u % 10 = u by omega, nar_d _ (by omega), sI_at h3 h2 (by omega), Option.bind_some, if_pos (n2.mpr h1)]
    unfold f_J5_getChars_104
    rw [if_pos rfl]
  obtain ⟨n1, n2, n3, n4, n5', -⟩ := ng_f u h9
  unfold f_J5_getChars f_J5_getChars_12
  rw [if_pos (nI_pos' (by omega)), if_pos rfl]
  by_cases h1 : u < 10
  · rw [dg_1 h1] at hp ⊢
    refine ⟨_, last 9999 u p f h h1 hp q o1, fun i hi => upd_n (by omega), fun i hi => ?_⟩
    have : i = 0 := by simp at hi; omega
    subst this
    exact upd_s
  by_cases h2 : u < 100
  · rw [dg_2 h1 h2] at hp ⊢
    have hp : p + 2 ≤ N := hp
    show ∃ f', f_J5_getChars_22 (9999 + 1) E (-(nI u)) v (nI (p + 1 + 1)) 0 h nx = _ ∧ _
    rw [f_J5_getChars_22, if_pos (n1.mpr h2), n3, aI_at o1 h2 (by decide), Option.bind_some, o2 u h2, nI_p1, nar_d _ (by omega), w0 _ _ (by omega), Option.bind_some, if_neg (fun z => h1 (n2.mp z)), aI_at (kt _) h2 (by decide), Option.bind_some, t2 u h2, nI_p1, nar_d _ (by omega), w _ _ _ (by omega) (by omega), Option.bind_some]
    unfold f_J5_getChars_104
    rw [if_pos rfl]
    refine ⟨_, rfl, fun i hi => by rw [upd_n (by omega), upd_n (by omega)], fun i hi => ?_⟩
    have hi : i < 2 := hi
    rcases (show i = 0 ∨ i = 1 by omega) with rfl | rfl
    · exact upd_s
    · rw [upd_n (by omega), upd_s]; rfl
  · rw [dg_3 h2] at hp ⊢
    have hp : p + 3 ≤ N := hp
    show ∃ f', f_J5_getChars_22 (9998 + 1 + 1) E (-(nI u)) v (nI (p + 1 + 1 + 1)) 0 h nx = _ ∧ _
    have hr : u % 100 < 100 := Nat.mod_lt _ (by decide)
    rw [f_J5_getChars_22, if_neg (fun z => h2 (n1.mp z)), gd_e (show nz32 (nI 100) = true by decide), n5', aI_at o1 hr (by decide), Option.bind_some, o2 _ hr, nI_p1, nar_d _ (by omega), w0 _ _ (by omega), Option.bind_some, aI_at (kt _) hr (by decide), Option.bind_some, t2 _ hr, nI_p1, nar_d _ (by omega), w _ _ _ (by omega) (by omega), Option.bind_some, n4, last 9998 (u / 100) p _ _ (by omega) (by omega) hu_s (ko _), hu_hu]
    refine ⟨_, rfl, fun i hi => by rw [upd_n (by omega), upd_n (by omega), upd_n (by omega)], fun i hi => ?_⟩
    have hi : i < 3 := hi
    rcases (show i = 0 ∨ i = 1 ∨ i = 2 by omega) with rfl | rfl | rfl
    · exact upd_s
    · rw [upd_n (by omega), upd_s, show u % 100 / 10 = u / 10 % 10 by omega]; rfl
    · rw [upd_n (by omega), upd_n (by omega), upd_s, show u % 100 % 10 = u % 10 by omega]; rfl
/-- an int -/
theorem sb_ai (S : SBT h a v N mb T) (h9 : u < 1000) (D : DGs E.1 h) (n5 : E.1 5 < nx ∧ E.1 5 ≠ a ∧ E.1 5 ≠ v) (n6 : E.1 6 < nx ∧ E.1 6 ≠ a ∧ E.1 6 ≠ v) (hT : T.length + 3 ≤ 1295) (ha : a < nx) (hv : v < nx) (hav : a ≠ v) : SBo h a v N mb nx (f_J8_append_3 E h nx a (nI u)) (T ++ dg u) := by
  have hd := (dg_len (v := u)).1
  obtain ⟨h1, v', N', c1, d1, e1, ⟨q, ⟨f, q2, hf⟩, b1, b2⟩, b3, b4, b5, b6, b7, b8, k1, hav', b9⟩ := sb_ens (E := E) (nx := nx) S (k := T.length + (dg u).length) (by omega) ha hv hav
  have D1 : DGs E.1 h1 := by
    obtain ⟨⟨fo, o1, o2⟩, ft, t1, t2⟩ := D
    exact ⟨⟨fo, (k1 _ n5.1 n5.2.1).trans o1, o2⟩, ft, (k1 _ n6.1 n6.2.1).trans t1, t2⟩
  have ne : ∀ z, z < nx → z ≠ v → z ≠ v' := fun z z1 z2 => by
    rcases b4 with y | y
    · rw [y]; exact z2
    · omega
  obtain ⟨f', e2, g1, g2⟩ := x_getc (E := E) (nx := nx + c1) (p := T.length) h9 q2 D1 (ne _ n5.1 n5.2.2) (ne _ n6.1 n6.2.2) b3 b2
  have q4 : hu h1 v' (.inl (2, N', .inl f')) a = some (.inr (.inl (12, [.ref v', .int 0, .int mb, .int (nI T.length)]))) := (hu_n hav').trans q
  have w4 : wr (hu h1 v' (.inl (2, N', .inl f'))) a 12 3 (.int (nI (T.length + (dg u).length))) = some (hu (hu h1 v' (.inl (2, N', .inl f'))) a (sB3 v' (T.length + (dg u).length) mb)) := by
    rw [wr_at q4 (by show 3 < 4; decide)]; rfl
  refine ⟨hu (hu h1 v' (.inl (2, N', .inl f'))) a (sB3 v' (T.length + (dg u).length) mb), v', N', c1, d1, ?_, ⟨?_, ⟨f', (hu_n (Ne.symm hav')).trans hu_s, hf.app g1 g2⟩, by rw [List.length_append]; exact b3, b2⟩, b4, b5, b6, b7, b8, fun z z1 z2 z3 => ?_, fun z => b9 (by rw [List.length_append] at z; exact z)⟩
  · unfold f_J8_append_3 f_J7_append_3
    have q0 := S.1
    rw [sbo q0, gdT, sb3 q0, Option.bind_some, x_size h9, Option.bind_some, gdT, nI_add, e1, Option.bind_some]
    dsimp only
    rw [sbo q, gdT, sbl q, Option.bind_some, if_neg (by decide), sb0 q, Option.bind_some, e2, Option.bind_some]
    dsimp only
    rw [w4, Option.bind_some, aC_some, aC_some, Option.bind_some]
    dsimp only
    rw [aC_some]
    simp only [Nat.add_zero]
  · rw [hu_s, List.length_append]
  · by_cases hz : z = v'
    · exact absurd hz (ne z z1 z3)
    · rw [hu_n z2, hu_n hz]; exact k1 z z1 z2
end PQS
