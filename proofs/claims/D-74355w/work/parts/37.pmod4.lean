/-! THE REFERENCE's side: writers -/
section PM4
variable {w : Rw} {p h k i x : Nat} {v : Int32}
theorem Rng_u (Z : Rng w) (i : Nat) (v : Int32) (hh : ∀ h k, h < 10 → k < 8 → i = 8 * h + k → hB k v) (hp : ∀ p k, p < 8 → k < 18 → i = 80 + 18 * p + k → pB k v) (hl : ∀ j k, j < 8 → k < 8 → i = 234 + 8 * j + k → lB k v) (ho : ∀ j k, j < 30 → k < 3 → i = 300 + 3 * j + k → oB k v) (hg : 224 ≤ i → i < 300 → gB i v) : Rng (upd w i v) := by
  obtain ⟨z1, z2, z3, z4, z5⟩ := Z
  refine ⟨fun h k h1 h2 => ?_, fun p k h1 h2 => ?_, fun j k h1 h2 => ?_, fun j k h1 h2 => ?_, fun j h1 h2 => ?_⟩
  · unfold hF
    by_cases e : 8 * h + k = i
    · rw [e, upd_s]; exact hh h k h1 h2 e.symm
    · rw [upd_n e]; exact z1 h k h1 h2
  · unfold pF
    by_cases e : 80 + 18 * p + k = i
    · rw [e, upd_s]; exact hp p k h1 h2 e.symm
    · rw [upd_n e]; exact z2 p k h1 h2
  · unfold lF
    by_cases e : 234 + 8 * j + k = i
    · rw [e, upd_s]; exact hl j k h1 h2 e.symm
    · rw [upd_n e]; exact z3 j k h1 h2
  · by_cases e : 300 + 3 * j + k = i
    · rw [e, upd_s]; exact ho j k h1 h2 e.symm
    · rw [upd_n e]; exact z4 j k h1 h2
  · by_cases e : j = i
    · subst e; rw [upd_s]; exact hg h1 h2
    · rw [upd_n e]; exact z5 j h1 h2
theorem Rng_p (Z : Rng w) (hp : p < 8) (hk : k < 18) (hv : pB k v) : Rng (upd w (80 + 18 * p + k) v) :=
  Rng_u Z _ v (fun _ _ _ _ e => absurd e (by omega)) (fun q j h1 h2 e => by have : j = k := (by omega); rw [this]; exact hv) (fun _ _ _ _ e => absurd e (by omega)) (fun _ _ _ _ e => absurd e (by omega)) (fun e => absurd e (by omega))
theorem Rng_h (Z : Rng w) (hh : h < 10) (hk : k < 8) (hv : hB k v) : Rng (upd w (8 * h + k) v) :=
  Rng_u Z _ v (fun q j h1 h2 e => by have : j = k := (by omega); rw [this]; exact hv) (fun _ _ _ _ e => absurd e (by omega)) (fun _ _ _ _ e => absurd e (by omega)) (fun _ _ _ _ e => absurd e (by omega)) (fun e => absurd e (by omega))
theorem Rng_l (Z : Rng w) (hi : i < 8) (hk : k < 8) (hv : lB k v) : Rng (upd w (234 + 8 * i + k) v) :=
  Rng_u Z _ v (fun _ _ _ _ e => absurd e (by omega)) (fun _ _ _ _ e => absurd e (by omega)) (fun q j h1 h2 e => by have : j = k := (by omega); rw [this]; exact hv) (fun _ _ _ _ e => absurd e (by omega)) (fun e1 e2 => by
    unfold gB
    rw [if_neg (by omega), if_neg (by omega), if_neg (by omega), if_neg (by omega), if_neg (by omega), if_neg (by omega), if_neg (by omega), if_neg (by omega), if_neg (by omega), if_neg (by omega), if_neg (by omega)]
    trivial)
theorem Rng_o (Z : Rng w) (hi : i < 30) (hk : k < 3) (hv : oB k v) : Rng (upd w (300 + 3 * i + k) v) :=
  Rng_u Z _ v (fun _ _ _ _ e => absurd e (by omega)) (fun _ _ _ _ e => absurd e (by omega)) (fun _ _ _ _ e => absurd e (by omega)) (fun q j h1 h2 e => by have : j = k := (by omega); rw [this]; exact hv) (fun e1 e2 => absurd e2 (by omega))
theorem Rng_g (Z : Rng w) (hi : 224 ≤ i ∧ (i < 234 ∨ i = 298 ∨ i = 299)) (hv : gB i v) : Rng (upd w i v) :=
  Rng_u Z _ v (fun _ _ _ _ e => absurd e (by omega)) (fun _ _ _ _ e => absurd e (by omega)) (fun _ _ _ _ e => absurd e (by omega)) (fun _ _ _ _ e => absurd e (by omega)) (fun _ _ => hv)
theorem m_puts (hk : 80 + 18 * p + k < 390) : f_X3_puts w (nI p) (nI k) v = some (upd w (80 + 18 * p + k) v) := by
  simp only [f_X3_puts, m_at, Option.bind_some]
  rw [gdn ⟨hk, by decide⟩, nI_clamp (by omega)]
theorem m_putsHome (hk : 8 * h + k < 390) : f_X3_putsHome w (nI h) (nI k) v = some (upd w (8 * h + k) v) := by
  simp only [f_X3_putsHome, pk_mul, nI_add]
  rw [gdn ⟨hk, by decide⟩, nI_clamp (by omega)]
def offd (w : Rw) (p h : Nat) (t : Bool) : Rw := upd (upd (upd (upd w (300 + 3 * nO w) (nI p)) (300 + 3 * nO w + 1) (nI h)) (300 + 3 * nO w + 2) (bI t)) 299 (nI (nO w + 1))
theorem m_offered (Z : Rng w) (hn : nO w < 30) {t : Bool} : f_X3_offered w (nI p) (nI h) (bI t) = some (offd w p h t) := by
  obtain ⟨e1, e2⟩ := Z.gO
  have key : ∀ y : Int32, f_X3_offered_51 (nI (300 + 3 * nO w + 2)) y (upd (upd w (300 + 3 * nO w) (nI p)) (300 + 3 * nO w + 1) (nI h)) = some (upd (upd (upd (upd w (300 + 3 * nO w) (nI p)) (300 + 3 * nO w + 1) (nI h)) (300 + 3 * nO w + 2) y) 299 (nI (nO w + 1))) := by
    intro y
    simp only [f_X3_offered_51]
    rw [gdn ⟨by omega, by decide⟩, nI_clamp (by omega), upd_n (f := upd (upd w _ _) _ _) (by omega), upd_n (by omega), upd_n (by omega), e1, nI_1]
  simp only [f_X3_offered, e1, pk_mul, nI_add, nI_1, bd]
  rw [gdn ⟨by omega, by decide⟩, gdn ⟨by omega, by decide⟩, nI_clamp (by omega), nI_clamp (by omega), key, key]
  cases t <;> rfl
def rf1 (w : Rw) (p : Nat) : Rw := upd (upd w (80 + 18 * p + 5) (pF w p 5 + 1)) 298 (w 298 + 1)
def refd (w : Rw) (p : Nat) : Rw := if w 224 ≤ pF w p 5 + 1 then upd (upd (upd (rf1 w p) (80 + 18 * p + 5) 0) (80 + 18 * p + 6) (w 225)) (80 + 18 * p + 7) 1 else rf1 w p
theorem m_refuses (hp : p < 8) : f_X3_refuses w (nI p) = some (refd w p) := by
  have h1 : f_X3_puts w (nI p) (nI 5) (pF w p 5 + 1) = some (upd w (80 + 18 * p + 5) (pF w p 5 + 1)) := m_puts (by omega)
  simp only [f_X3_refuses]
  rw [m_of (by omega), Option.bind_some, h1, Option.bind_some, upd_n (f := w) (j := 298) (by omega)]
  rw [show upd (upd w (80 + 18 * p + 5) (pF w p 5 + 1)) 298 (w 298 + 1) = rf1 w p from rfl, m_of (by omega), Option.bind_some]
  have h2 : pF (rf1 w p) p 5 = pF w p 5 + 1 := by unfold pF rf1; rw [upd_n (by omega), upd_s]; rfl
  have h3 : rf1 w p 224 = w 224 := by unfold rf1; rw [upd_n (by omega), upd_n (by omega)]
  rw [h2, h3, m_puts (by omega), Option.bind_some]
  rw [show upd (rf1 w p) (80 + 18 * p + 5) 0 225 = w 225 by rw [upd_n (by omega)]; unfold rf1; rw [upd_n (by omega), upd_n (by omega)], m_puts (by omega), Option.bind_some, m_puts (by omega), Option.bind_some]
  unfold refd
  split <;> rfl
def lvsd (w : Rw) (h : Nat) (c : Int32) : Rw := upd (upd (upd w (8 * h + 2) (-1)) (8 * h + 3) 1) (8 * h + 5) c
theorem m_leaves (hh : h < 10) : f_X3_leaves w (nI h) v = some (lvsd w h v) := by
  simp only [f_X3_leaves]
  rw [m_putsHome (by omega), Option.bind_some, m_putsHome (by omega), Option.bind_some, m_putsHome (by omega), Option.bind_some]
  rfl
end PM4
