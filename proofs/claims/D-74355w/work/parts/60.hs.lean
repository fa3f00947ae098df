/-! loops that look for one, over states; firsts by keys -/
theorem lp_hs {S R : Type} (F : Nat → Nat → S → Option R) (N : Nat) (P : S → Prop) (B : Nat → Bool) (r : Nat → S → Option R) (e : S → Option R) (h0 : ∀ n s, P s → F (n + 1) N s = e s) (h1 : ∀ n i s, i < N → P s → ∃ s', P s' ∧ F (n + 1) i s = if B i = true then r i s' else F n (i + 1) s') : ∀ n i s, i ≤ N → N - i < n → P s → ∃ s', P s' ∧ F n i s = match fdN B i (N - i) with
    | some j => r j s'
    | none => e s'
  | 0, _, _, _, h, _ => absurd h (by omega)
  | n + 1, i, s, hi, hn, hp => by
    by_cases h : i < N
    · obtain ⟨s', p1, e1⟩ := h1 n i s h hp
      rw [e1, show N - i = (N - (i + 1)) + 1 by omega]
      by_cases hb : B i = true
      · have ef : fdN B i (N - (i + 1) + 1) = some i := by unfold fdN; exact if_pos hb
        rw [ef, if_pos hb]
        exact ⟨s', p1, rfl⟩
      · have ef : fdN B i (N - (i + 1) + 1) = fdN B (i + 1) (N - (i + 1)) := by
          show (if B i = true then some i else fdN B (i + 1) (N - (i + 1))) = _
          exact if_neg hb
        rw [ef, if_neg hb]
        exact lp_hs F N P B r e h0 h1 n (i + 1) s' (by omega) (by omega) p1
    · have : i = N := by omega
      subst this
      rw [Nat.sub_self, h0 n s hp]
      exact ⟨s, hp, rfl⟩
theorem am_k {B : Nat → Bool} {k1 k2 : Nat → Nat} : ∀ n, (∀ p q, p < n → q < p → B p = true → B q = true → (k1 p < k1 q ↔ k2 p < k2 q)) → am B k1 n = am B k2 n
  | 0, _ => rfl
  | n + 1, h => by
    have ih := am_k (B := B) (k1 := k1) (k2 := k2) n (fun p q h1 h2 => h p q (by omega) h2)
    rw [am_1, am_1, ih]
    unfold amF
    by_cases hb : B n = true
    · rw [if_pos hb, if_pos hb]
      cases hm : am B k2 n with
      | none => rfl
      | some q =>
        have hq := am_some hm
        dsimp only
        by_cases hk : k2 n < k2 q
        · rw [if_pos hk, if_pos ((h n q (by omega) hq.1 hb hq.2.1).mpr hk)]
        · rw [if_neg hk, if_neg (fun z => hk ((h n q (by omega) hq.1 hb hq.2.1).mp z))]
    · rw [if_neg hb, if_neg hb]
/-- firsts by a map -/
theorem am_map {B C : Nat → Bool} {k1 k2 f : Nat → Nat} {n m : Nat} (h1 : ∀ k, k < n → B k = true → f k < m ∧ C (f k) = true) (h2 : ∀ h, h < m → C h = true → ∃ k, k < n ∧ B k = true ∧ f k = h) (h3 : ∀ k q, k < n → q < n → B k = true → B q = true → k ≠ q → k1 q ≤ k1 k → k2 (f q) < k2 (f k)) : am C k2 m = (am B k1 n).map f := by
  cases hm : am B k1 n with
  | none =>
    have h := am_none.mp hm
    refine am_none.mpr (fun p hp => ?_)
    cases hc : C p with
    | false => rfl
    | true =>
      obtain ⟨k, hk, hb, -⟩ := h2 p hp hc
      rw [h k hk] at hb; cases hb
  | some q =>
    obtain ⟨g1, g2, g3⟩ := am_some hm
    obtain ⟨a1, a2⟩ := h1 q g1 g2
    refine am_is a1 a2 (fun p hp hc hne => ?_)
    obtain ⟨k, hk, hb, rfl⟩ := h2 p hp hc
    exact h3 k q hk g1 hb g2 (fun e => hne (by rw [e])) (g3 k hk hb)
