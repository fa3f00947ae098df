/-! THE COMPONENT's side: what is asked; loops over functions -/
/-- later: all as it was but for the register's own cell -/
def Lt (r : Nat) (h0 : AH) (n0 : Nat) (h : AH) (nx : Nat) : Prop := n0 ≤ nx ∧ ∀ q, q < n0 → q ≠ r → h q = h0 q
section PLT
variable {r : Nat} {h h0 h1 h2 : AH} {nx n0 n1 n2 : Nat} {E : bE} {N q q2 bc bs : Nat} {P : AH → Nat → Prop} {B : Nat → Bool} {f : Nat → Int32} {key : Nat → Nat}
theorem Lt.rfl' : Lt r h nx h nx := ⟨Nat.le_refl _, fun _ _ _ => rfl⟩
theorem Lt.trans (A : Lt r h0 n0 h1 n1) (B : Lt r h1 n1 h2 n2) : Lt r h0 n0 h2 n2 := ⟨Nat.le_trans A.1 B.1, fun q hq hr => (B.2 q (Nat.lt_of_lt_of_le hq A.1) hr).trans (A.2 q hq hr)⟩
theorem Lt.new {e : hE} : Lt r h nx (hu h nx e) (nx + 1) := ⟨by omega, fun q hq _ => hu_n (by omega)⟩
theorem Lt.one (hk : ∀ q, q ≠ r → h1 q = h q) : Lt r h nx h1 nx := ⟨Nat.le_refl _, fun q _ hr => hk q hr⟩
theorem x_count4 (hN : N < 2 ^ 31) (st : ∀ h nx k, k < N → P h nx → ∃ h' c d, E.2.1 h nx q (nI k) = some (bI (B k), h', c, d) ∧ P h' (nx + c) ∧ c ≤ bc ∧ d ≤ bs) : ∀ (k i m s : Nat) (h : AH) (nx : Nat), i + k = N → P h nx → ∃ h' c d, f_X1_count_4 (m + k + 1) E (nI N) q (nI s) (nI i) h nx = some (nI (flN (fun i s => s + if B i = true then 1 else 0) i k s), h', c, d) ∧ P h' (nx + c) ∧ c ≤ k * bc ∧ d ≤ k * bs
  | 0, i, m, s, h, nx, hi, hP => by
    rw [f_X1_count_4, if_pos (by rw [show i = N by omega]; exact nI_leR _)]
    exact ⟨h, 0, 0, rfl, hP, by omega, by omega⟩
  | k + 1, i, m, s, h, nx, hi, hP => by
    obtain ⟨h1, c1, d1, e1, p1, b1, b2⟩ := st h nx i (by omega) hP
    obtain ⟨h2, c2, d2, e2, p2, b3, b4⟩ := x_count4 hN st k (i + 1) m (s + if B i = true then 1 else 0) h1 (nx + c1) (by omega) p1
    rw [show m + (k + 1) + 1 = (m + k + 1) + 1 by omega, f_X1_count_4, if_neg (nI_ge (by omega) hN), e1, Option.bind_some]
    dsimp only
    rw [one_b, Option.bind_some, nI_1, bI_n, nI_add, e2, aC_some]
    refine ⟨h2, _, _, rfl, ?_, ?_, ?_⟩
    · rw [← Nat.add_assoc]; exact p2
    · rw [Nat.succ_mul]; omega
    · rw [Nat.succ_mul]; omega
theorem x_count (hN : N ≤ 1000) (st : ∀ h nx k, k < N → P h nx → ∃ h' c d, E.2.1 h nx q (nI k) = some (bI (B k), h', c, d) ∧ P h' (nx + c) ∧ c ≤ bc ∧ d ≤ bs) (hP : P h nx) : ∃ h' c d, f_X1_count E h nx (nI N) q = some (nI (cnN B N), h', c, d) ∧ P h' (nx + c) ∧ c ≤ N * bc ∧ d ≤ N * bs := by
  have := x_count4 (by omega) st N 0 (FU - N - 1) 0 h nx (by omega) hP
  rw [show FU - N - 1 + N + 1 = FU by unfold FU; omega] at this
  exact this
theorem x_sum4 (hN : N < 2 ^ 31) (st : ∀ h nx k, k < N → P h nx → ∃ h' c d, E.2.2.2 h nx q (nI k) = some (f k, h', c, d) ∧ P h' (nx + c) ∧ c ≤ bc ∧ d ≤ bs) : ∀ (k i m : Nat) (s : Int32) (h : AH) (nx : Nat), i + k = N → P h nx → ∃ h' c d, f_X1_sum_4 (m + k + 1) E (nI N) q s (nI i) h nx = some (flN (fun i s => s + f i) i k s, h', c, d) ∧ P h' (nx + c) ∧ c ≤ k * bc ∧ d ≤ k * bs
  | 0, i, m, s, h, nx, hi, hP => by
    rw [f_X1_sum_4, if_pos (by rw [show i = N by omega]; exact nI_leR _)]
    exact ⟨h, 0, 0, rfl, hP, by omega, by omega⟩
  | k + 1, i, m, s, h, nx, hi, hP => by
    obtain ⟨h1, c1, d1, e1, p1, b1, b2⟩ := st h nx i (by omega) hP
    obtain ⟨h2, c2, d2, e2, p2, b3, b4⟩ := x_sum4 hN st k (i + 1) m (s + f i) h1 (nx + c1) (by omega) p1
    rw [show m + (k + 1) + 1 = (m + k + 1) + 1 by omega, f_X1_sum_4, if_neg (nI_ge (by omega) hN), e1, Option.bind_some]
    dsimp only
    rw [nI_1, e2, aC_some]
    refine ⟨h2, _, _, rfl, ?_, ?_, ?_⟩
    · rw [← Nat.add_assoc]; exact p2
    · rw [Nat.succ_mul]; omega
    · rw [Nat.succ_mul]; omega
def sm32 (f : Nat → Int32) (k : Nat) : Int32 := flN (fun i s => s + f i) 0 k 0
theorem sm32_1 {k : Nat} : sm32 f (k + 1) = sm32 f k + f k := by
  unfold sm32; rw [flN_1]; simp
theorem sm32_c {g : Nat → Int32} : ∀ k, (∀ j, j < k → f j = g j) → sm32 f k = sm32 g k
  | 0, _ => rfl
  | k + 1, h => by rw [sm32_1, sm32_1, h k (by omega), sm32_c k (fun j hj => h j (by omega))]
theorem sm32_n {g : Nat → Nat} : ∀ k, sm32 (fun i => nI (g i)) k = nI (smN g k)
  | 0 => rfl
  | k + 1 => by rw [sm32_1, smN_1, sm32_n k, nI_add]
theorem x_sum (hN : N ≤ 1000) (st : ∀ h nx k, k < N → P h nx → ∃ h' c d, E.2.2.2 h nx q (nI k) = some (f k, h', c, d) ∧ P h' (nx + c) ∧ c ≤ bc ∧ d ≤ bs) (hP : P h nx) : ∃ h' c d, f_X1_sum E h nx (nI N) q = some (sm32 f N, h', c, d) ∧ P h' (nx + c) ∧ c ≤ N * bc ∧ d ≤ N * bs := by
  have := x_sum4 (by omega) st N 0 (FU - N - 1) 0 h nx (by omega) hP
  rw [show FU - N - 1 + N + 1 = FU by unfold FU; omega] at this
  exact this
theorem x_great4 (hN : N < 2 ^ 31) (st : ∀ h nx k, k < N → P h nx → ∃ h' c d, E.2.2.2 h nx q (nI k) = some (f k, h', c, d) ∧ P h' (nx + c) ∧ c ≤ bc ∧ d ≤ bs) : ∀ (k i m : Nat) (s : Int32) (h : AH) (nx : Nat), i + k = N → P h nx → ∃ h' c d, f_X1_greatest_4 (m + k + 1) E (nI N) q s (nI i) h nx = some (flN (fun i s => mx32 s (f i)) i k s, h', c, d) ∧ P h' (nx + c) ∧ c ≤ k * bc ∧ d ≤ k * bs
  | 0, i, m, s, h, nx, hi, hP => by
    rw [f_X1_greatest_4, if_pos (by rw [show i = N by omega]; exact nI_leR _)]
    exact ⟨h, 0, 0, rfl, hP, by omega, by omega⟩
  | k + 1, i, m, s, h, nx, hi, hP => by
    obtain ⟨h1, c1, d1, e1, p1, b1, b2⟩ := st h nx i (by omega) hP
    obtain ⟨h2, c2, d2, e2, p2, b3, b4⟩ := x_great4 hN st k (i + 1) m (mx32 s (f i)) h1 (nx + c1) (by omega) p1
    rw [show m + (k + 1) + 1 = (m + k + 1) + 1 by omega, f_X1_greatest_4, if_neg (nI_ge (by omega) hN), e1, Option.bind_some]
    dsimp only
    rw [m_max, Option.bind_some, nI_1, e2, aC_some]
    refine ⟨h2, _, _, rfl, ?_, ?_, ?_⟩
    · rw [← Nat.add_assoc]; exact p2
    · rw [Nat.succ_mul]; omega
    · rw [Nat.succ_mul]; omega
def gr32 (f : Nat → Int32) (k : Nat) : Int32 := flN (fun i s => mx32 s (f i)) 0 k 0
theorem x_great (hN : N ≤ 1000) (st : ∀ h nx k, k < N → P h nx → ∃ h' c d, E.2.2.2 h nx q (nI k) = some (f k, h', c, d) ∧ P h' (nx + c) ∧ c ≤ bc ∧ d ≤ bs) (hP : P h nx) : ∃ h' c d, f_X1_greatest E h nx (nI N) q = some (gr32 f N, h', c, d) ∧ P h' (nx + c) ∧ c ≤ N * bc ∧ d ≤ N * bs := by
  have := x_great4 (by omega) st N 0 (FU - N - 1) 0 h nx (by omega) hP
  rw [show FU - N - 1 + N + 1 = FU by unfold FU; omega] at this
  exact this
theorem eO_neg {o : Option Nat} (ho : ∀ z, o = some z → z < 2 ^ 31) : (eO o < 0) ↔ o = none := by
  cases o with
  | none => exact ⟨fun _ => rfl, fun _ => by decide⟩
  | some z => exact ⟨fun h => absurd h (nI_pos (ho z rfl)), fun h => by cases h⟩
theorem x_first5 (hN : N < 2 ^ 31) (sc : ∀ h nx k, k < N → P h nx → ∃ h' c d, E.2.1 h nx q (nI k) = some (bI (B k), h', c, d) ∧ P h' (nx + c) ∧ c ≤ bc ∧ d ≤ bs) (sb : ∀ h nx a b, a < N → b < N → b < a → B a = true → B b = true → P h nx → ∃ h' v c d, E.2.2.1 h nx q2 (nI a) (nI b) = some (v, h', c, d) ∧ P h' (nx + c) ∧ (v < 0 ↔ key a < key b) ∧ c ≤ bc ∧ d ≤ bs) : ∀ (k i m : Nat) (best : Option Nat) (h : AH) (nx : Nat), i + k = N → (∀ z, best = some z → z < i ∧ B z = true) → P h nx → ∃ h' c d, f_X1_first_5 (m + k + 1) E (nI N) q q2 (eO best) (nI i) h nx = some (eO (flN (amF B key) i k best), h', c, d) ∧ P h' (nx + c) ∧ c ≤ k * (2 * bc) ∧ d ≤ k * (2 * bs)
  | 0, i, m, best, h, nx, hi, hb, hP => by
    rw [f_X1_first_5, if_pos (by rw [show i = N by omega]; exact nI_leR _)]
    exact ⟨h, 0, 0, rfl, hP, by omega, by omega⟩
  | k + 1, i, m, best, h, nx, hi, hb, hP => by
    obtain ⟨h1, c1, d1, e1, p1, b1, b2⟩ := sc h nx i (by omega) hP
    rw [show m + (k + 1) + 1 = (m + k + 1) + 1 by omega, f_X1_first_5, if_neg (nI_ge (by omega) hN), e1, Option.bind_some]
    dsimp only
    rw [nI_1]
    have go : ∀ (best' : Option Nat), (∀ z, best' = some z → z < i + 1 ∧ B z = true) → amF B key i best = best' → ∀ h2 c2 d2, P h2 (nx + c1 + c2) → c2 ≤ bc → d2 ≤ bs → ∃ h' c d, aC c1 d1 (aC c2 d2 (f_X1_first_5 (m + k + 1) E (nI N) q q2 (eO best') (nI (i + 1)) h2 (nx + c1 + c2))) = some (eO (flN (amF B key) i (k + 1) best), h', c, d) ∧ P h' (nx + c) ∧ c ≤ (k + 1) * (2 * bc) ∧ d ≤ (k + 1) * (2 * bs) := by
      intro best' hb' hm h2 c2 d2 p2 g1 g2
      obtain ⟨h3, c3, d3, e3, p3, b3, b4⟩ := x_first5 hN sc sb k (i + 1) m best' h2 (nx + c1 + c2) (by omega) hb' p2
      rw [e3, aC_some, aC_some]
      refine ⟨h3, _, _, by show some _ = some (eO (flN (amF B key) (i + 1) k (amF B key i best)), _, _, _); rw [hm], ?_, ?_, ?_⟩
      · rw [show nx + (c1 + (c2 + c3)) = nx + c1 + c2 + c3 by omega]; exact p3
      · rw [Nat.succ_mul]; omega
      · rw [Nat.succ_mul]; omega
    by_cases hB : B i = true
    · rw [hB, if_neg (show ¬ bI true = 0 by decide)]
      cases hbe : best with
      | none =>
        rw [if_pos (show eO none < 0 by decide)]
        have := go (some i) (fun z hz => by cases hz; exact ⟨by omega, hB⟩) (by rw [hbe]; unfold amF; rw [if_pos hB]) h1 0 0 (by simpa using p1) (by omega) (by omega)
        rw [aC00, Nat.add_zero, hbe] at this
        exact this
      | some z =>
        have hz := hb z hbe
        rw [if_neg (show ¬ eO (some z) < 0 from nI_pos (by omega))]
        obtain ⟨h2, v, c2, d2, e2, p2, k2, b3, b4⟩ := sb h1 (nx + c1) i z (by omega) (by omega) (by omega) hB hz.2 p1
        rw [show eO (some z) = nI z from rfl, e2, Option.bind_some]
        dsimp only
        by_cases hv : v < 0
        · rw [if_neg (Int32.not_le.mpr hv)]
          have := go (some i) (fun z hz => by cases hz; exact ⟨by omega, hB⟩) (by rw [hbe]; unfold amF; rw [if_pos hB]; dsimp only; rw [if_pos (k2.mp hv)]) h2 c2 d2 p2 b3 b4
          rw [hbe] at this
          exact this
        · rw [if_pos (Int32.not_lt.mp hv)]
          have := go (some z) (fun y hy => by cases hy; exact ⟨by omega, hz.2⟩) (by rw [hbe]; unfold amF; rw [if_pos hB]; dsimp only; rw [if_neg (fun t => hv (k2.mpr t))]) h2 c2 d2 p2 b3 b4
          rw [hbe] at this
          exact this
    · rw [Bool.eq_false_iff.mpr hB, if_pos (show bI false = 0 from rfl)]
      have := go best (fun z hz => ⟨by have := (hb z hz).1; omega, (hb z hz).2⟩) (by unfold amF; rw [if_neg hB]) h1 0 0 (by simpa using p1) (by omega) (by omega)
      rw [aC00, Nat.add_zero] at this
      exact this
theorem x_first (hN : N ≤ 1000) (sc : ∀ h nx k, k < N → P h nx → ∃ h' c d, E.2.1 h nx q (nI k) = some (bI (B k), h', c, d) ∧ P h' (nx + c) ∧ c ≤ bc ∧ d ≤ bs) (sb : ∀ h nx a b, a < N → b < N → b < a → B a = true → B b = true → P h nx → ∃ h' v c d, E.2.2.1 h nx q2 (nI a) (nI b) = some (v, h', c, d) ∧ P h' (nx + c) ∧ (v < 0 ↔ key a < key b) ∧ c ≤ bc ∧ d ≤ bs) (hP : P h nx) : ∃ h' c d, f_X1_first E h nx (nI N) q q2 = some (eO (am B key N), h', c, d) ∧ P h' (nx + c) ∧ c ≤ N * (2 * bc) ∧ d ≤ N * (2 * bs) := by
  have := x_first5 (by omega) sc sb N 0 (FU - N - 1) none h nx (by omega) (fun z hz => by cases hz) hP
  rw [show FU - N - 1 + N + 1 = FU by unfold FU; omega] at this
  exact this
end PLT
