/-! THE PLAIN PART: small words and loops -/
def bI (b : Bool) : Int32 := if b = true then 1 else 0
theorem bI_t : bI true = 1 := rfl
theorem bI_f : bI false = 0 := rfl
theorem bI_ite (c : Prop) [Decidable c] : (if c then some (1 : Int32) else some 0) = some (bI (decide c)) := by
  by_cases h : c <;> simp [h, bI]
theorem bI_ite' (c : Prop) [Decidable c] : (if c then some (0 : Int32) else some 1) = some (bI (!decide c)) := by
  by_cases h : c <;> simp [h, bI]
theorem bI_0 (b : Bool) : (bI b = 0) ↔ b = false := by cases b <;> simp [bI]
theorem bI_1 (b : Bool) : (bI b = 1) ↔ b = true := by cases b <;> simp [bI]
theorem bI_n (b : Bool) : bI b = nI (if b = true then 1 else 0) := by cases b <;> rfl
theorem inRn {n N : Nat} (h : n < N) (hN : N < 2 ^ 31) : inR (nI n) N = true := by
  unfold inR
  rw [nI_toInt (by omega)]
  exact decide_eq_true (by omega)
theorem gdn {α : Type} {n N : Nat} {k : Option α} (h : n < N ∧ N < 2 ^ 31) : gd (inR (nI n) N) k = k := gd_e (inRn h.1 h.2)
theorem gdT {α : Type} {k : Option α} : gd true k = k := rfl
theorem i0 : (0 : Int32) = nI 0 := rfl
theorem i1 : (1 : Int32) = nI 1 := rfl
theorem iadd0 (x : Int32) : x + 0 = x := Int32.add_zero x
theorem nI_m1 {n : Nat} (h : n < 2 ^ 31) : ¬ nI n = -1 := by
  intro e
  have := congrArg Int32.toInt e
  rw [nI_toInt h] at this
  have h2 : (-1 : Int32).toInt = -1 := by decide
  omega
theorem nI_m1' {n : Nat} (h : n < 2 ^ 31) : ¬ -1 = nI n := fun e => nI_m1 h e.symm
/-- loops that go up -/
def flN {S : Type} (f : Nat → S → S) : Nat → Nat → S → S
  | _, 0, s => s
  | i, k + 1, s => flN f (i + 1) k (f i s)
theorem flN_1 {S : Type} {f : Nat → S → S} : ∀ (k i : Nat) (s : S), flN f i (k + 1) s = f (i + k) (flN f i k s)
  | 0, i, s => rfl
  | k + 1, i, s => by
    show flN f (i + 1) (k + 1) (f i s) = _
    rw [flN_1 k (i + 1) (f i s)]
    show f (i + 1 + k) (flN f (i + 1) k (f i s)) = f (i + (k + 1)) (flN f (i + 1) k (f i s))
    rw [show i + 1 + k = i + (k + 1) by omega]
theorem flN_i {S : Type} {f : Nat → S → S} (P : Nat → S → Prop) : ∀ (k i : Nat) (s : S), P i s → (∀ j s, i ≤ j → j < i + k → P j s → P (j + 1) (f j s)) → P (i + k) (flN f i k s)
  | 0, i, s, h, _ => h
  | k + 1, i, s, h, hs => by
    have := flN_i P k (i + 1) (f i s) (hs i s (Nat.le_refl i) (by omega) h) (fun j s h1 h2 h3 => hs j s (by omega) (by omega) h3)
    rw [show i + (k + 1) = i + 1 + k by omega]
    exact this
theorem flN_c {S : Type} {f g : Nat → S → S} : ∀ (k i : Nat) (s : S), (∀ j s, i ≤ j → j < i + k → f j s = g j s) → flN f i k s = flN g i k s
  | 0, i, s, _ => rfl
  | k + 1, i, s, h => by
    show flN f (i + 1) k (f i s) = flN g (i + 1) k (g i s)
    rw [h i s (Nat.le_refl i) (by omega)]
    exact flN_c k (i + 1) _ (fun j s h1 h2 => h j s (by omega) (by omega))
/-- up to N, no way out -/
theorem lp_up {S R : Type} (F : Nat → Nat → S → Option R) (g : S → Option R) (f : Nat → S → S) (N : Nat) (h0 : ∀ n s, F (n + 1) N s = g s) (h1 : ∀ n i s, i < N → F (n + 1) i s = F n (i + 1) (f i s)) : ∀ (n i : Nat) (s : S), i ≤ N → N - i < n → F n i s = g (flN f i (N - i) s)
  | 0, i, s, _, h => absurd h (by omega)
  | n + 1, i, s, hi, hn => by
    by_cases h : i < N
    · rw [h1 n i s h, lp_up F g f N h0 h1 n (i + 1) (f i s) (by omega) (by omega), show N - i = (N - (i + 1)) + 1 by omega]
      rfl
    · have : i = N := by omega
      subst this
      rw [h0, Nat.sub_self]
      rfl
/-- the same where an invariant holds -/
theorem lp_upI {S R : Type} (F : Nat → Nat → S → Option R) (g : S → Option R) (f : Nat → S → S) (N : Nat) (P : Nat → S → Prop) (h0 : ∀ n s, P N s → F (n + 1) N s = g s) (h1 : ∀ n i s, i < N → P i s → F (n + 1) i s = F n (i + 1) (f i s)) (hP : ∀ i s, i < N → P i s → P (i + 1) (f i s)) : ∀ (n i : Nat) (s : S), i ≤ N → N - i < n → P i s → F n i s = g (flN f i (N - i) s) ∧ P N (flN f i (N - i) s)
  | 0, i, s, _, h, _ => absurd h (by omega)
  | n + 1, i, s, hi, hn, hp => by
    by_cases h : i < N
    · have := lp_upI F g f N P h0 h1 hP n (i + 1) (f i s) (by omega) (by omega) (hP i s h hp)
      rw [h1 n i s h hp, show N - i = (N - (i + 1)) + 1 by omega]
      exact this
    · have : i = N := by omega
      subst this
      rw [h0 _ _ hp, Nat.sub_self]
      exact ⟨rfl, hp⟩
/-- the first from i on, of k -/
def fdN (B : Nat → Bool) : Nat → Nat → Option Nat
  | _, 0 => none
  | i, k + 1 => if B i = true then some i else fdN B (i + 1) k
theorem fdN_some {B : Nat → Bool} : ∀ {k i j : Nat}, fdN B i k = some j → i ≤ j ∧ j < i + k ∧ B j = true ∧ ∀ q, i ≤ q → q < j → B q = false
  | 0, i, j, h => by cases h
  | k + 1, i, j, h => by
    unfold fdN at h
    by_cases hb : B i = true
    · rw [if_pos hb] at h
      cases h
      exact ⟨Nat.le_refl _, by omega, hb, fun q h1 h2 => absurd h2 (by omega)⟩
    · rw [if_neg hb] at h
      obtain ⟨a, b, c, d⟩ := fdN_some h
      refine ⟨by omega, by omega, c, fun q h1 h2 => ?_⟩
      by_cases hq : q = i
      · subst hq; exact Bool.eq_false_iff.mpr hb
      · exact d q (by omega) h2
theorem fdN_none {B : Nat → Bool} : ∀ {k i : Nat}, fdN B i k = none ↔ ∀ q, i ≤ q → q < i + k → B q = false
  | 0, i => ⟨fun _ q h1 h2 => absurd h2 (by omega), fun _ => rfl⟩
  | k + 1, i => by
    unfold fdN
    by_cases hb : B i = true
    · rw [if_pos hb]
      exact ⟨fun h => (by cases h), fun h => by rw [h i (Nat.le_refl _) (by omega)] at hb; cases hb⟩
    · rw [if_neg hb, fdN_none]
      refine ⟨fun h q h1 h2 => ?_, fun h q h1 h2 => h q (by omega) (by omega)⟩
      by_cases hq : q = i
      · subst hq; exact Bool.eq_false_iff.mpr hb
      · exact h q (by omega) (by omega)
theorem fdN_c {B C : Nat → Bool} : ∀ (k i : Nat), (∀ j, i ≤ j → j < i + k → B j = C j) → fdN B i k = fdN C i k
  | 0, _, _ => rfl
  | k + 1, i, h => by
    unfold fdN
    rw [h i (Nat.le_refl _) (by omega), fdN_c k (i + 1) (fun j h1 h2 => h j (by omega) (by omega))]
theorem fdN_any {B : Nat → Bool} {k i : Nat} : (fdN B i k).isSome = true ↔ ∃ q, i ≤ q ∧ q < i + k ∧ B q = true := by
  cases h : fdN B i k with
  | none =>
    have := fdN_none.mp h
    simp only [Option.isSome_none, Bool.false_eq_true, false_iff]
    rintro ⟨q, h1, h2, h3⟩
    rw [this q h1 h2] at h3; cases h3
  | some j =>
    obtain ⟨a, b, c, d⟩ := fdN_some h
    exact ⟨fun _ => ⟨j, a, b, c⟩, fun _ => rfl⟩
/-- a loop that looks for the first -/
theorem lp_fd {R : Type} (F : Nat → Nat → Option R) (r : Nat → Option R) (d : Option R) (B : Nat → Bool) (N : Nat) (h0 : ∀ n, F (n + 1) N = d) (h1 : ∀ n i, i < N → F (n + 1) i = if B i = true then r i else F n (i + 1)) : ∀ (n i : Nat), i ≤ N → N - i < n → F n i = match fdN B i (N - i) with | some j => r j | none => d
  | 0, i, _, h => absurd h (by omega)
  | n + 1, i, hi, hn => by
    by_cases h : i < N
    · rw [h1 n i h, show N - i = (N - (i + 1)) + 1 by omega]
      unfold fdN
      by_cases hb : B i = true
      · rw [if_pos hb, if_pos hb]
      · rw [if_neg hb, if_neg hb]
        exact lp_fd F r d B N h0 h1 n (i + 1) (by omega) (by omega)
    · have : i = N := by omega
      subst this
      rw [h0, Nat.sub_self]
      rfl
/-- how many -/
def cnN (B : Nat → Bool) (k : Nat) : Nat := flN (fun i s => s + if B i = true then 1 else 0) 0 k 0
theorem cnN_0 {B : Nat → Bool} : cnN B 0 = 0 := rfl
theorem cnN_1 {B : Nat → Bool} {k : Nat} : cnN B (k + 1) = cnN B k + if B k = true then 1 else 0 := by
  unfold cnN; rw [flN_1]; simp
theorem cnN_le {B : Nat → Bool} : ∀ k, cnN B k ≤ k
  | 0 => Nat.le_refl _
  | k + 1 => by
    rw [cnN_1]
    have := cnN_le (B := B) k
    split <;> omega
theorem cnN_c {B C : Nat → Bool} : ∀ k, (∀ j, j < k → B j = C j) → cnN B k = cnN C k
  | 0, _ => rfl
  | k + 1, h => by rw [cnN_1, cnN_1, h k (by omega), cnN_c k (fun j hj => h j (by omega))]
theorem cnN_mono {B C : Nat → Bool} : ∀ n, (∀ j, j < n → B j = true → C j = true) → cnN B n ≤ cnN C n
  | 0, _ => Nat.le_refl _
  | n + 1, h => by
    rw [cnN_1, cnN_1]
    have h1 := cnN_mono (B := B) (C := C) n (fun j hj => h j (by omega))
    have h2 := h n (by omega)
    by_cases hb : B n = true
    · rw [if_pos hb, if_pos (h2 hb)]; omega
    · rw [if_neg hb]; omega
theorem cnN_up {B C : Nat → Bool} {q : Nat} : ∀ n, q < n → B q = false → C q = true → (∀ j, j < n → j ≠ q → B j = C j) → cnN C n = cnN B n + 1
  | 0, h, _, _, _ => absurd h (by omega)
  | n + 1, h, hb, hc, he => by
    rw [cnN_1, cnN_1]
    by_cases hq : q = n
    · subst hq
      rw [if_pos hc, if_neg (by rw [hb]; nofun), cnN_c q (fun j hj => (he j (by omega) (by omega)))]
    · rw [cnN_up n (by omega) hb hc (fun j hj hne => he j (by omega) hne), he n (by omega) (fun z => hq z.symm)]
      omega
/-- a sum -/
def smN (f : Nat → Nat) (k : Nat) : Nat := flN (fun i s => s + f i) 0 k 0
theorem smN_1 {f : Nat → Nat} {k : Nat} : smN f (k + 1) = smN f k + f k := by
  unfold smN; rw [flN_1]; simp
theorem smN_c {f g : Nat → Nat} : ∀ k, (∀ j, j < k → f j = g j) → smN f k = smN g k
  | 0, _ => rfl
  | k + 1, h => by rw [smN_1, smN_1, h k (by omega), smN_c k (fun j hj => h j (by omega))]
theorem smN_le {f : Nat → Nat} {m : Nat} : ∀ k, (∀ j, j < k → f j ≤ m) → smN f k ≤ k * m
  | 0, _ => by simp [smN, flN]
  | k + 1, h => by
    rw [smN_1]
    have := smN_le (f := f) (m := m) k (fun j hj => h j (by omega))
    have := h k (by omega)
    rw [Nat.succ_mul]; omega
theorem FU_lt {n : Nat} (h : n < 10000) : n < FU := h
