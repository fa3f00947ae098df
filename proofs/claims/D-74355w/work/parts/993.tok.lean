/-! reading: the tape's bytes, tokens -/
/-- a byte of a text of so many bytes; behind it none -/
def byR (si : Nat) (g : Nat → Int32) (k : Nat) : Int32 := if k < si then g k else -1
def isBl (c : Int32) : Bool := decide (c = nI 32) || decide (c = nI 10)
def isL (c : Int32) : Bool := !decide (c < nI 97) && !decide (nI 122 < c)
def isD (c : Int32) : Bool := !decide (c < nI 48) && !decide (nI 57 < c)
/-- the first byte from one on that isn't of a kind -/
def skB (si : Nat) (g : Nat → Int32) (B : Int32 → Bool) (k : Nat) : Nat := match fdN (fun j => !B (byR si g j)) k (si - k) with
  | some j => j
  | none => if k ≤ si then si else k
section PTK
variable {ta tb : Nat → Int32} {si k n i : Nat} {c : Int32} {B : Int32 → Bool}
theorem m_byteAt (hs : si ≤ 900) (hk : k < 2 ^ 31) : f_X3_byteAt (nI si) ta (nI k) = some (byR si ta k) := by
  unfold f_X3_byteAt byR
  by_cases h : k < si
  · rw [if_neg (nI_ge h (by omega)), if_pos h, gdn ⟨by omega, by decide⟩, nI_clamp (by omega)]
  · rw [if_pos (nI_le (by omega) hk), if_neg h]
theorem m_isLetter : f_X3_isLetter c = some (bI (isL c)) := by
  unfold f_X3_isLetter isL
  by_cases h1 : c < nI 97
  · rw [if_pos h1, decide_eq_true h1]; rfl
  · rw [if_neg h1, decide_eq_false h1]
    by_cases h2 : nI 122 < c
    · rw [if_pos h2, decide_eq_true h2]; rfl
    · rw [if_neg h2, decide_eq_false h2]; rfl
theorem m_isDigit : f_X3_isDigit c = some (bI (isD c)) := by
  unfold f_X3_isDigit isD
  by_cases h1 : c < nI 48
  · rw [if_pos h1, decide_eq_true h1]; rfl
  · rw [if_neg h1, decide_eq_false h1]
    by_cases h2 : nI 57 < c
    · rw [if_pos h2, decide_eq_true h2]; rfl
    · rw [if_neg h2, decide_eq_false h2]; rfl
/-- a byte lies in a range of letters or digits on the one tape where it does on the other -/
theorem Byt.rng {x y lo hi : Int32} (H : Byt x y) (h0 : ¬ lo < 0) (h1 : hi ≤ nI 127) : (!decide (y < lo) && !decide (hi < y)) = (!decide (x < lo) && !decide (hi < x)) := by
  rcases H with ⟨z1, z2, z3⟩ | ⟨z1, z2⟩
  · rw [z3]
  · have a1 : y < lo := by
      rw [Int32.lt_iff_toInt_lt] at z1 h0 ⊢
      omega
    have a2 : hi < x := by
      rw [Int32.le_iff_toInt_le] at z2 h1
      rw [Int32.lt_iff_toInt_lt]
      rw [show (nI 127).toInt = 127 by decide] at h1
      rw [show (nI 128).toInt = 128 by decide] at z2
      omega
    rw [decide_eq_true a1, decide_eq_true a2]
    simp
theorem byR_in (h : byR si ta k ≠ -1) : k < si := by
  unfold byR at h
  by_cases hk : k < si
  · exact hk
  · rw [if_neg hk] at h; exact absurd rfl h
theorem sk_stop (h : B (byR si ta k) = false) (hk : k ≤ si) : skB si ta B k = k := by
  unfold skB
  by_cases hs : k < si
  · obtain ⟨d, hd⟩ : ∃ d, si - k = d + 1 := ⟨si - k - 1, by omega⟩
    rw [hd]
    have : fdN (fun j => !B (byR si ta j)) k (d + 1) = some k := by
      show (if (!B (byR si ta k)) = true then some k else _) = some k
      rw [h]; rfl
    rw [this]
  · have : si - k = 0 := by omega
    rw [this]
    show (if k ≤ si then si else k) = k
    rw [if_pos hk]; omega
theorem sk_step (hB : B (-1) = false) (h : B (byR si ta k) = true) : k < si ∧ skB si ta B k = skB si ta B (k + 1) := by
  have hs : k < si := byR_in (fun e => by rw [e, hB] at h; cases h)
  refine ⟨hs, ?_⟩
  unfold skB
  obtain ⟨d, hd⟩ : ∃ d, si - k = d + 1 := ⟨si - k - 1, by omega⟩
  rw [hd, show si - (k + 1) = d by omega]
  have : fdN (fun j => !B (byR si ta j)) k (d + 1) = fdN (fun j => !B (byR si ta j)) (k + 1) d := by
    show (if (!B (byR si ta k)) = true then some k else _) = _
    rw [h]; rfl
  rw [this]
  cases fdN (fun j => !B (byR si ta j)) (k + 1) d with
  | some j => rfl
  | none => dsimp only; rw [if_pos (by omega), if_pos (by omega)]
/-- letters joined, digits joined -/
def cd8 (g : Nat → Int32) (f : Nat) : Nat → Int64
  | 0 => 0
  | n + 1 => (cd8 g f n <<< (((nI 5) : Int32).toInt64 &&& 63)) ||| ((g (f + n)).toInt64 - 96)
def nm3 (g : Nat → Int32) (f : Nat) : Nat → Int32
  | 0 => 0
  | n + 1 => (nI 10 * nm3 g f n + g (f + n)) - nI 48
theorem isL_no : isL (-1) = false := by decide
theorem isD_no : isD (-1) = false := by decide
theorem isBl_no : isBl (-1) = false := by decide
theorem nI_sb {a b : Nat} (h : b ≤ a) : nI a - nI b = nI (a - b) := by
  have h3 : nI (a - b) + nI b = nI a := by rw [nI_add, show a - b + b = a by omega]
  rw [← h3]; exact Int32.add_sub_cancel _ _
theorem byR_lt (h : k < si) : byR si ta k = ta k := if_pos h
theorem m_go81 {f : Nat} {kd nu : Int32} (hs : si ≤ 900) : ∀ (d t m : Nat), si - t < d → f ≤ t → t ≤ si → f_X3_go_81 (m + d) (nI si) ta (nI f) (nI t) kd nu (cd8 ta f (min 8 (t - f))) = some (nI f, nI (skB si ta isL t), (if skB si ta isL t - f ≤ 8 then nI 2 else 1), nu, cd8 ta f (min 8 (skB si ta isL t - f)))
  | 0, t, m, h, _, _ => by omega
  | d + 1, t, m, h, hf, ht => by
    rw [show m + (d + 1) = m + d + 1 from rfl, f_X3_go_81, m_byteAt hs (by omega), Option.bind_some, m_isLetter, Option.bind_some, nI_sb hf]
    cases hl : isL (byR si ta t)
    · rw [if_pos (show bI false = 0 from rfl), sk_stop hl ht]
      by_cases h8 : t - f ≤ 8
      · rw [if_pos (nI_le h8 (by decide)), if_pos h8]; rfl
      · rw [if_neg (nI_ge (by omega) (by omega)), if_neg h8]; rfl
    · obtain ⟨hts, e⟩ := sk_step isL_no hl
      rw [if_neg (show ¬ bI true = 0 by decide), e]
      by_cases h8 : 8 ≤ t - f
      · rw [if_pos (nI_le h8 (by omega))]
        unfold f_X3_go_133
        have := m_go81 (f := f) (kd := kd) (nu := nu) hs d (t + 1) m (by omega) (by omega) (by omega)
        rw [show min 8 (t + 1 - f) = min 8 (t - f) by omega] at this
        rw [nI_1]; exact this
      · rw [if_neg (nI_ge (by omega) (by decide)), Option.bind_some]
        unfold f_X3_go_133
        have := m_go81 (f := f) (kd := kd) (nu := nu) hs d (t + 1) m (by omega) (by omega) (by omega)
        rw [show min 8 (t + 1 - f) = min 8 (t - f) + 1 by omega] at this
        have ec : cd8 ta f (min 8 (t - f) + 1) = (cd8 ta f (min 8 (t - f)) <<< (((nI 5) : Int32).toInt64 &&& 63)) ||| ((byR si ta t).toInt64 - 96) := by
          rw [byR_lt hts]
          show _ ||| ((ta (f + min 8 (t - f))).toInt64 - 96) = _
          rw [show f + min 8 (t - f) = t by omega]
        rw [← ec, nI_1]; exact this
theorem m_go184 {f : Nat} {kd : Int32} {wd : Int64} (hs : si ≤ 900) : ∀ (d t m : Nat), si - t < d → f ≤ t → t ≤ si → f_X3_go_184 (m + d) (nI si) ta (nI f) (nI t) kd (nm3 ta f (min 3 (t - f))) wd = some (nI f, nI (skB si ta isD t), (if skB si ta isD t - f ≤ 3 then nI 3 else 1), nm3 ta f (min 3 (skB si ta isD t - f)), wd)
  | 0, t, m, h, _, _ => by omega
  | d + 1, t, m, h, hf, ht => by
    rw [show m + (d + 1) = m + d + 1 from rfl, f_X3_go_184, m_byteAt hs (by omega), Option.bind_some, m_isDigit, Option.bind_some, nI_sb hf]
    cases hl : isD (byR si ta t)
    · rw [if_pos (show bI false = 0 from rfl), sk_stop hl ht]
      by_cases h8 : t - f ≤ 3
      · rw [if_pos (nI_le h8 (by decide)), if_pos h8]; rfl
      · rw [if_neg (nI_ge (by omega) (by omega)), if_neg h8]; rfl
    · obtain ⟨hts, e⟩ := sk_step isD_no hl
      rw [if_neg (show ¬ bI true = 0 by decide), e]
      by_cases h8 : 3 ≤ t - f
      · rw [if_pos (nI_le h8 (by omega))]
        unfold f_X3_go_234
        have := m_go184 (f := f) (kd := kd) (wd := wd) hs d (t + 1) m (by omega) (by omega) (by omega)
        rw [show min 3 (t + 1 - f) = min 3 (t - f) by omega] at this
        rw [nI_1]; exact this
      · rw [if_neg (nI_ge (by omega) (by decide)), Option.bind_some]
        unfold f_X3_go_234
        have := m_go184 (f := f) (kd := kd) (wd := wd) hs d (t + 1) m (by omega) (by omega) (by omega)
        rw [show min 3 (t + 1 - f) = min 3 (t - f) + 1 by omega] at this
        have ec : nm3 ta f (min 3 (t - f) + 1) = ((nI 10 * nm3 ta f (min 3 (t - f))) + byR si ta t) - nI 48 := by
          rw [byR_lt hts]
          show (nI 10 * nm3 ta f (min 3 (t - f)) + ta (f + min 3 (t - f))) - nI 48 = _
          rw [show f + min 3 (t - f) = t by omega]
        rw [← ec, nI_1]; exact this
/-- a token: where it begins, where the next may, its kind (as the reference numbers them), its number, its word -/
def tkR (si : Nat) (g : Nat → Int32) (t : Nat) (nu : Int32) (wd : Int64) : Int32 × Int32 × Int32 × Int32 × Int64 :=
  if byR si g (skB si g isBl t) = -1 then (nI (skB si g isBl t), nI (skB si g isBl t), 0, nu, wd)
  else if isL (byR si g (skB si g isBl t)) = true then (nI (skB si g isBl t), nI (skB si g isL (skB si g isBl t)), (if skB si g isL (skB si g isBl t) - skB si g isBl t ≤ 8 then nI 2 else 1), nu, cd8 g (skB si g isBl t) (min 8 (skB si g isL (skB si g isBl t) - skB si g isBl t)))
  else if isD (byR si g (skB si g isBl t)) = true then (nI (skB si g isBl t), nI (skB si g isD (skB si g isBl t)), (if skB si g isD (skB si g isBl t) - skB si g isBl t ≤ 3 then nI 3 else 1), nm3 g (skB si g isBl t) (min 3 (skB si g isD (skB si g isBl t) - skB si g isBl t)), wd)
  else (nI (skB si g isBl t), nI (skB si g isBl t + 1), (if byR si g (skB si g isBl t) = nI 59 then nI 4 else 1), nu, wd)
theorem m_go {fr kd nu : Int32} {wd : Int64} (hs : si ≤ 900) {t : Nat} (ht : t ≤ si) : f_X3_go (nI si) ta fr (nI t) kd nu wd = some (tkR si ta t nu wd) := by
  have key : ∀ (d t m : Nat), si - t < d → t ≤ si → f_X3_go_0 (m + d) (nI si) ta fr (nI t) kd nu wd = some (tkR si ta t nu wd) := by
    intro d
    induction d with
    | zero => intro t m h _; omega
    | succ d ih =>
      intro t m h ht
      rw [show m + (d + 1) = m + d + 1 from rfl, f_X3_go_0, m_byteAt hs (by omega), Option.bind_some, Option.bind_some, Option.bind_some]
      have step : isBl (byR si ta t) = true → f_X3_go_26 (f_X3_go_0 (m + d) (nI si) ta) (nI si) ta fr (nI t) kd nu wd = some (tkR si ta t nu wd) := fun hb => by
        obtain ⟨hts, e⟩ := sk_step isBl_no hb
        unfold f_X3_go_26
        rw [nI_1, ih (t + 1) m (by omega) (by omega)]
        unfold tkR
        rw [e]
      by_cases h32 : byR si ta t = nI 32
      · rw [if_pos h32]
        exact step (by unfold isBl; rw [decide_eq_true h32]; rfl)
      rw [if_neg h32]
      by_cases h10 : byR si ta t = nI 10
      · rw [if_pos h10]
        exact step (by unfold isBl; rw [decide_eq_true h10, Bool.or_true])
      rw [if_neg h10]
      have hb : isBl (byR si ta t) = false := by unfold isBl; rw [decide_eq_false h32, decide_eq_false h10]; rfl
      unfold tkR
      rw [sk_stop hb ht]
      by_cases h1 : byR si ta t = -1
      · rw [if_pos h1, if_pos h1]
      rw [if_neg h1, if_neg h1, m_isLetter, Option.bind_some]
      cases hl : isL (byR si ta t)
      case true =>
        rw [if_neg (show ¬ bI true = 0 by decide), if_pos rfl]
        have := m_go81 (ta := ta) (f := t) (kd := kd) (nu := nu) hs 1000 t 9000 (by omega) (Nat.le_refl _) ht
        rw [Nat.sub_self] at this
        exact this
      case false =>
        rw [if_pos (show bI false = 0 from rfl), if_neg (show ¬ false = true by nofun), m_isDigit, Option.bind_some]
        cases hd : isD (byR si ta t)
        case true =>
          rw [if_neg (show ¬ bI true = 0 by decide), if_pos rfl]
          have := m_go184 (ta := ta) (f := t) (kd := kd) (wd := wd) hs 1000 t 9000 (by omega) (Nat.le_refl _) ht
          rw [Nat.sub_self] at this
          exact this
        case false =>
          rw [if_pos (show bI false = 0 from rfl), if_neg (show ¬ false = true by nofun), nI_1]
          by_cases h59 : byR si ta t = nI 59
          · rw [if_pos h59, if_pos h59]; rfl
          · rw [if_neg h59, if_neg h59]; rfl
  exact key 1000 t 9000 (by omega) ht
end PTK
