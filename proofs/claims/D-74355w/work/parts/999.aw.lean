/-! reading: words that are no names; names; the reference's small readers -/
def cst (k : Nat) : List Nat := ([[114, 101, 102, 117, 115, 101], [98, 97, 114], [108, 111, 99, 97, 108], [113, 117, 111, 116, 97], [97, 103, 101], [98, 105, 100, 115], [104, 111, 109, 101], [104, 111, 117, 115, 101], [114, 117, 108, 101], [105, 110], [104, 111, 117, 115, 101, 32], [32, 105, 110, 32], [32], [59], [114, 117, 108, 101, 32], [104, 111, 109, 101, 32], [], [105, 110], [114, 117, 108, 101], [104, 111, 109, 101], [104, 111, 117, 115, 101]] : List (List Nat)).getD k []
def cstL (k : Nat) : Nat := (cst k).length
def cstG (k i : Nat) : Int32 := nI ((cst k).getD i 0)
def cstW (k : Nat) : Int64 := cd8 (cstG k) 0 (cstL k)
/-- a word: its length, its letters, its number -/
def Wrd (v : Int64) (n : Nat) (g : Nat → Int32) : Prop := n ≤ 8 ∧ (∀ i, i < n → isL (g i) = true) ∧ v = cd8 g 0 n
/-- a String that is a word -/
def NmH (h : AH) (s b : Nat) (v : Int64) : Prop := ∃ (n : Nat) (g : Nat → Int32), Wrd v n g ∧ StrH h s b n g
section PAW
variable {h h' : AH} {E : bE} {a a' b b' n n' m k f : Nat} {g g' : Nat → Int32} {v v' wd : Int64} {kd : Int32} {rn : Nat → Int64} {rd : Rw}
theorem cd8_sh : ∀ n, cd8 g f n = cd8 (fun i => g (f + i)) 0 n
  | 0 => rfl
  | n + 1 => by
    show (cd8 g f n <<< (((nI 5) : Int32).toInt64 &&& 63)) ||| ((g (f + n)).toInt64 - (96 : Int64)) = (cd8 (fun i => g (f + i)) 0 n <<< (((nI 5) : Int32).toInt64 &&& 63)) ||| ((g (f + (0 + n))).toInt64 - (96 : Int64))
    rw [cd8_sh n, Nat.zero_add]
theorem Wrd.inj (H1 : Wrd v n g) (H2 : Wrd v' n' g') : v = v' ↔ (n = n' ∧ ∀ i, i < n → g i = g' i) := by
  obtain ⟨a1, a2, a3⟩ := H1
  obtain ⟨b1, b2, b3⟩ := H2
  have key := cd8_inj (g := g) (g' := g') (f := 0) (f' := 0) a1 b1 (fun i hi => by rw [Nat.zero_add]; exact a2 i hi) (fun i hi => by rw [Nat.zero_add]; exact b2 i hi)
  simp only [Nat.zero_add] at key
  rw [a3, b3]; exact key
theorem StrH.kept (S : StrH h a b n g) (ha : h' a = h a) (hb : h' b = h b) : StrH h' a b n g := by
  obtain ⟨x, y, f, s1, s2, s3⟩ := S
  exact ⟨x, y, f, ha.trans s1, hb.trans s2, s3⟩
theorem NmH.kept (N : NmH h a b v) (ha : h' a = h a) (hb : h' b = h b) : NmH h' a b v := by
  obtain ⟨n, g, w, s⟩ := N
  exact ⟨n, g, w, s.kept ha hb⟩
theorem NmH.o (N : NmH h a b v) : isO h a 13 = true := by
  obtain ⟨n, g, w, s⟩ := N
  exact s.o
theorem nm_eq (N1 : NmH h a b v) (N2 : NmH h a' b' v') : f_J9_equals E h a a' = some (bI (decide (v = v'))) := by
  obtain ⟨n, g, w1, s1⟩ := N1
  obtain ⟨n', g', w2, s2⟩ := N2
  rw [str_eq s1 s2 (by have := w1.1; omega) (by have := w2.1; omega)]
  exact congrArg (fun z => some (bI z)) (decide_eq_decide.mpr (w1.inj w2).symm)
theorem cst_w (hk : k < 10 ∨ (17 ≤ k ∧ k < 21)) : Wrd (cstW k) (cstL k) (cstG k) := by
  have : ∀ k, k < 21 → (k < 10 ∨ 17 ≤ k) → cstL k ≤ 8 ∧ ∀ i, i < cstL k → isL (cstG k i) = true := by decide +kernel
  obtain ⟨z1, z2⟩ := this k (by omega) (by omega)
  exact ⟨z1, z2, rfl⟩
theorem cst_n (hk : k < 10 ∨ (17 ≤ k ∧ k < 21)) (S : StrH h a b (cstL k) (cstG k)) : NmH h a b (cstW k) := ⟨_, _, cst_w hk, S⟩
theorem m_wordOf (hk : k < 10) : f_X3_wordOf (nI k) = some (cstW k) := by
  have : ∀ k, k < 10 → f_X3_wordOf (nI k) = some (cstW k) := by decide +kernel
  exact this k hk
theorem m_isWord (hk : k < 10) : f_X3_isWord kd wd (nI k) = some (bI (decide (kd = nI 2) && decide (wd = cstW k))) := by
  unfold f_X3_isWord
  by_cases h : kd = nI 2
  · rw [if_pos h, m_wordOf hk, Option.bind_some, decide_eq_true h, Bool.true_and]
    by_cases h2 : wd = cstW k
    · rw [if_pos ((lg_cmp_eq _ _).mpr h2), decide_eq_true h2]; rfl
    · rw [if_neg (fun z => h2 ((lg_cmp_eq _ _).mp z)), decide_eq_false h2]; rfl
  · rw [if_neg h, decide_eq_false h]; rfl
def isNm (kd : Int32) (wd : Int64) : Bool := decide (kd = nI 2) && !(fdN (fun k => decide (wd = cstW k)) 0 10).isSome
theorem m_isName : f_X3_isName kd wd = some (bI (isNm kd wd)) := by
  have key := lp_fd (fun n i => f_X3_isName_2 n kd wd (nI i)) (fun _ => some 0) (if kd = nI 2 then some 1 else some 0) (fun i => decide (kd = nI 2) && decide (wd = cstW i)) 10 (fun n => ?_) (fun n i hi => ?_) FU 0 (Nat.zero_le _) (FU_lt (by omega))
  · refine Eq.trans key ?_
    unfold isNm
    by_cases h : kd = nI 2
    · simp only [decide_eq_true h, Bool.true_and, if_pos h, Nat.sub_zero]
      cases fdN (fun k => decide (wd = cstW k)) 0 10 <;> rfl
    · simp only [decide_eq_false h, Bool.false_and, if_neg h, Nat.sub_zero]
      have : fdN (fun _ => false) 0 10 = none := fdN_none.mpr (fun _ _ _ => rfl)
      rw [this]; rfl
  · simp only [f_X3_isName_2]
    rw [if_pos (nI_lt (by decide) (by decide))]
  · simp only [f_X3_isName_2]
    rw [if_neg (nI_nlt (by omega) (by decide)), m_isWord hi, Option.bind_some, nI_1]
    cases decide (kd = nI 2) && decide (wd = cstW i)
    · rw [if_pos (show bI false = 0 from rfl), if_neg (by nofun)]
    · rw [if_neg (show ¬ bI true = 0 by decide), if_pos rfl]
def hNm (rn : Nat → Int64) (m : Nat) (wd : Int64) : Option Nat := fdN (fun i => decide (rn i = wd)) 0 m
theorem m_homeHere (hm : rd 230 = nI m) (hm2 : m ≤ 10) : f_X3_homeHere wd rd rn = some (eO (hNm rn m wd)) := by
  have key := lp_fd (fun n i => f_X3_homeHere_2 n wd rd rn (nI i)) (fun i => some (nI i)) (some (-1)) (fun i => decide (rn i = wd)) m (fun n => ?_) (fun n i hi => ?_) FU 0 (Nat.zero_le _) (FU_lt (by omega))
  · refine Eq.trans key ?_
    rw [Nat.sub_zero]
    unfold hNm
    cases fdN (fun i => decide (rn i = wd)) 0 m <;> rfl
  · simp only [f_X3_homeHere_2]
    rw [hm, if_pos (nI_leR _)]
  · simp only [f_X3_homeHere_2]
    rw [hm, if_neg (nI_ge hi (by omega)), gdn ⟨by omega, by decide⟩, nI_clamp (by omega), nI_1]
    by_cases h : rn i = wd
    · rw [if_pos ((lg_cmp_eq _ _).mpr h), if_pos (decide_eq_true h)]
    · rw [if_neg (fun z => h ((lg_cmp_eq _ _).mp z)), if_neg (by rw [decide_eq_false h]; nofun)]
def isTk (rn : Nat → Int64) (m n : Nat) (wd : Int64) : Bool := (fdN (fun p => decide (rn (10 + p) = wd)) 0 n).isSome || (hNm rn m wd).isSome
theorem m_isTaken (hm : rd 230 = nI m) (hm2 : m ≤ 10) (hn : rd 231 = nI n) (hn2 : n ≤ 8) : f_X3_isTaken wd rd rn = some (bI (isTk rn m n wd)) := by
  have key := lp_fd (fun k i => f_X3_isTaken_2 k wd rd rn (nI i)) (fun _ => some 1) (some (bI (hNm rn m wd).isSome)) (fun i => decide (rn (10 + i) = wd)) n (fun k => ?_) (fun k i hi => ?_) FU 0 (Nat.zero_le _) (FU_lt (by omega))
  · refine Eq.trans key ?_
    rw [Nat.sub_zero]
    unfold isTk
    cases fdN (fun p => decide (rn (10 + p) = wd)) 0 n <;> rfl
  · simp only [f_X3_isTaken_2]
    rw [hn, if_pos (nI_leR _), m_homeHere hm hm2, Option.bind_some]
    cases ho : hNm rn m wd with
    | none => rw [if_pos (show eO none = -1 from rfl)]; rfl
    | some j =>
      have := (fdN_some ho).2.1
      rw [if_neg (show ¬ eO (some j) = -1 from nI_m1 (by omega))]; rfl
  · simp only [f_X3_isTaken_2]
    rw [hn, if_neg (nI_ge hi (by omega)), nI_add, gdn ⟨by omega, by decide⟩, nI_clamp (by omega), nI_1]
    by_cases h : rn (10 + i) = wd
    · rw [if_pos ((lg_cmp_eq _ _).mpr h), if_pos (decide_eq_true h)]
    · rw [if_neg (fun z => h ((lg_cmp_eq _ _).mp z)), if_neg (by rw [decide_eq_false h]; nofun)]
end PAW
/-! tokens by their place alone -/
def tFr (si : Nat) (g : Nat → Int32) (t : Nat) : Int32 := (tkR si g t 0 0).1
def tNx (si : Nat) (g : Nat → Int32) (t : Nat) : Nat := (tkR si g t 0 0).2.1.toNatClampNeg
def tKd (si : Nat) (g : Nat → Int32) (t : Nat) : Int32 := (tkR si g t 0 0).2.2.1
def tNu (si : Nat) (g : Nat → Int32) (t : Nat) : Int32 := (tkR si g t 0 0).2.2.2.1
def tWd (si : Nat) (g : Nat → Int32) (t : Nat) : Int64 := (tkR si g t 0 0).2.2.2.2
abbrev T5 : Type := Int32 × Int32 × Int32 × Int32 × Int64
/-- the reference's token -/
def TkE (si : Nat) (g : Nat → Int32) (t : Nat) (T : T5) : Prop := T.1 = tFr si g t ∧ T.2.1 = nI (tNx si g t) ∧ T.2.2.1 = tKd si g t ∧ (tKd si g t = nI 3 → T.2.2.2.1 = tNu si g t) ∧ (tKd si g t = nI 2 → T.2.2.2.2 = tWd si g t)
section PAX
variable {si t : Nat} {g : Nat → Int32} {nu : Int32} {wd : Int64} {T : T5}
theorem tk_ok (hs : si ≤ 900) (ht : t ≤ si) : (tkR si g t 0 0).2.1 = nI (tNx si g t) ∧ t ≤ tNx si g t ∧ tNx si g t ≤ si ∧ (tKd si g t ≠ 0 → t < tNx si g t) ∧ (tKd si g t = 0 ∨ tKd si g t = 1 ∨ tKd si g t = nI 2 ∨ tKd si g t = nI 3 ∨ tKd si g t = nI 4) := by
  obtain ⟨f1, f2, -⟩ := sk_all (ta := g) isBl_no (si - t + 1) t (by omega) ht
  unfold tNx tKd tkR
  generalize skB si g isBl t = f at f1 f2 ⊢
  by_cases h1 : byR si g f = -1
  · simp only [if_pos h1]
    rw [nI_clamp (by omega)]
    exact ⟨rfl, f1, f2, fun z => absurd (by trivial) z, Or.inl (by trivial)⟩
  have hf := byR_in h1
  simp only [if_neg h1]
  cases hl : isL (byR si g f)
  case true =>
    obtain ⟨-, e⟩ := sk_step isL_no hl
    obtain ⟨g1, g2, -⟩ := sk_all (si := si) (ta := g) isL_no (si - (f + 1) + 1) (f + 1) (by omega) (by omega)
    rw [e]
    simp only [if_true]
    rw [nI_clamp (by omega)]
    refine ⟨rfl, by omega, g2, fun _ => by omega, ?_⟩
    split
    · exact Or.inr (Or.inr (Or.inl rfl))
    · exact Or.inr (Or.inl rfl)
  case false =>
    simp only [Bool.false_eq_true, if_false]
    cases hd : isD (byR si g f)
    case true =>
      obtain ⟨-, e⟩ := sk_step isD_no hd
      obtain ⟨g1, g2, -⟩ := sk_all (si := si) (ta := g) isD_no (si - (f + 1) + 1) (f + 1) (by omega) (by omega)
      rw [e]
      simp only [if_true]
      rw [nI_clamp (by omega)]
      refine ⟨rfl, by omega, g2, fun _ => by omega, ?_⟩
      split
      · exact Or.inr (Or.inr (Or.inr (Or.inl rfl)))
      · exact Or.inr (Or.inl rfl)
    case false =>
      simp only [Bool.false_eq_true, if_false]
      rw [nI_clamp (by omega)]
      refine ⟨rfl, by omega, by omega, fun _ => by omega, ?_⟩
      split
      · exact Or.inr (Or.inr (Or.inr (Or.inr rfl)))
      · exact Or.inr (Or.inl rfl)
theorem tk_same : (tkR si g t nu wd).1 = (tkR si g t 0 0).1 ∧ (tkR si g t nu wd).2.1 = (tkR si g t 0 0).2.1 ∧ (tkR si g t nu wd).2.2.1 = (tkR si g t 0 0).2.2.1 ∧ ((tkR si g t 0 0).2.2.1 = nI 3 → (tkR si g t nu wd).2.2.2.1 = (tkR si g t 0 0).2.2.2.1) ∧ ((tkR si g t 0 0).2.2.1 = nI 2 → (tkR si g t nu wd).2.2.2.2 = (tkR si g t 0 0).2.2.2.2) := by
  unfold tkR
  generalize skB si g isBl t = f
  by_cases h1 : byR si g f = -1
  · simp only [if_pos h1]
    exact ⟨by trivial, by trivial, by trivial, fun z => absurd (show (0 : Int32) = nI 3 from z) (by decide), fun z => absurd (show (0 : Int32) = nI 2 from z) (by decide)⟩
  simp only [if_neg h1]
  by_cases hl : isL (byR si g f) = true
  · simp only [if_pos hl]
    refine ⟨by trivial, by trivial, by trivial, fun z => ?_, fun _ => by trivial⟩
    exfalso
    revert z
    split
    · exact fun z => absurd (show nI 2 = nI 3 from z) (by decide)
    · exact fun z => absurd (show (1 : Int32) = nI 3 from z) (by decide)
  simp only [if_neg hl]
  by_cases hd : isD (byR si g f) = true
  · simp only [if_pos hd]
    refine ⟨by trivial, by trivial, by trivial, fun _ => by trivial, fun z => ?_⟩
    exfalso
    revert z
    split
    · exact fun z => absurd (show nI 3 = nI 2 from z) (by decide)
    · exact fun z => absurd (show (1 : Int32) = nI 2 from z) (by decide)
  simp only [if_neg hd]
  refine ⟨by trivial, by trivial, by trivial, fun z => ?_, fun z => ?_⟩
  all_goals
    exfalso
    revert z
    split <;> exact fun z => absurd z (by decide)
theorem tk_E (hs : si ≤ 900) (ht : t ≤ si) : TkE si g t (tkR si g t nu wd) := by
  obtain ⟨a1, a2, a3, a4, a5⟩ := tk_same (si := si) (g := g) (t := t) (nu := nu) (wd := wd)
  exact ⟨a1, a2.trans (tk_ok hs ht).1, a3, a4, a5⟩
theorem m_goT (hs : si ≤ 900) (ht : t ≤ si) (H : TkE si g t T) : ∃ T', f_X3_go (nI si) g T.1 T.2.1 T.2.2.1 T.2.2.2.1 T.2.2.2.2 = some T' ∧ TkE si g (tNx si g t) T' := by
  have h3 := (tk_ok (g := g) hs ht).2.2.1
  rw [H.2.1, m_go hs h3]
  exact ⟨_, rfl, tk_E hs h3⟩
theorem m_go0 {fr kd : Int32} (hs : si ≤ 900) : ∃ T', f_X3_go (nI si) g fr 0 kd nu wd = some T' ∧ TkE si g 0 T' := by
  rw [show (0 : Int32) = nI 0 from rfl, m_go hs (Nat.zero_le _)]
  exact ⟨_, rfl, tk_E hs (Nat.zero_le _)⟩
theorem srt_1 {k : Int32} : srt k = 1 ↔ k = nI 2 := by
  unfold srt
  by_cases h0 : k = 0
  · subst h0; decide
  rw [if_neg h0]
  by_cases h1 : k = 1
  · subst h1; decide
  rw [if_neg h1]
  by_cases h2 : k = nI 2
  · subst h2; decide
  rw [if_neg h2]
  by_cases h3 : k = nI 3
  · subst h3; decide
  rw [if_neg h3]
  exact ⟨fun z => absurd z (by decide), fun z => absurd z h2⟩
theorem srt_2 {k : Int32} : srt k = nI 2 ↔ k = nI 3 := by
  unfold srt
  by_cases h0 : k = 0
  · subst h0; decide
  rw [if_neg h0]
  by_cases h1 : k = 1
  · subst h1; decide
  rw [if_neg h1]
  by_cases h2 : k = nI 2
  · subst h2; decide
  rw [if_neg h2]
  by_cases h3 : k = nI 3
  · subst h3; decide
  rw [if_neg h3]
  exact ⟨fun z => absurd z (by decide), fun z => absurd z h3⟩
theorem srt_0 {k : Int32} : srt k = 0 ↔ k = 0 := by
  unfold srt
  by_cases h0 : k = 0
  · subst h0; decide
  rw [if_neg h0]
  by_cases h1 : k = 1
  · subst h1; decide
  rw [if_neg h1]
  by_cases h2 : k = nI 2
  · subst h2; decide
  rw [if_neg h2]
  by_cases h3 : k = nI 3
  · subst h3; decide
  rw [if_neg h3]
  exact ⟨fun z => absurd z (by decide), fun z => absurd z h0⟩
theorem srt_4 {k : Int32} : srt k = nI 4 ↔ k = 1 := by
  unfold srt
  by_cases h0 : k = 0
  · subst h0; decide
  rw [if_neg h0]
  by_cases h1 : k = 1
  · subst h1; decide
  rw [if_neg h1]
  by_cases h2 : k = nI 2
  · subst h2; decide
  rw [if_neg h2]
  by_cases h3 : k = nI 3
  · subst h3; decide
  rw [if_neg h3]
  exact ⟨fun z => absurd z (by decide), fun z => absurd z h1⟩
theorem srt_3 (hs : si ≤ 900) (ht : t ≤ si) : srt (tKd si g t) = nI 3 ↔ tKd si g t = nI 4 := by
  rcases (tk_ok (g := g) hs ht).2.2.2.2 with h | h | h | h | h <;> rw [h] <;> decide
end PAX
