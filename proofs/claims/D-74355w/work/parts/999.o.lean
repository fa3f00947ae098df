/-! print: the reference -/
def QP (o : Option (Int32 × Int32 × Int32 × Int32 × (Nat → Int32))) (T : List Int32) : Prop := ∃ ou', o = some (nI T.length, 0, 0, nI T.length, ou') ∧ TX ou' T
section PPO
variable {T L : List Int32} {n k c v i j p h : Nat} {w : Rw} {nm : Nat → Int64} {ou ou' : Nat → Int32} {x : Int64} {B : Nat → List Int32} {b th st : Int32}
theorem apN_front : ∀ k, apN B (k + 1) = B 0 ++ apN (fun i => B (i + 1)) k
  | 0 => by show [] ++ B 0 = B 0 ++ []; rw [List.nil_append, List.append_nil]
  | k + 1 => by
    show apN B (k + 1) ++ B (k + 1) = B 0 ++ (apN (fun i => B (i + 1)) k ++ B (k + 1))
    rw [apN_front k, List.append_assoc]
theorem apN_at : apN (fun q => B (i + q)) (k + 1) = B i ++ apN (fun q => B (i + 1 + q)) k := by
  rw [apN_front]
  have : (fun q => B (i + (q + 1))) = fun q => B (i + 1 + q) := funext fun q => by rw [show i + (q + 1) = i + 1 + q by omega]
  rw [this]; rfl
theorem apN_c {B' : Nat → List Int32} : ∀ k, (∀ i, i < k → B i = B' i) → apN B k = apN B' k
  | 0, _ => rfl
  | k + 1, h => by
    show apN B k ++ B k = apN B' k ++ B' k
    rw [apN_c k (fun i hi => h i (by omega)), h k (by omega)]
theorem RP.app {o : Option (Int32 × (Nat → Int32))} {T T' : List Int32} (H : RP o T) (e : T = T') : RP o T' := e ▸ H
theorem m_named (H : TX ou T) (hi : i < 18) (hT : T.length + 10 ≤ 1800) : RP (f_X3_printsNamed nm (nI T.length) ou (nI i)) (T ++ (nI 32 :: dec (nm i))) := by
  unfold f_X3_printsNamed
  refine RP.bind (m_pr H (by decide) (by omega)) (Q := fun o => RP o _) (fun ou' H' => ?_)
  have el : (T ++ [nI 32]).length = T.length + 1 := by rw [List.length_append]; rfl
  dsimp only
  rw [gdn ⟨hi, by decide⟩, nI_clamp (by omega)]
  refine RP.bind (m_word H' (by omega)) (Q := fun o => RP o _) (fun ou2 H2 => ⟨ou2, ?_, ?_⟩)
  · rw [List.append_assoc]; rfl
  · rw [List.append_assoc] at H2; exact H2
theorem m_cword (H : TX ou T) (hk : k < 10) (hT : T.length + 9 ≤ 1800) : RP ((f_X3_wordOf (nI k)).bind fun v => f_X3_printsWord (nI T.length) ou v) (T ++ dec (cstW k)) := by
  rw [m_wordOf hk, Option.bind_some]
  exact m_word H hT
theorem dec_cst : ∀ k, k < 10 → dec (cstW k) = cl k := by decide +kernel
theorem m_told (Z : Rng w) (C : Con w) (hh : h < nH w) : f_X3_isTold w (nI h) = some (bI (told w h)) := by
  have e1 := Z.gH.2
  have e2 := Z.gP.2
  unfold f_X3_isTold told
  rw [m_h0 (by omega), Option.bind_some]
  by_cases h6 : hF w h 6 = 0
  · rw [if_pos h6, m_h0 (by omega), Option.bind_some, decide_eq_true h6, Bool.true_and]
    by_cases h2 : hF w h 2 = -1
    · rw [if_pos h2, decide_eq_true h2]; rfl
    · rw [if_neg h2, decide_eq_false h2, Bool.false_or, Option.bind_some]
      obtain ⟨p, z1, z2, z3⟩ := (C.1 h hh).resolve_left h2
      have ep : hN_ w h 2 = p := by unfold hN_; rw [z2, nI_clamp (by omega)]
      rw [z2, m_isIn (by omega), Option.bind_some, ep]
      cases isIn_ w p <;> rfl
  · rw [if_neg h6, decide_eq_false h6]; rfl
theorem m_hs90 (Z : Rng w) (C : Con w) (hp : p < nP w) : ∀ (k i m : Nat) (T : List Int32) (ou : Nat → Int32), i + k = pN w p 11 → TX ou T → T.length + 10 * k + 1 ≤ 1800 → RP (f_X3_printsHouse_90 (m + k + 1) w nm (nI p) (nI i) (nI T.length) ou) (T ++ (apN (fun q => wsL w nm p (i + q)) k ++ [nI 59])) := by
  have e1 := Z.gH.2
  have e2 := Z.gP.2
  obtain ⟨e11, e6⟩ := Z.p11 (p := p) (by omega)
  intro k
  induction k with
  | zero =>
    intro i m T ou hi H hT
    rw [f_X3_printsHouse_90, m_of (by omega), Option.bind_some, e11, show i = pN w p 11 by omega, if_pos (nI_leR _)]
    exact RP.bind (m_pr H (by decide) (by omega)) (Q := fun o => RP o _) (fun ou' H' => ⟨ou', rfl, H'⟩)
  | succ k ih =>
    intro i m T ou hi H hT
    obtain ⟨ew, ew2⟩ := Z.pw (p := p) (k := i) (by omega) (by omega)
    have hx := C.2.2.1 p i hp (by omega)
    rw [show m + (k + 1) + 1 = m + k + 1 + 1 by omega, f_X3_printsHouse_90, m_of (by omega), Option.bind_some, e11, if_neg (nI_ge (by omega) (by omega)), nI_add, m_of (by omega), Option.bind_some, ew, m_told Z C hx, Option.bind_some, apN_at]
    have ea : ∀ (L : List Int32), T ++ (wsL w nm p i ++ L ++ [nI 59]) = (T ++ wsL w nm p i) ++ (L ++ [nI 59]) := fun L => by simp
    rw [ea]
    unfold wsL
    cases ht : told w (pN w p (12 + i))
    · rw [if_pos (show bI false = 0 from rfl), if_neg (show ¬ false = true by nofun), List.append_nil, nI_1]
      exact ih (i + 1) m T ou (by omega) H (by omega)
    · rw [if_neg (show ¬ bI true = 0 by decide), if_pos rfl, Option.bind_some]
      refine RP.bind (m_named H (by omega) (by omega)) (Q := fun o => RP o _) (fun ou' H' => ?_)
      have hl : (T ++ (nI 32 :: dec (nm (pN w p (12 + i))))).length ≤ T.length + 10 := by
        have := dec_len (x := nm (pN w p (12 + i)))
        rw [List.length_append, List.length_cons]; omega
      dsimp only
      rw [nI_1]
      exact ih (i + 1) m _ ou' (by omega) H' (by omega)
theorem m_hs19 (Z : Rng w) (C : Con w) (hp : p < nP w) : ∀ (k i m : Nat) (T : List Int32) (ou : Nat → Int32), i + k = 4 → TX ou T → T.length + 4 * k + 80 ≤ 1800 → RP (f_X3_printsHouse_19 (m + k + 1) w nm (nI p) (nI i) (nI T.length) ou) (T ++ (apN (fun q => nl (pN w p (i + q))) k ++ (inL w nm p ++ apN (wsL w nm p) (pN w p 11) ++ [nI 59]))) := by
  have e1 := Z.gH.2
  have e2 := Z.gP.2
  obtain ⟨e11, e6⟩ := Z.p11 (p := p) (by omega)
  have h90 : ∀ (T : List Int32) (ou : Nat → Int32), TX ou T → T.length + 62 ≤ 1800 → RP (f_X3_printsHouse_90 FU w nm (nI p) 0 (nI T.length) ou) (T ++ (apN (wsL w nm p) (pN w p 11) ++ [nI 59])) := fun T ou H hT => by
    have := m_hs90 (nm := nm) Z C hp (pN w p 11) 0 (FU - pN w p 11 - 1) T ou (by omega) H (by omega)
    rw [show FU - pN w p 11 - 1 + pN w p 11 + 1 = FU by unfold FU; omega] at this
    have e : (fun q => wsL w nm p (0 + q)) = wsL w nm p := funext fun q => by rw [Nat.zero_add]
    rw [e] at this
    exact this
  intro k
  induction k with
  | zero =>
    intro i m T ou hi H hT
    rw [f_X3_printsHouse_19, show i = 4 by omega, if_pos (nI_lt (by decide) (by decide)), m_of (by omega), Option.bind_some]
    show RP _ (T ++ ([] ++ _))
    rw [List.nil_append]
    unfold inL
    by_cases h4 : pF w p 4 = -1
    · rw [if_pos h4, if_pos h4, List.nil_append]
      exact h90 T ou H (by omega)
    · rw [if_neg h4, if_neg h4, Option.bind_some]
      obtain ⟨x, z1, z2, z3⟩ := (C.2.1 p hp).resolve_left h4
      have ex : pN w p 4 = x := by unfold pN; rw [z2, nI_clamp (by omega)]
      rw [z2, m_told Z C z1, Option.bind_some, ex]
      cases ht : told w x
      · rw [if_pos (show bI false = 0 from rfl), if_neg (show ¬ false = true by nofun), List.nil_append]
        exact h90 T ou H (by omega)
      · rw [if_neg (show ¬ bI true = 0 by decide), if_pos rfl]
        have el : (T ++ [nI 32]).length = T.length + 1 := by rw [List.length_append]; rfl
        refine RP.bind (m_pr H (by decide) (by omega)) (Q := fun o => RP o _) (fun ou1 H1 => ?_)
        rw [m_wordOf (by decide), Option.bind_some]
        refine RP.bind (m_word H1 (by omega)) (Q := fun o => RP o _) (fun ou2 H2 => ?_)
        rw [dec_cst 9 (by decide)] at H2 ⊢
        have el2 : (T ++ [nI 32] ++ cl 9).length ≤ T.length + 7 := by
          have := cl_len 9 (by decide)
          rw [List.length_append]; omega
        rw [Option.bind_some]
        refine RP.bind (m_named H2 (by omega) (by omega)) (Q := fun o => RP o _) (fun ou3 H3 => ?_)
        have el3 : (T ++ [nI 32] ++ cl 9 ++ (nI 32 :: dec (nm x))).length ≤ T.length + 17 := by
          have := dec_len (x := nm x)
          rw [List.length_append, List.length_cons]; omega
        refine (h90 _ ou3 H3 (by omega)).app ?_
        simp
  | succ k ih =>
    intro i m T ou hi H hT
    have ev : pF w p i = nI (pN w p i) ∧ pN w p i < 1000 := by
      rcases (show i = 0 ∨ i = 1 ∨ i = 2 ∨ i = 3 by omega) with rfl | rfl | rfl | rfl
      · obtain ⟨a1, a2⟩ := Z.p0 (p := p) (by omega); exact ⟨a1, by omega⟩
      · obtain ⟨a1, a2⟩ := Z.p1 (p := p) (by omega); exact ⟨a1, by omega⟩
      · obtain ⟨a1, a2⟩ := inI_n (v := pF w p 2) (b := 7) (Z.2.1 p 2 (by omega) (by decide)) (by decide); exact ⟨a1, by unfold pN; omega⟩
      · obtain ⟨a1, a2⟩ := Z.p3 (p := p) (by omega); exact ⟨a1, by omega⟩
    rw [show m + (k + 1) + 1 = m + k + 1 + 1 by omega, f_X3_printsHouse_19, if_neg (nI_nlt (by omega) (by decide)), m_of (by omega), Option.bind_some, ev.1, apN_at (B := fun q => nl (pN w p q))]
    refine RP.bind (m_num H ev.2 (by omega)) (Q := fun o => RP o _) (fun ou' H' => ?_)
    have hl : (T ++ nl (pN w p i)).length ≤ T.length + 4 := by
      have := nl_len (v := pN w p i)
      rw [List.length_append]; omega
    dsimp only
    rw [nI_1]
    refine (ih (i + 1) m _ ou' (by omega) H' (by omega)).app ?_
    simp
theorem m_prHouse (Z : Rng w) (C : Con w) (hp : p < nP w) (H : TX ou T) (hT : T.length + 130 ≤ 1800) (hin : isIn_ w p = true) : RP (f_X3_printsHouse w nm (nI T.length) ou (nI p)) (T ++ hsL w nm p) := by
  have e2 := Z.gP.2
  unfold f_X3_printsHouse hsL
  rw [m_wordOf (by decide), Option.bind_some, if_pos hin]
  refine RP.bind (m_word H (by omega)) (Q := fun o => RP o _) (fun ou1 H1 => ?_)
  rw [dec_cst 7 (by decide)] at H1 ⊢
  have el1 : (T ++ cl 7).length ≤ T.length + 6 := by
    have := cl_len 7 (by decide)
    rw [List.length_append]; omega
  dsimp only
  rw [nI_add]
  refine RP.bind (m_named H1 (by omega) (by omega)) (Q := fun o => RP o _) (fun ou2 H2 => ?_)
  have el2 : (T ++ cl 7 ++ (nI 32 :: dec (nm (10 + p)))).length ≤ T.length + 16 := by
    have := dec_len (x := nm (10 + p))
    rw [List.length_append, List.length_cons]; omega
  have := m_hs19 (nm := nm) Z C hp 4 0 (FU - 5) _ ou2 rfl H2 (by omega)
  rw [show FU - 5 + 4 + 1 = FU by decide] at this
  refine this.app ?_
  have e : (fun q => nl (pN w p (0 + q))) = fun k => nl (pN w p k) := funext fun q => by rw [Nat.zero_add]
  rw [e]
  simp
theorem m_print135 (Z : Rng w) (C : Con w) : ∀ (k i m : Nat) (T : List Int32) (ou : Nat → Int32), i + k = nP w → TX ou T → T.length + 130 * k ≤ 1800 → QP (f_X3_print_135 (m + k + 1) w nm (nI i) th st (nI T.length) ou) (T ++ apN (fun q => hsL w nm (i + q)) k) := by
  have e2 := Z.gP
  intro k
  induction k with
  | zero =>
    intro i m T ou hi H hT
    rw [f_X3_print_135, e2.1, show i = nP w by omega, if_pos (nI_leR _)]
    show QP _ (T ++ [])
    rw [List.append_nil]
    exact ⟨ou, rfl, H⟩
  | succ k ih =>
    intro i m T ou hi H hT
    rw [show m + (k + 1) + 1 = m + k + 1 + 1 by omega, f_X3_print_135, e2.1, if_neg (nI_ge (by omega) (by omega)), m_isIn (by omega), Option.bind_some, apN_at, ← List.append_assoc, nI_1]
    cases hin : isIn_ w i
    · have e : hsL w nm i = [] := by unfold hsL; rw [hin]; rfl
      rw [if_pos (show bI false = 0 from rfl), e, List.append_nil]
      exact ih (i + 1) m T ou (by omega) H (by omega)
    · rw [if_neg (show ¬ bI true = 0 by decide)]
      refine RP.bind (m_prHouse Z C (by omega) H (by omega) hin) (Q := fun o => QP o _) (fun ou' H' => ?_)
      have hl : (T ++ hsL w nm i).length ≤ T.length + 110 := by
        have := hsL_len (w := w) (nm := nm) (p := i) (Z.p11 (p := i) (by omega)).2
        rw [List.length_append]; omega
      exact ih (i + 1) m _ ou' (by omega) H' (by omega)
theorem m_print64 (Z : Rng w) (C : Con w) : ∀ (k i m : Nat) (T : List Int32) (ou : Nat → Int32), i + k = nH w → TX ou T → T.length + 25 * k + 1040 ≤ 1800 → QP (f_X3_print_64 (m + k + 1) w nm (nI i) th st (nI T.length) ou) (T ++ apN (fun q => hoL w nm (i + q)) k ++ apN (hsL w nm) (nP w)) := by
  have e1 := Z.gH
  have e2 := Z.gP
  intro k
  induction k with
  | zero =>
    intro i m T ou hi H hT
    rw [f_X3_print_64, e1.1, show i = nH w by omega, if_pos (nI_leR _)]
    show QP _ (T ++ [] ++ _)
    rw [List.append_nil]
    have := m_print135 (nm := nm) (th := th) (st := st) Z C (nP w) 0 (FU - nP w - 1) T ou (by omega) H (by omega)
    rw [show FU - nP w - 1 + nP w + 1 = FU by unfold FU; omega] at this
    have e : (fun q => hsL w nm (0 + q)) = hsL w nm := funext fun q => by rw [Nat.zero_add]
    rw [e] at this
    exact this
  | succ k ih =>
    intro i m T ou hi H hT
    obtain ⟨v0, v0'⟩ := Z.h0 (h := i) (by omega)
    obtain ⟨v1, v1'⟩ := inI_n (v := hF w i 1) (b := 7) (Z.1 i 1 (by omega) (by decide)) (by decide)
    have v1 : hF w i 1 = nI (hN_ w i 1) := v1
    have v1' : hN_ w i 1 ≤ 7 := v1'
    rw [show m + (k + 1) + 1 = m + k + 1 + 1 by omega, f_X3_print_64, e1.1, if_neg (nI_ge (by omega) (by omega)), m_told Z C (by omega), Option.bind_some, apN_at, ← List.append_assoc, nI_1]
    have hl : (T ++ hoL w nm i).length ≤ T.length + 25 := by
      have := hoL_len (w := w) (nm := nm) (h := i)
      rw [List.length_append]; omega
    cases ht : told w i
    · have e : hoL w nm i = [] := by unfold hoL; rw [ht]; rfl
      rw [if_pos (show bI false = 0 from rfl), e, List.append_nil]
      exact ih (i + 1) m T ou (by omega) H (by omega)
    · have e : hoL w nm i = cl 6 ++ (nI 32 :: dec (nm i)) ++ nl (hN_ w i 0) ++ nl (hN_ w i 1) ++ [nI 59] := by unfold hoL; rw [if_pos ht]
      rw [if_neg (show ¬ bI true = 0 by decide), m_wordOf (by decide), Option.bind_some]
      refine RP.bind (m_word H (by omega)) (Q := fun o => QP o _) (fun ou1 H1 => ?_)
      rw [dec_cst 6 (by decide)] at H1 ⊢
      have l1 : (T ++ cl 6).length ≤ T.length + 6 := by
        have := cl_len 6 (by decide)
        rw [List.length_append]; omega
      dsimp only
      refine RP.bind (m_named H1 (by omega) (by omega)) (Q := fun o => QP o _) (fun ou2 H2 => ?_)
      have l2 : (T ++ cl 6 ++ (nI 32 :: dec (nm i))).length ≤ T.length + 16 := by
        have := dec_len (x := nm i)
        rw [List.length_append, List.length_cons]; omega
      rw [m_h00 (by omega), Option.bind_some, v0]
      refine RP.bind (m_num H2 (by omega) (by omega)) (Q := fun o => QP o _) (fun ou3 H3 => ?_)
      have l3 : (T ++ cl 6 ++ (nI 32 :: dec (nm i)) ++ nl (hN_ w i 0)).length ≤ T.length + 20 := by
        have := nl_len (v := hN_ w i 0)
        rw [List.length_append]; omega
      rw [m_h01 (by omega), Option.bind_some, v1]
      refine RP.bind (m_num H3 (by omega) (by omega)) (Q := fun o => QP o _) (fun ou4 H4 => ?_)
      have l4 : (T ++ cl 6 ++ (nI 32 :: dec (nm i)) ++ nl (hN_ w i 0) ++ nl (hN_ w i 1)).length ≤ T.length + 24 := by
        have := nl_len (v := hN_ w i 1)
        rw [List.length_append]; omega
      refine RP.bind (m_pr H4 (by decide) (by omega)) (Q := fun o => QP o _) (fun ou5 H5 => ?_)
      have eT : T ++ cl 6 ++ (nI 32 :: dec (nm i)) ++ nl (hN_ w i 0) ++ nl (hN_ w i 1) ++ [nI 59] = T ++ hoL w nm i := by rw [e]; simp
      rw [eT] at H5 ⊢
      exact ih (i + 1) m _ ou5 (by omega) H5 (by omega)
theorem rule_v (Z : Rng w) (hk : k < 6) : w (224 + k) = nI (wN w (224 + k)) ∧ wN w (224 + k) < 1000 := by
  rcases (show k = 0 ∨ k = 1 ∨ k = 2 ∨ k = 3 ∨ k = 4 ∨ k = 5 by omega) with rfl | rfl | rfl | rfl | rfl | rfl
  · obtain ⟨a1, a2, -⟩ := inI_pos (v := w 224) (b := 9) (Z.2.2.2.2 224 (by decide) (by decide)) (by decide); exact ⟨a1, Nat.lt_of_le_of_lt a2 (by decide)⟩
  · obtain ⟨a1, a2, -⟩ := inI_pos (v := w 225) (b := 52) (Z.2.2.2.2 225 (by decide) (by decide)) (by decide); exact ⟨a1, Nat.lt_of_le_of_lt a2 (by decide)⟩
  · obtain ⟨a1, a2⟩ := Z.gLo; exact ⟨a1, by show wN w 226 < 1000; omega⟩
  · obtain ⟨a1, a2⟩ := Z.gQ; exact ⟨a1, by show wN w 227 < 1000; omega⟩
  · obtain ⟨a1, a2, -⟩ := Z.gA; exact ⟨a1, by show wN w 228 < 1000; omega⟩
  · obtain ⟨a1, a2, -⟩ := inI_pos (v := w 229) (b := 3) (Z.2.2.2.2 229 (by decide) (by decide)) (by decide); exact ⟨a1, Nat.lt_of_le_of_lt a2 (by decide)⟩
theorem m_print7 (Z : Rng w) (C : Con w) : ∀ (k i m : Nat) (T : List Int32) (ou : Nat → Int32), i + k = 6 → TX ou T → T.length + 18 * k + 1290 ≤ 1800 → QP (f_X3_print_7 (m + k + 1) w nm (nI i) th st (nI T.length) ou) (T ++ apN (fun q => ruL w (i + q)) k ++ apN (hoL w nm) (nH w) ++ apN (hsL w nm) (nP w)) := by
  have e1 := Z.gH
  have e2 := Z.gP
  intro k
  induction k with
  | zero =>
    intro i m T ou hi H hT
    rw [f_X3_print_7, show i = 6 by omega, if_pos (nI_leR _)]
    show QP _ (T ++ [] ++ _ ++ _)
    rw [List.append_nil]
    have := m_print64 (nm := nm) (th := th) (st := st) Z C (nH w) 0 (FU - nH w - 1) T ou (by omega) H (by omega)
    rw [show FU - nH w - 1 + nH w + 1 = FU by unfold FU; omega] at this
    have e : (fun q => hoL w nm (0 + q)) = hoL w nm := funext fun q => by rw [Nat.zero_add]
    rw [e] at this
    exact this
  | succ k ih =>
    intro i m T ou hi H hT
    obtain ⟨v0, v0'⟩ := rule_v (k := i) Z (by omega)
    have hl : (T ++ ruL w i).length ≤ T.length + 18 := by
      have := ruL_len (w := w) (k := i) (by omega)
      rw [List.length_append]; omega
    rw [show m + (k + 1) + 1 = m + k + 1 + 1 by omega, f_X3_print_7, if_neg (nI_ge (by omega) (by decide)), m_wordOf (by decide), Option.bind_some, apN_at, ← List.append_assoc, nI_1]
    refine RP.bind (m_word H (by omega)) (Q := fun o => QP o _) (fun ou1 H1 => ?_)
    rw [dec_cst 8 (by decide)] at H1 ⊢
    have l1 : (T ++ cl 8).length ≤ T.length + 6 := by
      have := cl_len 8 (by decide)
      rw [List.length_append]; omega
    dsimp only
    refine RP.bind (m_pr H1 (by decide) (by omega)) (Q := fun o => QP o _) (fun ou2 H2 => ?_)
    have l2 : (T ++ cl 8 ++ [nI 32]).length ≤ T.length + 7 := by
      rw [List.length_append]; show _ + 1 ≤ _; omega
    rw [m_wordOf (by omega), Option.bind_some]
    refine RP.bind (m_word H2 (by omega)) (Q := fun o => QP o _) (fun ou3 H3 => ?_)
    rw [dec_cst i (by omega)] at H3 ⊢
    have l3 : (T ++ cl 8 ++ [nI 32] ++ cl i).length ≤ T.length + 13 := by
      have := cl_len i (by omega)
      rw [List.length_append]; omega
    dsimp only
    rw [nI_add, gdn ⟨by omega, by decide⟩, nI_clamp (by omega), v0]
    refine RP.bind (m_num H3 (by omega) (by omega)) (Q := fun o => QP o _) (fun ou4 H4 => ?_)
    have l4 : (T ++ cl 8 ++ [nI 32] ++ cl i ++ nl (wN w (224 + i))).length ≤ T.length + 17 := by
      have := nl_len (v := wN w (224 + i))
      rw [List.length_append]; omega
    refine RP.bind (m_pr H4 (by decide) (by omega)) (Q := fun o => QP o _) (fun ou5 H5 => ?_)
    have eT : T ++ cl 8 ++ [nI 32] ++ cl i ++ nl (wN w (224 + i)) ++ [nI 59] = T ++ ruL w i := by unfold ruL; simp
    rw [eT] at H5 ⊢
    exact ih (i + 1) m _ ou5 (by omega) H5 (by omega)
/-- print -/
theorem m_print {om : Int32} (Z : Rng w) (C : Con w) : QP (f_X3_print w nm th st om ou) (txt w nm) := by
  have := m_print7 (nm := nm) (th := th) (st := st) Z C 6 0 (FU - 7) [] ou rfl (fun i hi => absurd hi (by simp)) (by simp)
  rw [show FU - 7 + 6 + 1 = FU by decide] at this
  have e : (fun q => ruL w (0 + q)) = ruL w := funext fun q => by rw [Nat.zero_add]
  rw [e, List.nil_append] at this
  exact this
/-- out -/
theorem m_out {a : Int32} (H : TX ou T) (hT : T.length ≤ 1800) : f_X3_out (nI T.length) ou th a = some (if ir a 0 (nI T.length - 1) = true then (T.getD a.toNatClampNeg 0, 0) else (0, 1)) := by
  unfold f_X3_out f_X3_out_18
  by_cases h0 : a < 0
  · rw [if_pos h0, if_pos rfl, if_neg (fun z => by
      obtain ⟨x, h1, h2⟩ := (rg_t (by omega)).mp z
      rw [h2] at h0
      exact nI_pos (by omega) h0)]
  · obtain ⟨k, hk, rfl⟩ := nI_of h0
    rw [if_neg h0]
    by_cases hl : k < T.length
    · rw [if_pos (nI_lt hl (by omega)), if_neg (by decide), gdn ⟨by omega, by decide⟩, nI_clamp hk, if_pos (show ir (nI k) 0 (nI T.length - 1) = true from (rg_t (by omega)).mpr ⟨k, hl, rfl⟩), H k hl]
    · rw [if_neg (nI_nlt (by omega) hk), if_pos rfl, if_neg (fun z => by
        obtain ⟨x, h1, h2⟩ := (rg_t (by omega)).mp z
        have := (nI_eq hk (by omega)).mp h2
        omega)]
end PPO
