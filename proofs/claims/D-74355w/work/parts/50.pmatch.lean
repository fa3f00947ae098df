/-! MATCHINGS: homes (below nh) to houses, by a relation G; the greatest number, by ways that lengthen and by sets -/
abbrev Mt : Type := Nat → Option Nat
/-- a matching of houses from a to below b, off the homes X -/
def vM (G : Nat → Nat → Bool) (nh a b : Nat) (X : Nat → Bool) (m : Mt) : Prop :=
  (∀ h k, h < nh → X h = false → m h = some k → a ≤ k ∧ k < b ∧ G k h = true) ∧ (∀ h h' k, h < nh → h' < nh → X h = false → X h' = false → m h = some k → m h' = some k → h = h')
def szM (nh : Nat) (m : Mt) : Nat := cnN (fun h => (m h).isSome) nh
def nX : Nat → Bool := fun _ => false
def upM (m : Mt) (h : Nat) (v : Option Nat) : Mt := fun q => if q = h then v else m q
theorem upM_s {m : Mt} {h : Nat} {v : Option Nat} : upM m h v h = v := if_pos rfl
theorem upM_n {m : Mt} {h q : Nat} {v : Option Nat} (hq : q ≠ h) : upM m h v q = m q := if_neg hq
/-- one more house gives at most one more -/
theorem vM_drop {G : Nat → Nat → Bool} {nh a b : Nat} {m : Mt} (hv : vM G nh a (b + 1) nX m) : ∃ m', vM G nh a b nX m' ∧ szM nh m ≤ szM nh m' + 1 := by
  by_cases hx : ∃ h, h < nh ∧ m h = some b
  · obtain ⟨h, hh, hm⟩ := hx
    refine ⟨upM m h none, ⟨fun q k hq _ hk => ?_, fun q q' k hq hq' _ _ hk hk' => ?_⟩, ?_⟩
    · by_cases hqh : q = h
      · subst hqh; rw [upM_s] at hk; cases hk
      · rw [upM_n hqh] at hk
        obtain ⟨g1, g2, g3⟩ := hv.1 q k hq rfl hk
        refine ⟨g1, ?_, g3⟩
        by_cases hkb : k = b
        · subst hkb; exact absurd (hv.2 q h k hq hh rfl rfl hk hm) hqh
        · omega
    · have n1 : q ≠ h := fun z => by subst z; rw [upM_s] at hk; cases hk
      have n2 : q' ≠ h := fun z => by subst z; rw [upM_s] at hk'; cases hk'
      rw [upM_n n1] at hk
      rw [upM_n n2] at hk'
      exact hv.2 q q' k hq hq' rfl rfl hk hk'
    · have := cnN_up (B := fun q => (upM m h none q).isSome) (C := fun q => (m q).isSome) (q := h) nh hh (by show (upM m h none h).isSome = false; rw [upM_s]; rfl) (by show (m h).isSome = true; rw [hm]; rfl) (fun j _ hne => by show (upM m h none j).isSome = _; rw [upM_n hne])
      exact Nat.le_of_eq this
  · refine ⟨m, ⟨fun q k hq hX hk => ?_, hv.2⟩, by omega⟩
    obtain ⟨g1, g2, g3⟩ := hv.1 q k hq rfl hk
    refine ⟨g1, ?_, g3⟩
    by_cases hkb : k = b
    · subst hkb; exact absurd ⟨q, hq, hk⟩ hx
    · omega
/-- a closed set of homes: the house b gives nothing more -/
theorem vM_closed {G : Nat → Nat → Bool} {nh a b : Nat} {m N : Mt} {S : Nat → Bool} (hm : vM G nh a b nX m) (hN : vM G nh a (b + 1) nX N)
    (hb : ∀ h, h < nh → G b h = true → S h = true) (hS : ∀ h, h < nh → S h = true → ∃ k, m h = some k ∧ ∀ q, q < nh → G k q = true → S q = true) :
    ∃ m', vM G nh a b nX m' ∧ szM nh N ≤ szM nh m' := by
  refine ⟨fun h => if S h = true then m h else N h, ⟨fun h k hh _ hk => ?_, fun h h' k hh hh' _ _ hk hk' => ?_⟩, ?_⟩
  · dsimp only at hk
    by_cases hs : S h = true
    · rw [if_pos hs] at hk; exact hm.1 h k hh rfl hk
    · rw [if_neg hs] at hk
      obtain ⟨g1, g2, g3⟩ := hN.1 h k hh rfl hk
      refine ⟨g1, ?_, g3⟩
      by_cases hkb : k = b
      · subst hkb; exact absurd (hb h hh g3) hs
      · omega
  · dsimp only at hk hk'
    have cross : ∀ q q', q < nh → q' < nh → S q = true → ¬ S q' = true → m q = some k → N q' = some k → False := by
      intro q q' hq hq' s1 s2 e1 e2
      obtain ⟨k2, e3, e4⟩ := hS q hq s1
      cases e1.symm.trans e3
      exact s2 (e4 q' hq' (hN.1 q' k hq' rfl e2).2.2)
    by_cases hs : S h = true <;> by_cases hs' : S h' = true
    · rw [if_pos hs] at hk; rw [if_pos hs'] at hk'; exact hm.2 h h' k hh hh' rfl rfl hk hk'
    · rw [if_pos hs] at hk; rw [if_neg hs'] at hk'; exact (cross h h' hh hh' hs hs' hk hk').elim
    · rw [if_neg hs] at hk; rw [if_pos hs'] at hk'; exact (cross h' h hh' hh hs' hs hk' hk).elim
    · rw [if_neg hs] at hk; rw [if_neg hs'] at hk'; exact hN.2 h h' k hh hh' rfl rfl hk hk'
  · refine cnN_mono nh (fun j hj h1 => ?_)
    dsimp only at h1 ⊢
    by_cases hs : S j = true
    · rw [if_pos hs]
      obtain ⟨k, e1, -⟩ := hS j hj hs
      rw [e1]; rfl
    · rw [if_neg hs]; exact h1
/-- by sets: houses from np - d on, homes of g gone -/
def dpF (G : Nat → Nat → Bool) (p g : Nat) (sub : Nat → Nat) (h best : Nat) : Nat := if g.testBit h = false ∧ G p h = true then max best (1 + sub (g ||| 2 ^ h)) else best
def dp (G : Nat → Nat → Bool) (np nh : Nat) : Nat → Nat → Nat
  | 0, _ => 0
  | d + 1, g => flN (dpF G (np - (d + 1)) g (dp G np nh d)) 0 nh (dp G np nh d g)
theorem flmax {G : Nat → Nat → Bool} {p g : Nat} {sub : Nat → Nat} : ∀ (n i b : Nat), b ≤ flN (dpF G p g sub) i n b ∧ (∀ h, i ≤ h → h < i + n → g.testBit h = false → G p h = true → 1 + sub (g ||| 2 ^ h) ≤ flN (dpF G p g sub) i n b) ∧ (flN (dpF G p g sub) i n b = b ∨ ∃ h, i ≤ h ∧ h < i + n ∧ g.testBit h = false ∧ G p h = true ∧ flN (dpF G p g sub) i n b = 1 + sub (g ||| 2 ^ h))
  | 0, i, b => ⟨Nat.le_refl _, fun h h1 h2 => absurd h2 (by omega), Or.inl rfl⟩
  | n + 1, i, b => by
    obtain ⟨a1, a2, a3⟩ := flmax (G := G) (p := p) (g := g) (sub := sub) n (i + 1) (dpF G p g sub i b)
    show b ≤ flN (dpF G p g sub) (i + 1) n (dpF G p g sub i b) ∧ _
    have hb : b ≤ dpF G p g sub i b := by unfold dpF; split <;> omega
    refine ⟨by omega, fun h h1 h2 h3 h4 => ?_, ?_⟩
    · by_cases hi : h = i
      · subst hi
        refine Nat.le_trans ?_ a1
        unfold dpF
        rw [if_pos ⟨h3, h4⟩]
        exact Nat.le_max_right _ _
      · exact a2 h (by omega) (by omega) h3 h4
    · rcases a3 with e | ⟨h, q1, q2, q3, q4, q5⟩
      · by_cases hc : g.testBit i = false ∧ G p i = true
        · rcases Nat.le_total (1 + sub (g ||| 2 ^ i)) b with hm | hm
          · left
            show flN (dpF G p g sub) (i + 1) n (dpF G p g sub i b) = b
            rw [e]; unfold dpF; rw [if_pos hc]; exact Nat.max_eq_left hm
          · right
            refine ⟨i, Nat.le_refl _, by omega, hc.1, hc.2, ?_⟩
            show flN (dpF G p g sub) (i + 1) n (dpF G p g sub i b) = _
            rw [e]; unfold dpF; rw [if_pos hc]; exact Nat.max_eq_right hm
        · left
          show flN (dpF G p g sub) (i + 1) n (dpF G p g sub i b) = b
          rw [e]; unfold dpF; rw [if_neg hc]
      · right; exact ⟨h, by omega, by omega, q3, q4, q5⟩
def gG (G : Nat → Nat → Bool) (g : Nat) : Nat → Nat → Bool := fun k h => G k h && !g.testBit h
theorem szM_none {nh : Nat} {m : Mt} (h : ∀ q, q < nh → m q = none) : szM nh m = 0 := by
  unfold szM
  rw [cnN_c (C := fun _ => false) nh (fun j hj => by show (m j).isSome = false; rw [h j hj]; rfl)]
  have : ∀ n, cnN (fun _ => false) n = 0 := by
    intro n
    induction n with
    | zero => rfl
    | succ n ih => rw [cnN_1, ih]; rfl
  exact this nh
theorem dp_top {G : Nat → Nat → Bool} {np nh : Nat} : ∀ (d g : Nat) (m : Mt), d ≤ np → vM (gG G g) nh (np - d) np nX m → szM nh m ≤ dp G np nh d g
  | 0, g, m, _, hv => by
    rw [szM_none (fun q hq => ?_)]
    · exact Nat.le_refl _
    · cases hk : m q with
      | none => rfl
      | some k => have := hv.1 q k hq rfl hk; omega
  | d + 1, g, m, hd, hv => by
    obtain ⟨b1, b2, -⟩ := flmax (G := G) (p := np - (d + 1)) (g := g) (sub := dp G np nh d) nh 0 (dp G np nh d g)
    show szM nh m ≤ flN _ 0 nh _
    by_cases hx : ∃ h, h < nh ∧ m h = some (np - (d + 1))
    · obtain ⟨h, hh, hm⟩ := hx
      have hg := (hv.1 h _ hh rfl hm).2.2
      unfold gG at hg
      rw [Bool.and_eq_true, Bool.not_eq_true'] at hg
      refine Nat.le_trans ?_ (b2 h (by omega) (by omega) hg.2 hg.1)
      have hsz := cnN_up (B := fun q => (upM m h none q).isSome) (C := fun q => (m q).isSome) (q := h) nh hh (by show (upM m h none h).isSome = false; rw [upM_s]; rfl) (by show (m h).isSome = true; rw [hm]; rfl) (fun j _ hne => by show (upM m h none j).isSome = _; rw [upM_n hne])
      have := dp_top (G := G) (np := np) (nh := nh) d (g ||| 2 ^ h) (upM m h none) (by omega) ⟨fun q k hq _ hk => ?_, fun q q' k hq hq' _ _ hk hk' => ?_⟩
      · unfold szM at this ⊢; omega
      · have n1 : q ≠ h := fun z => by subst z; rw [upM_s] at hk; cases hk
        rw [upM_n n1] at hk
        obtain ⟨g1, g2, g3⟩ := hv.1 q k hq rfl hk
        have hne : k ≠ np - (d + 1) := fun z => by subst z; exact n1 (hv.2 q h _ hq hh rfl rfl hk hm)
        refine ⟨by omega, g2, ?_⟩
        unfold gG at g3 ⊢
        rw [Bool.and_eq_true] at g3
        rw [or_tb, g3.1, decide_eq_false n1, Bool.or_false, g3.2]; rfl
      · have n1 : q ≠ h := fun z => by subst z; rw [upM_s] at hk; cases hk
        have n2 : q' ≠ h := fun z => by subst z; rw [upM_s] at hk'; cases hk'
        rw [upM_n n1] at hk
        rw [upM_n n2] at hk'
        exact hv.2 q q' k hq hq' rfl rfl hk hk'
    · refine Nat.le_trans (dp_top (G := G) (np := np) (nh := nh) d g m (by omega) ⟨fun q k hq _ hk => ?_, hv.2⟩) b1
      obtain ⟨g1, g2, g3⟩ := hv.1 q k hq rfl hk
      refine ⟨?_, g2, g3⟩
      by_cases hk2 : k = np - (d + 1)
      · subst hk2; exact absurd ⟨q, hq, hk⟩ hx
      · omega
theorem dp_has {G : Nat → Nat → Bool} {np nh : Nat} : ∀ (d g : Nat), d ≤ np → ∃ m, vM (gG G g) nh (np - d) np nX m ∧ szM nh m = dp G np nh d g ∧ ∀ q, q < nh → g.testBit q = true → m q = none
  | 0, g, _ => ⟨fun _ => none, ⟨fun _ _ _ _ hk => (by cases hk), fun _ _ _ _ _ _ _ hk => (by cases hk)⟩, szM_none (fun _ _ => rfl), fun _ _ _ => rfl⟩
  | d + 1, g, hd => by
    obtain ⟨-, -, b3⟩ := flmax (G := G) (p := np - (d + 1)) (g := g) (sub := dp G np nh d) nh 0 (dp G np nh d g)
    rcases b3 with e | ⟨h, q1, q2, q3, q4, q5⟩
    · obtain ⟨m, h1, h2, h3⟩ := dp_has (G := G) (np := np) (nh := nh) d g (by omega)
      refine ⟨m, ⟨fun q k hq hX hk => ?_, h1.2⟩, h2.trans e.symm, h3⟩
      obtain ⟨g1, g2, g3⟩ := h1.1 q k hq rfl hk
      exact ⟨by omega, g2, g3⟩
    · obtain ⟨m, h1, h2, h3⟩ := dp_has (G := G) (np := np) (nh := nh) d (g ||| 2 ^ h) (by omega)
      have hh : h < nh := by omega
      have hm : m h = none := h3 h hh (by rw [or_tb]; simp)
      refine ⟨upM m h (some (np - (d + 1))), ⟨fun q k hq _ hk => ?_, fun q q' k hq hq' _ _ hk hk' => ?_⟩, ?_, fun q hq hg => ?_⟩
      · by_cases hqh : q = h
        · subst hqh
          rw [upM_s] at hk
          cases hk
          refine ⟨Nat.le_refl _, by omega, ?_⟩
          unfold gG; rw [q3, q4]; rfl
        · rw [upM_n hqh] at hk
          obtain ⟨g1, g2, g3⟩ := h1.1 q k hq rfl hk
          refine ⟨by omega, g2, ?_⟩
          unfold gG at g3 ⊢
          rw [Bool.and_eq_true, or_tb, decide_eq_false hqh, Bool.or_false] at g3
          rw [g3.1, g3.2]; rfl
      · by_cases a1 : q = h <;> by_cases a2 : q' = h
        · rw [a1, a2]
        · subst a1
          rw [upM_s] at hk; cases hk
          rw [upM_n a2] at hk'
          have := h1.1 q' _ hq' rfl hk'; omega
        · subst a2
          rw [upM_s] at hk'; cases hk'
          rw [upM_n a1] at hk
          have := h1.1 q _ hq rfl hk; omega
        · rw [upM_n a1] at hk; rw [upM_n a2] at hk'
          exact h1.2 q q' k hq hq' rfl rfl hk hk'
      · have hsz := cnN_up (B := fun q => (m q).isSome) (C := fun q => (upM m h (some (np - (d + 1))) q).isSome) (q := h) nh hh (by show (m h).isSome = false; rw [hm]; rfl) (by show (upM m h _ h).isSome = true; rw [upM_s]; rfl) (fun j _ hne => by show _ = (upM m h _ j).isSome; rw [upM_n hne])
        show cnN _ nh = flN _ 0 nh _
        rw [q5, hsz, ← h2, Nat.add_comm]
        rfl
      · have n1 : q ≠ h := fun z => by subst z; rw [q3] at hg; cases hg
        rw [upM_n n1]
        exact h3 q hq (by rw [or_tb, hg]; rfl)
