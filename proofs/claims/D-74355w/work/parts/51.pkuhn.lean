/-! ways that lengthen -/
def upS (s : Nat → Bool) (h : Nat) : Nat → Bool := fun q => if q = h then true else s q
theorem upS_s {s : Nat → Bool} {h : Nat} : upS s h h = true := if_pos rfl
theorem upS_n {s : Nat → Bool} {h q : Nat} (hq : q ≠ h) : upS s h q = s q := if_neg hq
theorem upS_m {s : Nat → Bool} {h q : Nat} (hs : s q = true) : upS s h q = true := by unfold upS; split <;> first | rfl | exact hs
theorem upS_f {s : Nat → Bool} {h q : Nat} (hs : upS s h q = false) : q ≠ h ∧ s q = false := by
  unfold upS at hs
  by_cases hq : q = h
  · rw [if_pos hq] at hs; cases hs
  · rw [if_neg hq] at hs; exact ⟨hq, hs⟩
abbrev kT : Type := Bool × Mt × (Nat → Bool)
def kfL (G : Nat → Nat → Bool) (rec : Mt → (Nat → Bool) → Nat → Option kT) (k : Nat) : Nat → Nat → Mt → (Nat → Bool) → Option kT
  | 0, _, m, s => some (false, m, s)
  | c + 1, h, m, s => if s h = false ∧ G k h = true then (match m h with
      | none => some (true, upM m h (some k), upS s h)
      | some k' => (rec m (upS s h) k').bind fun q => if q.1 = true then some (true, upM q.2.1 h (some k), q.2.2) else kfL G rec k c (h + 1) q.2.1 q.2.2) else kfL G rec k c (h + 1) m s
def kf (G : Nat → Nat → Bool) (nh : Nat) : Nat → Mt → (Nat → Bool) → Nat → Option kT
  | 0, _, _, _ => none
  | d + 1, m, s, k => kfL G (kf G nh d) k nh 0 m s
def szX (nh : Nat) (X : Nat → Bool) (m : Mt) : Nat := cnN (fun h => !X h && (m h).isSome) nh
/-- what a search of depth d gives -/
def kfP (G : Nat → Nat → Bool) (nh a b : Nat) (X : Nat → Bool) (m : Mt) (s : Nat → Bool) (k : Nat) (o : Option kT) : Prop :=
  ∃ r m' s', o = some (r, m', s') ∧ (∀ h, s h = true → s' h = true) ∧ (∀ h, s h = true → m' h = m h) ∧
    (r = true → vM G nh a b X m' ∧ szX nh X m' = szX nh X m + 1 ∧ ∀ q h, h < nh → X h = false → m' h = some q → q = k ∨ ∃ h', h' < nh ∧ X h' = false ∧ m h' = some q) ∧
    (r = false → m' = m ∧ (∀ h, h < nh → G k h = true → s' h = true) ∧ ∀ h, h < nh → s' h = true → s h = false → ∃ k2, m h = some k2 ∧ ∀ q, q < nh → G k2 q = true → s' q = true)
theorem kf_spec {G : Nat → Nat → Bool} {nh a b : Nat} : ∀ (d : Nat) (X : Nat → Bool) (m : Mt) (s : Nat → Bool) (k : Nat), cnN (fun h => !s h) nh < d → (∀ h, X h = true → s h = true) → vM G nh a b X m → a ≤ k → k < b → (∀ h, h < nh → X h = false → m h ≠ some k) → kfP G nh a b X m s k (kf G nh d m s k)
  | 0, X, m, s, k, hd, _, _, _, _, _ => absurd hd (by omega)
  | d + 1, X, m, s0, k, hd, hX, hv, hka, hkb, hku => by
    have loop : ∀ (c h : Nat) (s : Nat → Bool), h + c = nh → (∀ q, s0 q = true → s q = true) → (∀ q, q < h → G k q = true → s q = true) → (∀ q, q < nh → s q = true → s0 q = false → ∃ k2, m q = some k2 ∧ ∀ z, z < nh → G k2 z = true → s z = true) → kfP G nh a b X m s0 k (kfL G (kf G nh d) k c h m s) := by
      intro c
      induction c with
      | zero =>
        intro h s hh hs0 hg hc
        refine ⟨false, m, s, rfl, hs0, fun _ _ => rfl, fun e => (by cases e), fun _ => ⟨rfl, fun q hq hG => hg q (by omega) hG, hc⟩⟩
      | succ c ih =>
        intro h s hh hs0 hg hc
        unfold kfL
        by_cases hcond : s h = false ∧ G k h = true
        · rw [if_pos hcond]
          have hXh : X h = false := by
            cases hx : X h with
            | false => rfl
            | true => have := hs0 h (hX h hx); rw [hcond.1] at this; cases this
          have hs0h : s0 h = false := by
            cases hx : s0 h with
            | false => rfl
            | true => have := hs0 h hx; rw [hcond.1] at this; cases this
          have hhn : h < nh := by omega
          cases hm : m h with
          | none =>
            refine ⟨true, upM m h (some k), upS s h, rfl, fun q hq => upS_m (hs0 q hq), fun q hq => upM_n (fun z => by subst z; rw [hs0h] at hq; cases hq), fun _ => ⟨⟨fun q k1 hq hXq hk => ?_, fun q q' k1 hq hq' hXq hXq' hk hk' => ?_⟩, ?_, fun q h' hh' hXh' hq => ?_⟩, fun e => (by cases e)⟩
            · by_cases hqh : q = h
              · subst hqh; rw [upM_s] at hk; cases hk; exact ⟨hka, hkb, hcond.2⟩
              · rw [upM_n hqh] at hk; exact hv.1 q k1 hq hXq hk
            · by_cases a1 : q = h <;> by_cases a2 : q' = h
              · rw [a1, a2]
              · subst a1; rw [upM_s] at hk; cases hk; rw [upM_n a2] at hk'; exact absurd hk' (hku q' hq' hXq')
              · subst a2; rw [upM_s] at hk'; cases hk'; rw [upM_n a1] at hk; exact absurd hk (hku q hq hXq)
              · rw [upM_n a1] at hk; rw [upM_n a2] at hk'; exact hv.2 q q' k1 hq hq' hXq hXq' hk hk'
            · exact cnN_up (q := h) nh hhn (by show (!X h && (m h).isSome) = false; rw [hm]; simp) (by show (!X h && (upM m h (some k) h).isSome) = true; rw [upM_s, hXh]; rfl) (fun j _ hne => by show _ = (!X j && (upM m h (some k) j).isSome); rw [upM_n hne])
            · by_cases hqh : h' = h
              · subst hqh; rw [upM_s] at hq; cases hq; exact Or.inl rfl
              · rw [upM_n hqh] at hq; exact Or.inr ⟨h', hh', hXh', hq⟩
          | some k' =>
            have hk' := hv.1 h k' hhn hXh hm
            have hkk : k' ≠ k := fun z => by subst z; exact hku h hhn hXh hm
            have hcnt : cnN (fun q => !s q) nh ≤ cnN (fun q => !s0 q) nh := cnN_mono nh (fun j _ hj => by
              cases hx : s0 j with
              | false => rfl
              | true => rw [hs0 j hx] at hj; cases hj)
            have hcnt2 : cnN (fun q => !s q) nh = cnN (fun q => !upS s h q) nh + 1 := cnN_up (q := h) nh hhn (by show (!upS s h h) = false; rw [upS_s]; rfl) (by show (!s h) = true; rw [hcond.1]; rfl) (fun j _ hne => by show (!upS s h j) = _; rw [upS_n hne])
            obtain ⟨r, m', s', e1, e2, e3, e4, e5⟩ := kf_spec d (upS X h) m (upS s h) k' (by omega) (fun q hq => by
                by_cases hqh : q = h
                · subst hqh; exact upS_s
                · rw [upS_n hqh] at hq ⊢; exact hs0 q (hX q hq)) ⟨fun q k1 hq hXq hk => hv.1 q k1 hq (upS_f hXq).2 hk, fun q q' k1 hq hq' hXq hXq' hk hk' => hv.2 q q' k1 hq hq' (upS_f hXq).2 (upS_f hXq').2 hk hk'⟩ hk'.1 hk'.2.1 (fun q hq hXq hk => (upS_f hXq).1 (hv.2 q h k' hq hhn (upS_f hXq).2 hXh hk hm))
            dsimp only
            rw [e1, Option.bind_some]
            cases r with
            | true =>
              rw [if_pos rfl]
              obtain ⟨f1, f2, f3⟩ := e4 rfl
              have hmh : m' h = some k' := (e3 h upS_s).trans hm
              have hnk : ∀ q, q < nh → upS X h q = false → m' q ≠ some k := fun q hq hXq hk => by
                rcases f3 k q hq hXq hk with z | ⟨h', z1, z2, z3⟩
                · exact hkk z.symm
                · exact hku h' z1 (upS_f z2).2 z3
              refine ⟨true, upM m' h (some k), s', rfl, fun q hq => e2 q (upS_m (hs0 q hq)), fun q hq => ?_, fun _ => ⟨⟨fun q k1 hq hXq hk => ?_, fun q q' k1 hq hq' hXq hXq' hk hk2 => ?_⟩, ?_, fun q h' hh' hXh' hq => ?_⟩, fun e => (by cases e)⟩
              · have hqh : q ≠ h := fun z => by subst z; rw [hs0h] at hq; cases hq
                rw [upM_n hqh]; exact e3 q (upS_m (hs0 q hq))
              · by_cases hqh : q = h
                · subst hqh; rw [upM_s] at hk; cases hk; exact ⟨hka, hkb, hcond.2⟩
                · rw [upM_n hqh] at hk; exact f1.1 q k1 hq (by rw [upS_n hqh]; exact hXq) hk
              · by_cases a1 : q = h <;> by_cases a2 : q' = h
                · rw [a1, a2]
                · subst a1; rw [upM_s] at hk; cases hk; rw [upM_n a2] at hk2; exact absurd hk2 (hnk q' hq' (by rw [upS_n a2]; exact hXq'))
                · subst a2; rw [upM_s] at hk2; cases hk2; rw [upM_n a1] at hk; exact absurd hk (hnk q hq (by rw [upS_n a1]; exact hXq))
                · rw [upM_n a1] at hk; rw [upM_n a2] at hk2; exact f1.2 q q' k1 hq hq' (by rw [upS_n a1]; exact hXq) (by rw [upS_n a2]; exact hXq') hk hk2
              · have z1 : szX nh X m = szX nh (upS X h) m + 1 := cnN_up (q := h) nh hhn (by show (!upS X h h && (m h).isSome) = false; rw [upS_s]; rfl) (by show (!X h && (m h).isSome) = true; rw [hXh, hm]; rfl) (fun j _ hne => by show (!upS X h j && (m j).isSome) = _; rw [upS_n hne])
                have z2 : szX nh X (upM m' h (some k)) = szX nh (upS X h) m' + 1 := cnN_up (q := h) nh hhn (by show (!upS X h h && (m' h).isSome) = false; rw [upS_s]; rfl) (by show (!X h && (upM m' h (some k) h).isSome) = true; rw [hXh, upM_s]; rfl) (fun j _ hne => by show (!upS X h j && (m' j).isSome) = (!X j && (upM m' h (some k) j).isSome); rw [upS_n hne, upM_n hne])
                omega
              · by_cases hqh : h' = h
                · subst hqh; rw [upM_s] at hq; cases hq; exact Or.inl rfl
                · rw [upM_n hqh] at hq
                  rcases f3 q h' hh' (by rw [upS_n hqh]; exact hXh') hq with z | ⟨h2, z1, z2, z3⟩
                  · subst z; exact Or.inr ⟨h, hhn, hXh, hm⟩
                  · exact Or.inr ⟨h2, z1, (upS_f z2).2, z3⟩
            | false =>
              rw [if_neg (by nofun)]
              obtain ⟨f1, f2, f3⟩ := e5 rfl
              subst f1
              refine ih (h + 1) s' (by omega) (fun q hq => e2 q (upS_m (hs0 q hq))) (fun q hq hG => ?_) (fun q hq hsq hs0q => ?_)
              · by_cases hqh : q = h
                · subst hqh; exact e2 q upS_s
                · exact e2 q (upS_m (hg q (by omega) hG))
              · by_cases hqh : q = h
                · subst hqh; exact ⟨k', hm, f2⟩
                · by_cases hsq2 : s q = true
                  · obtain ⟨k2, z1, z2⟩ := hc q hq hsq2 hs0q
                    exact ⟨k2, z1, fun z hz hG => e2 z (upS_m (z2 z hz hG))⟩
                  · exact f3 q hq hsq (by rw [upS_n hqh]; exact Bool.eq_false_iff.mpr hsq2)
        · rw [if_neg hcond]
          refine ih (h + 1) s (by omega) hs0 (fun q hq hG => ?_) hc
          by_cases hqh : q = h
          · subst hqh
            cases hx : s q with
            | true => rfl
            | false => exact absurd ⟨hx, hG⟩ hcond
          · exact hg q (by omega) hG
    exact loop nh 0 s0 (by omega) (fun _ h => h) (fun q hq => absurd hq (by omega)) (fun q _ h1 h2 => by rw [h2] at h1; cases h1)
/-- from house a on: how many, one by one -/
def kfA (G : Nat → Nat → Bool) (nh : Nat) : Nat → Nat → Mt → Nat → Option (Nat × Mt)
  | 0, _, m, n => some (n, m)
  | c + 1, k, m, n => (kf G nh 12 m (fun _ => false) k).bind fun q => kfA G nh c (k + 1) q.2.1 (n + if q.1 = true then 1 else 0)
theorem szX_n {nh : Nat} {m : Mt} : szX nh nX m = szM nh m := cnN_c nh (fun j _ => by simp [nX])
theorem cn_unseen {nh : Nat} : cnN (fun _ : Nat => !false) nh ≤ nh := cnN_le nh
theorem kfA_max {G : Nat → Nat → Bool} {nh a : Nat} (hnh : nh ≤ 10) : ∀ (c k : Nat) (m : Mt) (n : Nat), a ≤ k → vM G nh a k nX m → szM nh m = n → (∀ N, vM G nh a k nX N → szM nh N ≤ n) → ∃ n' m', kfA G nh c k m n = some (n', m') ∧ vM G nh a (k + c) nX m' ∧ szM nh m' = n' ∧ ∀ N, vM G nh a (k + c) nX N → szM nh N ≤ n'
  | 0, k, m, n, _, h1, h2, h3 => ⟨n, m, rfl, h1, h2, h3⟩
  | c + 1, k, m, n, hak, h1, h2, h3 => by
    have hw : vM G nh a (k + 1) nX m := ⟨fun h q hh hX hq => by have := h1.1 h q hh hX hq; exact ⟨this.1, by omega, this.2.2⟩, h1.2⟩
    obtain ⟨r, m', s', e1, e2, e3, e4, e5⟩ := kf_spec (G := G) (nh := nh) (a := a) (b := k + 1) 12 nX m (fun _ => false) k (Nat.lt_of_le_of_lt cn_unseen (by omega)) (fun h hh => by cases hh) hw hak (by omega) (fun h hh _ hk => by have := h1.1 h k hh rfl hk; omega)
    show ∃ n' m'', (kf G nh 12 m (fun _ => false) k).bind _ = _ ∧ _
    rw [e1, Option.bind_some]
    rw [show k + (c + 1) = k + 1 + c by omega]
    cases r with
    | true =>
      obtain ⟨f1, f2, -⟩ := e4 rfl
      rw [szX_n, szX_n] at f2
      refine kfA_max hnh c (k + 1) m' (n + 1) (by omega) f1 (by omega) (fun N hN => ?_)
      obtain ⟨N', g1, g2⟩ := vM_drop hN
      have := h3 N' g1
      omega
    | false =>
      obtain ⟨f1, f2, f3⟩ := e5 rfl
      subst f1
      refine kfA_max hnh c (k + 1) m' n (by omega) hw h2 (fun N hN => ?_)
      obtain ⟨N', g1, g2⟩ := vM_closed (S := s') h1 hN f2 (fun h hh hs => f3 h hh hs rfl)
      have := h3 N' g1
      omega
/-- both ways give the same number -/
theorem kfA_dp {G : Nat → Nat → Bool} {nh np d g : Nat} (hnh : nh ≤ 10) (hd : d ≤ np) : ∃ m', kfA (gG G g) nh d (np - d) (fun _ => none) 0 = some (dp G np nh d g, m') := by
  obtain ⟨n', m', e1, e2, e3, e4⟩ := kfA_max (G := gG G g) (nh := nh) (a := np - d) hnh d (np - d) (fun _ => none) 0 (Nat.le_refl _) ⟨fun _ _ _ _ hk => (by cases hk), fun _ _ _ _ _ _ _ hk => (by cases hk)⟩ (szM_none (fun _ _ => rfl)) (fun N hN => Nat.le_of_eq (szM_none (fun q hq => by
    cases hk : N q with
    | none => rfl
    | some k => have := hN.1 q k hq rfl hk; omega)))
  rw [show np - d + d = np by omega] at e2 e4
  have h1 := dp_top (G := G) d g m' hd e2
  obtain ⟨m2, g1, g2, -⟩ := dp_has (G := G) (np := np) (nh := nh) d g hd
  have h2 := e4 m2 g1
  have : n' = dp G np nh d g := by omega
  subst this
  exact ⟨m', e1⟩
