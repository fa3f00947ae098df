/-! would: both sides -/
def exO (W : Rw) (p : Nat) : Bool := (fdN (fun j => decide (W (300 + 3 * j) = nI p)) 0 (nO W)).isSome
def woV (w : Rw) (p x : Nat) : Int32 := if exO (wkE (bw w p (2 ^ x))) p = true then (if wTk w p x = true then 1 else nI 2) else 0
def an_would (w : Rw) (a b : Int32) : Int32 × Int32 := if (isHs w a && isHm w b) = false then (-1, nI 2) else if (mayH w a.toNatClampNeg && isFr w b.toNatClampNeg && dFit w a.toNatClampNeg b.toNatClampNeg) = false then (-1, nI 5) else (woV w a.toNatClampNeg b.toNatClampNeg, 0)
/-- offers of a house that bids for one home alone -/
def OF1 (w : Rw) (p x : Nat) (s : Rw) : Prop := (∀ j, j < nO s → s (300 + 3 * j) = nI p → s (300 + 3 * j + 1) = nI x ∧ s (300 + 3 * j + 2) = bI (wTk w p x)) ∧ (∀ h, h < nH s → iBd s p h = true → h = x) ∧ ∀ k, 11 ≤ k → k < 18 → pF s p k = pF w p k
section PWO
variable {w W : Rw} {th st ac a b c : Int32} {p q x y i s d K : Nat} {aa f g : Nat → Int32}
theorem wTk_c {a : Rw} (hp : p < 8) (Z : Rng w) (h : ∀ k, 11 ≤ k → k < 18 → pF a p k = pF w p k) : wTk a p x = wTk w p x := by
  have h11 := Z.p11 hp
  unfold wTk wsh
  have e : pN a p 11 = pN w p 11 := by unfold pN; rw [h 11 (by decide) (by decide)]
  rw [h 11 (by decide) (by decide), e, fdN_c (C := fun k => decide (pF w p (12 + k) = nI x)) (pN w p 11) 0 (fun j _ hj => by rw [h (12 + j) (by omega) (by omega)])]
theorem takd_no {a : Rw} {h off : Nat} (G : Gd a) (hp : p < 8) (hh : h < 10) (hl : nL a < 8) : nO (takd a p h off) = nO a ∧ nH (takd a p h off) = nH a ∧ (∀ j, 300 ≤ j → takd a p h off j = a j) ∧ ∀ q k, q < 8 → k < 18 → 10 ≤ k → pF (takd a p h off) q k = pF a q k := by
  refine ⟨takd_nO G.1 hp hh hl, takd_nH G.1 hp hh, fun j hj => takd_g G.1 hp hh (by omega) (by omega) (Or.inr (by omega)), fun q k hq hk h10 => ?_⟩
  rw [takd_p G.1 hp hh hq hk hl, if_neg (by omega), if_neg (by omega), if_neg (by omega)]
theorem offd_at {a : Rw} {h : Nat} {t : Bool} {j : Nat} : offd a p h t (300 + 3 * j) = (if j = nO a then nI p else a (300 + 3 * j)) ∧ offd a p h t (300 + 3 * j + 1) = (if j = nO a then nI h else a (300 + 3 * j + 1)) ∧ offd a p h t (300 + 3 * j + 2) = (if j = nO a then bI t else a (300 + 3 * j + 2)) := by
  unfold offd
  by_cases hj : j = nO a
  · subst hj
    refine ⟨?_, ?_, ?_⟩
    · rw [if_pos rfl, upd_n (by omega), upd_n (by omega), upd_n (by omega), upd_s]
    · rw [if_pos rfl, upd_n (by omega), upd_n (by omega), upd_s]
    · rw [if_pos rfl, upd_n (by omega), upd_s]
  · refine ⟨?_, ?_, ?_⟩ <;> rw [if_neg hj, upd_n (by omega), upd_n (by omega), upd_n (by omega), upd_n (by omega)]
theorem OF1.off {a : Rw} {q h : Nat} {t : Bool} (G : Gd a) (H : OF1 w p x a) (hq : q < 8) (hp : p < 8) (hh : h < nH a) (hO : nO a < 30) (hb : iBd a q h = true) (ht : wTk a q h = t) (Z : Rng w) : OF1 w p x (offd a q h t) := by
  have A := offd_a (p := q) (h := h) (t := t) G.1
  have b1 := G.1.gH.2
  have hn := nO_offd (t := t) (p := q) (h := h) G.1 hO
  obtain ⟨h1, h2, h3⟩ := H
  refine ⟨fun j hj hz => ?_, fun y hy hi => ?_, fun k k1 k2 => (ag_p A hp k2).trans (h3 k k1 k2)⟩
  · obtain ⟨e1, e2, e3⟩ := offd_at (a := a) (p := q) (h := h) (t := t) (j := j)
    rw [e1] at hz
    rw [e2, e3]
    by_cases hj2 : j = nO a
    · rw [if_pos hj2] at hz
      have hqp := (nI_eq (by omega) (by omega)).mp hz
      subst hqp
      have hx := h2 h hh hb
      subst hx
      rw [if_pos hj2, if_pos hj2]
      refine ⟨rfl, ?_⟩
      rw [← ht, wTk_c hq Z h3]
    · rw [if_neg hj2] at hz
      rw [if_neg hj2, if_neg hj2]
      exact h1 j (by omega) hz
  · rw [ag_nH A] at hy
    rw [ag_ib A hp] at hi
    exact h2 y hy hi
theorem OF1.wk (G : Gd w) (hp : p < nP w) (hx : x < nH w) : OF1 w p x (wkE (bw w p (2 ^ x))) := by
  have Z := G.1
  have b1 := Z.gH.2
  have b2 := Z.gP.2
  have hp8 : p < 8 := by omega
  have Gb : Gd (bw w p (2 ^ x)) := Gd_bw G hp (Nat.pow_lt_pow_right (by decide) hx)
  have h2 : OF1 w p x (w3E (bw w p (2 ^ x))) := by
    refine w3_rch Gb (OF1 w p x) ⟨fun j hj => ?_, fun y hy hi => ?_, fun k k1 k2 => ?_⟩ (fun a b hP hS => ?_)
    · exfalso
      have : nO (upd (bw w p (2 ^ x)) 299 0) = 0 := by unfold nO wN; rw [upd_s]; rfl
      omega
    · have e : iBd (upd (bw w p (2 ^ x)) 299 0) p y = bt (nI (2 ^ x)) y := by
        unfold iBd
        rw [show pF (upd (bw w p (2 ^ x)) 299 0) p 10 = pF (bw w p (2 ^ x)) p 10 by unfold pF; exact upd_n (by omega), bw_s]
      have hy' : y < nH w := by
        have : nH (upd (bw w p (2 ^ x)) 299 0) = nH w := Eq.trans (by unfold nH wN; rw [upd_n (by decide)]) (bw_nH (n := 2 ^ x) hp8)
        omega
      have h10 : 2 ^ x < 2 ^ 10 := Nat.pow_lt_pow_right (by decide) (by omega)
      rw [e, btN _ h10 y (by omega), Nat.testBit_two_pow] at hi
      exact (of_decide_eq_true hi).symm
    · have : pF (upd (bw w p (2 ^ x)) 299 0) p k = pF (bw w p (2 ^ x)) p k := by unfold pF; exact upd_n (by omega)
      rw [this, bw_p hp8 k2 (by omega)]
    · obtain ⟨Ga, hc⟩ := hS
      have a1 := Ga.1.gH.2
      have a2 := Ga.1.gP.2
      rcases hc with ⟨hO, ⟨q, h, off, hq, hh, hm, hf, rfl, hb, ht⟩ | ⟨q, h, hq, hh, rfl, hb, ht⟩⟩ | ⟨i, v, hi, rfl⟩
      · have H1 := hP.off Ga (q := q) (h := h) (by omega) hp8 hh hO hb ht Z
        have A := offd_a (p := q) (h := h) (t := true) Ga.1
        have G1 : Gd (offd a q h true) := ⟨Rng_offd Ga.1 (by omega) (by omega) hO, Con_ag A Ga.1 Ga.2.1, Cn_ag A Ga.1 Ga.2.2⟩
        have hl : nL (offd a q h true) < 8 := by rw [ag_nL A]; exact Ga.2.2.lt Ga.1 hq (mayH_in hm)
        obtain ⟨t1, t2, t3, t4⟩ := takd_no (off := off) G1 (p := q) (h := h) (by omega) (by omega) hl
        obtain ⟨k1, k2, k3⟩ := H1
        refine ⟨fun j hj hz => ?_, fun y hy hi => ?_, fun k z1 z2 => (t4 p k hp8 z2 (by omega)).trans (k3 k z1 z2)⟩
        · rw [t1] at hj
          rw [t3 _ (by omega)] at hz
          rw [t3 _ (by omega), t3 _ (by omega)]
          exact k1 j hj hz
        · rw [t2] at hy
          unfold iBd at hi
          rw [t4 p 10 hp8 (by decide) (by decide)] at hi
          exact k2 y hy hi
      · have H1 := hP.off Ga (q := q) (h := h) (by omega) hp8 hh hO hb ht Z
        obtain ⟨k1, k2, k3⟩ := H1
        have hq8 : q < 8 := by omega
        have eO : nO (refd (offd a q h false) q) = nO (offd a q h false) := by unfold nO wN; rw [refd_g hq8 (by decide) (by decide)]
        have eH : nH (refd (offd a q h false) q) = nH (offd a q h false) := by unfold nH wN; rw [refd_g hq8 (by decide) (by decide)]
        refine ⟨fun j hj hz => ?_, fun y hy hi => ?_, fun k z1 z2 => (refd_p hp8 z2 (by omega)).trans (k3 k z1 z2)⟩
        · rw [eO] at hj
          rw [refd_g hq8 (by omega) (by omega)] at hz
          rw [refd_g hq8 (by omega) (by omega), refd_g hq8 (by omega) (by omega)]
          exact k1 j hj hz
        · rw [eH] at hy
          rw [iBd_refd hp8] at hi
          exact k2 y hy hi
      · obtain ⟨k1, k2, k3⟩ := hP
        have hi80 : i < 224 := by rcases hi with ⟨y, z1, z2⟩ | ⟨y, z1, z2⟩ <;> omega
        have eO : nO (upd a i v) = nO a := by unfold nO wN; rw [upd_n (by omega)]
        have eH : nH (upd a i v) = nH a := by unfold nH wN; rw [upd_n (by omega)]
        refine ⟨fun j hj hz => ?_, fun y hy hb => ?_, fun k z1 z2 => ?_⟩
        · rw [eO] at hj
          rw [upd_n (by omega)] at hz
          rw [upd_n (by omega), upd_n (by omega)]
          exact k1 j hj hz
        · rw [eH] at hy
          refine k2 y hy ?_
          unfold iBd at hb ⊢
          by_cases hi2 : i = 80 + 18 * p + 10
          · exfalso
            have hv : v = 0 := by
              rcases hi with ⟨z, z1, z2⟩ | ⟨z, z1, z2 | z2 | ⟨-, z2⟩⟩
              · omega
              · omega
              · omega
              · exact z2
            rw [show pF (upd a i v) p 10 = v by unfold pF; rw [← hi2]; exact upd_s, hv] at hb
            have := btN 0 (by decide) y (by omega)
            rw [show nI 0 = 0 from rfl, hb, Nat.zero_testBit] at this
            cases this
          · rw [show pF (upd a i v) p 10 = pF a p 10 by unfold pF; exact upd_n (by omega)] at hb
            exact hb
        · rw [show pF (upd a i v) p k = pF a p k by unfold pF; exact upd_n (by rcases hi with ⟨y, y1, y2⟩ | ⟨y, y1, y2⟩ <;> omega)]
          exact k3 k z1 z2
  obtain ⟨h1, h3, h4⟩ := h2
  have eO : nO (wkE (bw w p (2 ^ x))) = nO (w3E (bw w p (2 ^ x))) := by unfold wkE nO wN; rw [upd_n (by decide)]
  have eH : nH (wkE (bw w p (2 ^ x))) = nH (w3E (bw w p (2 ^ x))) := by unfold wkE nH wN; rw [upd_n (by decide)]
  have ew : ∀ i, i ≠ 232 → wkE (bw w p (2 ^ x)) i = w3E (bw w p (2 ^ x)) i := fun i hi => by unfold wkE; exact upd_n hi
  refine ⟨fun j hj hz => ?_, fun y hy hb => ?_, fun k k1 k2 => ?_⟩
  · rw [ew _ (by omega)] at hz
    rw [ew _ (by omega), ew _ (by omega)]
    exact h1 j (by omega) hz
  · refine h3 y (by omega) ?_
    unfold iBd pF at hb ⊢
    rw [ew _ (by omega)] at hb
    exact hb
  · show wkE (bw w p (2 ^ x)) (80 + 18 * p + k) = _
    rw [ew _ (by omega)]
    exact h4 k k1 k2
theorem m_would (G : Gd w) (hw : wN w 232 < 999) : ∃ nw' aa', f_X3_would th st w aa a b = some ((an_would w a b).1, 0, (an_would w a b).2, nw', aa') ∧ RE w nw' := by
  have Z := G.1
  simp only [f_X3_would, m_areOnes, f_X3_refuse, f_X3_would_40, Option.bind_some, an_would, bI_0]
  by_cases hv : (isHs w a && isHm w b) = false
  · rw [if_pos hv, if_pos hv]; exact ⟨w, aa, rfl, fun _ _ => rfl⟩
  rw [if_neg hv, if_neg hv]
  have hv' := Bool.not_eq_false _ ▸ hv
  rw [Bool.and_eq_true] at hv'
  obtain ⟨p, hp, rfl⟩ := (hs_t Z).mp hv'.1
  obtain ⟨x, hx, rfl⟩ := (hm_t Z).mp hv'.2
  have b1 := Z.gP.2
  have b3 := Z.gH.2
  rw [m_mayHope (by omega), Option.bind_some, m_isFree (by omega), Option.bind_some, m_doesFit (by omega) (by omega), Option.bind_some, nI_clamp (by omega), nI_clamp (by omega)]
  simp only [bI_0]
  cases h1 : mayH w p
  · rw [if_pos rfl, if_pos (show (false && isFr w x && dFit w p x) = false from rfl)]; exact ⟨w, aa, rfl, fun _ _ => rfl⟩
  cases h2 : isFr w x
  · rw [if_neg (by nofun), if_pos rfl, if_pos (show (true && false && dFit w p x) = false from rfl)]; exact ⟨w, aa, rfl, fun _ _ => rfl⟩
  cases h3 : dFit w p x
  · rw [if_neg (by nofun), if_neg (by nofun), if_pos rfl, if_pos (show (true && true && false) = false from rfl)]; exact ⟨w, aa, rfl, fun _ _ => rfl⟩
  rw [if_neg (by nofun), if_neg (by nofun), if_neg (by nofun), if_neg (by decide), m_cp_na, Option.bind_some, shl_n x (by omega), m_puts (by omega), Option.bind_some]
  have Gb : Gd (bw w p (2 ^ x)) := Gd_bw G hp (Nat.pow_lt_pow_right (by decide) hx)
  have hW : wN (bw w p (2 ^ x)) 232 < 999 := by unfold wN; rw [bw_o (by omega)]; exact hw
  obtain ⟨Gw, -⟩ := wk_ok Gb hW
  have e0 : upd w (80 + 18 * p + 10) (nI (2 ^ x)) = bw w p (2 ^ x) := rfl
  rw [e0, m_weekEnds Gb.1 Gb.2.1 Gb.2.2, Option.bind_some]
  have O := OF1.wk G hp hx
  refine ⟨cpr (cpr w aa) (wkE (bw w p (2 ^ x))), cpr w aa, ?_, RE_cp⟩
  obtain ⟨e9, b9⟩ := Gw.1.gO
  dsimp only
  have key := lp_sq (fun n i (s : Int32) => f_X3_would_77 n (nI p) s (nI i) th st (wkE (bw w p (2 ^ x))) (cpr w aa)) (fun i => if (fdN (fun j => decide (wkE (bw w p (2 ^ x)) (300 + 3 * j) = nI p)) 0 i).isSome = true then (if wTk w p x = true then 1 else nI 2) else 0) (some (woV w p x, 0, 0, cpr (cpr w aa) (wkE (bw w p (2 ^ x))), cpr w aa)) (nO (wkE (bw w p (2 ^ x)))) ?_ ?_ FU 0 (Nat.zero_le _) (FU_lt (by omega))
  · exact key
  · intro n
    simp only [f_X3_would_77, m_cp_an, f_X3_gives, Option.bind_some]
    rw [e9, if_pos (nI_leR _)]
    rfl
  · intro n i hi
    simp only [f_X3_would_77]
    rw [e9, if_neg (nI_ge hi (by omega)), pk_mul, nI_add, gdn ⟨by omega, by decide⟩, nI_clamp (by omega), nI_add, gdn ⟨by omega, by decide⟩, nI_clamp (by omega), nI_1]
    have hf : ∀ z, (fdN (fun j => decide (wkE (bw w p (2 ^ x)) (300 + 3 * j) = nI p)) 0 z).isSome = true ↔ ∃ q, 0 ≤ q ∧ q < 0 + z ∧ decide (wkE (bw w p (2 ^ x)) (300 + 3 * q) = nI p) = true := fun z => fdN_any
    by_cases hz : wkE (bw w p (2 ^ x)) (300 + 3 * i) = nI p
    · rw [if_pos hz, (O.1 i hi hz).2]
      have hs : (fdN (fun j => decide (wkE (bw w p (2 ^ x)) (300 + 3 * j) = nI p)) 0 (i + 1)).isSome = true := (hf _).mpr ⟨i, by omega, by omega, decide_eq_true hz⟩
      rw [if_pos hs]
      cases wTk w p x
      · rw [if_neg (show ¬ bI false = 1 by decide), if_neg (by nofun)]
      · rw [if_pos (show bI true = 1 from rfl), if_pos rfl]
    · rw [if_neg hz]
      have hs : (fdN (fun j => decide (wkE (bw w p (2 ^ x)) (300 + 3 * j) = nI p)) 0 (i + 1)).isSome = (fdN (fun j => decide (wkE (bw w p (2 ^ x)) (300 + 3 * j) = nI p)) 0 i).isSome := by
        rw [Bool.eq_iff_iff, hf, hf]
        constructor
        · rintro ⟨q, q1, q2, q3⟩
          refine ⟨q, q1, ?_, q3⟩
          by_cases hq : q = i
          · subst hq; exact absurd (of_decide_eq_true q3) hz
          · omega
        · rintro ⟨q, q1, q2, q3⟩
          exact ⟨q, q1, by omega, q3⟩
      rw [hs]
end PWO
section PWOC
variable {A : Nat → Nat} {I : Nat → Int32} {M M' M1 : Nat → Prop} {w W : Rw} {st : Int32} {h h0 h1 h2 h' : AH} {nx nx' n0 n1 n2 : Nat} {E : bE} {v a b c u : Int32} {p x y N k q d K eL eO_ cL cO eL' eO' cL' cO' : Nat} {f : Option (Int32 × AH × Nat × Nat)} {zs : Nat → Nat} {n : Nat}
theorem y_would88 {q0 p x : Nat} {a e no : Nat} {oa : Nat → Nat} (hqa : q0 ≠ a) (hqe : q0 ≠ e) (hp : p < 2 ^ 31) {t : Bool} (hl : ∀ i, i < no → ∃ g : Nat → Int32, h (oa i) = some (.inl (0, 3, .inl g)) ∧ g 0 = W (300 + 3 * i) ∧ (W (300 + 3 * i) = nI p → g 1 = nI x ∧ g 2 = bI t) ∧ oa i ≠ q0) : ∀ (k i m : Nat) (h1 : AH), i + k = no → ItH h1 q0 a e no oa i → (∀ z, z ≠ q0 → h1 z = h z) → ∃ h', (∀ z, z ≠ q0 → h' z = h z) ∧ f_X1_would_88 (m + k + 1) E (nI p) (nI x) q0 h1 nx = some (if (fdN (fun j => decide (W (300 + 3 * j) = nI p)) i k).isSome = true then (if t = true then 1 else nI 2) else 0, h', 0, 0) := by
  intro k
  induction k with
  | zero =>
    intro i m h1 hi T hk
    refine ⟨h1, hk, ?_⟩
    simp only [f_X1_would_88]
    rw [T.o, gdT, it_has T (by omega), Option.bind_some, decide_eq_true (show i = no by omega), if_pos (show bI (!true) = 0 from rfl)]
    rfl
  | succ k ih =>
    intro i m h1 hi T hk
    obtain ⟨h2, e2, T2, k2⟩ := it_next (E := E) (nx := nx) T (by omega) hqa hqe
    obtain ⟨g, v1, v2, v3, v4⟩ := hl i (by omega)
    have hk2 : ∀ z, z ≠ q0 → h2 z = h z := fun z hz => (k2 z hz).trans (hk z hz)
    have v5 : h2 (oa i) = some (.inl (0, 3, .inl g)) := by rw [hk2 _ v4]; exact v1
    have a0 : aI h2 (oa i) 0 0 = some (g 0) := aI_at (i := 0) v5 (by decide) (by decide)
    have a1 : aI h2 (oa i) 0 1 = some (g 1) := aI_at (i := 1) v5 (by decide) (by decide)
    have a2 : aI h2 (oa i) 0 (nI 2) = some (g 2) := aI_at (i := 2) v5 (by decide) (by decide)
    have o7 : isA h2 (oa i) 0 = true := by simp [isA, v5]
    rw [show m + (k + 1) + 1 = (m + k + 1) + 1 by omega]
    have hf : fdN (fun j => decide (W (300 + 3 * j) = nI p)) i (k + 1) = if W (300 + 3 * i) = nI p then some i else fdN (fun j => decide (W (300 + 3 * j) = nI p)) (i + 1) k := by
      show (if decide (W (300 + 3 * i) = nI p) = true then some i else fdN (fun j => decide (W (300 + 3 * j) = nI p)) (i + 1) k) = _
      by_cases hw : W (300 + 3 * i) = nI p
      · rw [if_pos (decide_eq_true hw), if_pos hw]
      · rw [if_neg (fun z => hw (of_decide_eq_true z)), if_neg hw]
    rw [hf]
    simp only [f_X1_would_88]
    rw [T.o, gdT, it_has T (by omega), Option.bind_some, decide_eq_false (show ¬ i = no by omega), if_neg (show ¬ bI (!false) = 0 by decide), e2, Option.bind_some]
    dsimp only
    rw [aC00, o7, gdT, a0, Option.bind_some, a1, a2, Option.bind_some, Option.bind_some, Nat.add_zero, v2]
    by_cases hw : W (300 + 3 * i) = nI p
    · obtain ⟨v6, v7⟩ := v3 hw
      rw [if_pos hw, if_pos hw, v6, if_pos rfl, v7]
      refine ⟨h2, hk2, ?_⟩
      cases t <;> rfl
    · rw [if_neg hw, if_neg hw]
      exact ih (i + 1) m h2 (by omega) T2 hk2
/-- one write into the aside register -/
theorem AW.put {W' : Rw} (B : AW A I M w eL eO_ h0 n0 M' W eL' eO' cL' cO' h nx) (X : RX h1 nx M' (A 0) (A 8) eL' eO' cL' cO' W') (hk : ∀ q, ¬ Own (A 8) eL' eO' q → h1 q = h q) : AW A I M w eL eO_ h0 n0 M' W' eL' eO' cL' cO' h1 nx := by
  obtain ⟨b1, b2, b3, b4, b5, b6, b7, b8, b9, b10⟩ := B
  have ow := b2.own
  refine ⟨⟨RX.keep b1.1 (Nat.le_refl _) Ext.rfl' X.bd (fun q hq hz => hk q (fun o => ?_)), by rw [hk _ ow.2.1]; exact b1.2⟩, X, b3, b4, b5, b6, b7, b8, b9, fun q hq h1' h2 h3 => ?_⟩
  · rcases hz with z | z | z
    · exact z (ow.1 q o).1
    · exact ow.2.1 (z ▸ o)
    · exact b9 q z o
  · rw [hk q (fun o => ?_)]
    · exact b10 q hq h1' h2 h3
    · rcases o with z | z | z
      · exact h3 (Or.inl z)
      · rcases b7 with y | y
        · exact h3 (Or.inr (Or.inl (z.trans y)))
        · omega
      · rcases b8 with y | y
        · exact h3 (Or.inr (Or.inr (z.trans y)))
        · omega
theorem y_would (S : SN A I M w st h nx) (G : Gd w) (Y : RS h nx M (A 0) (A 8) eL eO_ cL cO) (hc : cL < 60) (hc2 : cO < 60) (P : AP A eL eO_) (hw : wN w 232 < 999) : AX A I M w eL eO_ h nx (f_X1_would (dE zs (n + 5)) h nx (A 0) a b) (an_would w a b) := by
  have Z := G.1
  rw [f_X1_would, S.i0, gdT, c_whyBoth S Z, Option.bind_some, gdT]
  unfold an_would
  cases hv : (isHs w a && isHm w b)
  · rw [if_neg (show ¬ false = true by nofun), if_neg (show ¬ nI 2 = 0 by decide), if_pos (show false = false from rfl)]
    exact An.ax (An.cn S (by decide)) Y hc hc2 P
  rw [if_pos (show true = true from rfl), if_pos (show (0 : Int32) = 0 from rfl), if_neg (show ¬ true = false by nofun)]
  rw [Bool.and_eq_true] at hv
  obtain ⟨p, hp, rfl⟩ := (hs_t Z).mp hv.1
  obtain ⟨x, hx, rfl⟩ := (hm_t Z).mp hv.2
  have b1 := Z.gP.2
  have b2 := Z.gH.2
  rw [c_isAsking S Z hp hx, Option.bind_some, nI_clamp (by omega), nI_clamp (by omega)]
  have hfr : (gA h (A 0) 0 2).bind (fun v7 => gd (isO h v7 1) ((f_X2_isFree (dE zs (n + 5)) h v7 (nI x)).bind fun v9 => if v9 = 0 then f_X1_would_37 (dE zs (n + 5)) (A 0) (nI p) (nI x) (A 0) (nI 5) h nx else f_X1_would_37 (dE zs (n + 5)) (A 0) (nI p) (nI x) (A 0) 0 h nx)) = if isFr w x = true then f_X1_would_37 (dE zs (n + 5)) (A 0) (nI p) (nI x) (A 0) 0 h nx else f_X1_would_37 (dE zs (n + 5)) (A 0) (nI p) (nI x) (A 0) (nI 5) h nx := by
    obtain ⟨⟨aH, eH, aP, eP, rN, rA, hm, hs, nh, np, tl, O, T, TI, ho, hM⟩, F, wk, rf, sc, la, oa, R, Q, L, K, s0, il, io, hOwn, hno⟩ := id S.1
    rw [S.g2, Option.bind_some, R.o1, gdT, c_isFree R Q O T Z G.2.1 hx, Option.bind_some]
    cases isFr w x
    · rw [if_pos (show bI false = 0 from rfl), if_neg (by nofun)]
    · rw [if_neg (show ¬ bI true = 0 by decide), if_pos rfl]
  rw [hfr]
  unfold f_X1_would_37
  cases hB : (mayH w p && dFit w p x)
  · rw [if_pos (show bI false = 0 from rfl), if_pos (show (mayH w p && isFr w x && dFit w p x) = false by cases h1 : mayH w p <;> cases h2 : dFit w p x <;> rw [h1, h2] at hB <;> first | (cases hB; done) | simp)]
    exact An.ax (An.cn S (by decide)) Y hc hc2 P
  rw [Bool.and_eq_true] at hB
  rw [if_neg (show ¬ bI true = 0 by decide), hB.1, hB.2]
  cases hF : isFr w x
  · rw [if_neg (by nofun), if_pos (by rfl)]
    exact An.ax (An.cn S (by decide)) Y hc hc2 P
  rw [if_pos rfl, if_neg (by decide)]
  have Gb : Gd (bw w p (2 ^ x)) := Gd_bw G hp (Nat.pow_lt_pow_right (by decide) hx)
  have hW : wN (bw w p (2 ^ x)) 232 < 999 := by unfold wN; rw [bw_o (by omega)]; exact hw
  obtain ⟨Gw, -⟩ := wk_ok Gb hW
  have OF := OF1.wk G hp hx
  refine AX.can0 S Y P (fun h1 S1 q1 Y1 => ?_)
  simp only [Nat.add_zero]
  obtain ⟨h2, M2, eL2, eO2, cL2, cO2, c2, d2, e2, B2, l2, l2'⟩ := y_aside (E := dE zs (n + 5)) S1 G Y1 hc hc2 P
  have o8 : isO h1 (A 8) 1 = true := by
    obtain ⟨F, wk, rf, sc, nl, la, no, oa, R, -⟩ := Y1
    exact R.o1
  obtain ⟨h3, e3, X3, k3⟩ := B2.2.1.bids Z (p := p) (by omega) (2 ^ x)
  have g5 : gA h2 (A 8) 1 5 = some (A 8 + 6) := by
    obtain ⟨F, wk, rf, sc, nl, la, no, oa, R, -⟩ := B2.2.1.rs
    exact R.g5
  have B3 := B2.put X3 (fun q hq => k3 q (fun e => hq (Or.inl ⟨by omega, by omega⟩)))
  have o83 : isO h3 (A 8) 1 = true := by
    obtain ⟨F, wk, rf, sc, nl, la, no, oa, R, -⟩ := X3.rs
    exact R.o1
  obtain ⟨h4, M4, eL4, eO4, cL4, cO4, c4, d4, e4, V⟩ := x_ends (zs := zs) (n := n) Gb X3 B2.2.2.2.2.1 B2.2.2.2.2.2.1
  have B4 := B3.xw V
  obtain ⟨-, v2, v3, v4, v5, v6, v7, v8, v9, v10, v11, v12, v13⟩ := V
  have hl8 := Gw.1.gL.2
  have hO30 := Gw.1.gO.2
  have S4 := B4.1
  have X4 := B4.2.1
  have ow4 := X4.own
  obtain ⟨F, wk, rf, sc, la, oa, R4, Q4, L4, K4, s04, il4, io4, -⟩ := X4.2
  have nL4 := (ow4.1 (A 8 + 18) (Or.inl ⟨by omega, by omega⟩)).2
  have nE4 := (ow4.1 eO4 (Or.inr (Or.inr rfl))).2
  obtain ⟨h5, e5, T5, k5⟩ := it_mk (E := dE zs (n + 5)) (nx := nx + c2 + c4) R4.2.2.2.1 nL4 nE4
  obtain ⟨h6, k6, e6⟩ := y_would88 (E := dE zs (n + 5)) (W := wkE (bw w p (2 ^ x))) (p := p) (x := x) (t := wTk w p x) (nx := nx + c2 + c4 + 1) (h := h5) (q0 := nx + c2 + c4) (by omega) (by omega) (by omega) (fun i hi => by
    obtain ⟨g, g1, g2, g3, g4⟩ := K4.2 i hi
    refine ⟨g, by rw [k5 _ (io4 i hi).1]; exact g1, g2, fun hz => ?_, by have := (io4 i hi).1; omega⟩
    rw [g3, g4]
    exact OF.1 i hi hz) (nO (wkE (bw w p (2 ^ x)))) 0 (FU - nO (wkE (bw w p (2 ^ x))) - 1) h5 (by omega) T5 (fun _ _ => rfl)
  rw [show FU - nO (wkE (bw w p (2 ^ x))) - 1 + nO (wkE (bw w p (2 ^ x))) + 1 = FU by unfold FU; omega] at e6
  have B6 := B4.grow (n1 := nx + c2 + c4 + 1) (h1 := h6) (by omega) (fun q hq => (k6 q (by omega)).trans (k5 q hq))
  rw [S1.g3, Option.bind_some, S1.g2, Option.bind_some, o8, gdT, e2, Option.bind_some]
  dsimp only
  rw [B2.1.g3, Option.bind_some, g5, Option.bind_some, shl_n x (by omega), e3, Option.bind_some, B3.1.g3, Option.bind_some, o83, gdT, e4, Option.bind_some]
  dsimp only
  rw [S4.g3, Option.bind_some, R4.g16, Option.bind_some, R4.2.2.2.1.o, gdT, e5, Option.bind_some]
  dsimp only
  rw [e6]
  simp only [aC_some]
  exact AW.out (k := c2 + (c4 + (1 + 0))) (by rw [show nx + (c2 + (c4 + (1 + 0))) = nx + c2 + c4 + 1 by omega]; exact B6) rfl (by omega) (by omega)
end PWOC
