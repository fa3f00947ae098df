/-! THE COMPONENT's side: a week ends, whole -/
section PZS
variable {h h' h'' : AH} {nx nx' nx'' : Nat} {M M' M'' : Nat → Prop} {o r eL eO_ cL cO : Nat} {w w' : Rw} {p x off : Nat} {zs : Nat → Nat} {n : Nat} {E : bE}
/-- flags of homes, put back -/
def rsF (N : Nat) (s : Rw) : Rw := flN (fun h s => upd s (8 * h + 3) 0) 0 N s
theorem rsF_1 {N : Nat} {s : Rw} : rsF (N + 1) s = upd (rsF N s) (8 * N + 3) 0 := by
  unfold rsF
  rw [flN_1, Nat.zero_add]
theorem rsF_o {s : Rw} {i : Nat} : ∀ N, (∀ y, y < N → i ≠ 8 * y + 3) → rsF N s i = s i
  | 0, _ => rfl
  | N + 1, H => by rw [rsF_1, upd_n (H N (by omega))]; exact rsF_o N (fun y hy => H y (by omega))
theorem rsF_3 {s : Rw} {y : Nat} : ∀ N, y < N → rsF N s (8 * y + 3) = 0
  | 0, hy => absurd hy (by omega)
  | N + 1, hy => by
    rw [rsF_1]
    by_cases e : y = N
    · subst e; exact upd_s
    · rw [upd_n (by omega)]; exact rsF_3 N (by omega)
theorem edF_up {s : Rw} {y q : Nat} (hy : y < 10) : edF q (upd s (8 * y + 3) 0) = upd (edF q s) (8 * y + 3) 0 := by
  unfold edF
  have e7 : pF (upd s (8 * y + 3) 0) q 7 = pF s q 7 := by unfold pF; exact upd_n (by omega)
  have e6 : pF (upd s (8 * y + 3) 0) q 6 = pF s q 6 := by unfold pF; exact upd_n (by omega)
  rw [e7, e6]
  split
  · rw [upd_cm (i := 8 * y + 3) (j := 80 + 18 * q + 10) (by omega), upd_cm (i := 8 * y + 3) (j := 80 + 18 * q + 6) (by omega), upd_cm (i := 8 * y + 3) (j := 80 + 18 * q + 7) (by omega)]
  · rw [upd_cm (i := 8 * y + 3) (j := 80 + 18 * q + 10) (by omega), upd_cm (i := 8 * y + 3) (j := 80 + 18 * q + 7) (by omega)]
theorem fed_up {s : Rw} {y : Nat} (hy : y < 10) : ∀ k j, flN edF j k (upd s (8 * y + 3) 0) = upd (flN edF j k s) (8 * y + 3) 0
  | 0, j => rfl
  | k + 1, j => by rw [flN_1, flN_1, fed_up hy k j, edF_up hy]
theorem fed_rs {s : Rw} {k j : Nat} : ∀ N, N ≤ 10 → flN edF j k (rsF N s) = rsF N (flN edF j k s)
  | 0, _ => rfl
  | N + 1, hN => by rw [rsF_1, rsF_1, fed_up (by omega), fed_rs N (by omega)]
/-- one house at the week's end -/
theorem x_ed (G : Gd w) (X : RX h nx M o r eL eO_ cL cO w) (hp : p < nP w) (v : Int32) (m : Nat) : ∃ h' : AH, f_X2_ends_117 (m + 1) E r v (nI p) h nx = f_X2_ends_117 m E r v (nI (p + 1)) h' nx ∧ RX h' nx M o r eL eO_ cL cO (edF p w) ∧ ∀ q, ¬ Own r eL eO_ q → h' q = h q := by
  have Z := G.1
  have b2 := Z.gP.2
  have hp8 : p < 8 := by omega
  have own : ∀ q i, i < 41 → ¬ Own r eL eO_ q → q ≠ r + i := fun q i hi hn z => hn (by rw [z]; exact Or.inl ⟨by omega, by omega⟩)
  obtain ⟨⟨aH, eH, aP, eP', rN, rA, hm, hs, nh, np, tl, O, T, TI, ho, hM'⟩, F, wk, rf, sc, la, oa, R, Q, -⟩ := id X
  obtain ⟨h1, a1, a2, a3⟩ := X.putP Z (a := 5) (k := 10) hp8 (by omega) (by decide) rfl 0 (fun F wk rf Q => RelF_p5 Q Z hp8 _)
  have G1 : Gd (upd w (80 + 18 * p + 10) 0) := Gd_bw (n := 0) G hp (Nat.two_pow_pos _)
  have Z1 := G1.1
  have p6 : pF (upd w (80 + 18 * p + 10) 0) p 6 = pF w p 6 := by unfold pF; exact upd_n (by omega)
  have p7 : pF (upd w (80 + 18 * p + 10) 0) p 7 = pF w p 7 := by unfold pF; exact upd_n (by omega)
  have eP1 : nP (upd w (80 + 18 * p + 10) 0) = nP w := by unfold nP wN; rw [upd_n (by omega)]
  obtain ⟨_, F1, wk1, rf1, sc1, la1, oa1, R1, Q1, -⟩ := id a2
  have q3 := (Q1.2.1 p (by rw [eP1]; exact hp)).2.2.1
  have q14 := (Q1.2.1 p (by rw [eP1]; exact hp)).2.2.2.2.2.2.2.2
  rw [p6] at q3
  rw [p7] at q14
  obtain ⟨e6, l6⟩ := Z.p6 hp8
  simp only [f_X2_ends_117, R.g26, Option.bind_some, O.g1, T.2.1.o, gdT, T.2.1.size, R.g5]
  rw [if_neg (nI_ge hp (by omega)), show sI h (r + 6) 0 (nI p) 0 = some h1 from a1, Option.bind_some]
  simp only [R1.g3, R1.g14, Option.bind_some]
  rw [R1.a3 hp8, R1.a14 hp8, q3, q14]
  simp only [Option.bind_some]
  have last : ∀ (u : Rw) (hu : AH), Gd u → RX hu nx M o r eL eO_ cL cO u → (∀ q, ¬ Own r eL eO_ q → hu q = h q) → ∃ h' : AH, f_X2_ends_166 (f_X2_ends_117 m E) E r v (nI p) hu nx = f_X2_ends_117 m E r v (nI (p + 1)) h' nx ∧ RX h' nx M o r eL eO_ cL cO (upd u (80 + 18 * p + 7) 0) ∧ ∀ q, ¬ Own r eL eO_ q → h' q = h q := by
    intro u hu Gu Xu ku
    obtain ⟨h3, c1, c2, c3⟩ := Xu.putP Gu.1 (a := 14) (k := 7) hp8 (by omega) (by decide) rfl 0 (fun F wk rf Q => RelF_p14 Q Gu.1 hp8 _)
    obtain ⟨_, F2, wk2, rf2, sc2, la2, oa2, R2, -⟩ := id Xu
    refine ⟨h3, ?_, c2, fun q hq => (c3 q (own q 15 (by decide) hq)).trans (ku q hq)⟩
    unfold f_X2_ends_166
    rw [R2.g14, Option.bind_some, show sI hu (r + 15) 3 (nI p) (vp_nar .boolean 0) = some h3 from c1, Option.bind_some, nI_1]
  have k1 : ∀ q, ¬ Own r eL eO_ q → h1 q = h q := fun q hq => a3 q (own q 6 (by decide) hq)
  unfold edF
  by_cases h7 : pF w p 7 = 0
  · rw [if_pos h7, if_pos h7]
    by_cases h0 : pF w p 6 ≤ 0
    · rw [if_pos h0]
      have z6 : pF w p 6 = 0 := by
        rw [e6] at h0 ⊢
        have : ∀ n, n ≤ 52 → nI n ≤ 0 → nI n = 0 := by decide +kernel
        exact this _ l6 h0
      have : upd (upd w (80 + 18 * p + 10) 0) (80 + 18 * p + 6) (mx32 0 (pF w p 6 - 1)) = upd w (80 + 18 * p + 10) 0 := by
        rw [z6, show mx32 0 ((0 : Int32) - 1) = 0 by decide]
        funext i
        by_cases e : i = 80 + 18 * p + 6
        · subst e
          rw [upd_s, upd_n (by omega)]
          exact z6.symm
        · rw [upd_n e]
      rw [this]
      exact last _ h1 G1 a2 k1
    · rw [if_neg h0]
      have hv : pF w p 6 - 1 = mx32 0 (pF w p 6 - 1) := by
        rw [e6] at h0 ⊢
        have : ∀ n, n ≤ 52 → ¬ nI n ≤ 0 → nI n - 1 = mx32 0 (nI n - 1) := by decide +kernel
        exact this _ l6 h0
      have hb : pB 6 (mx32 0 (pF w p 6 - 1)) := by
        rw [e6, mx_dec l6]
        exact inI_of (b := 52) (by omega) (by decide) (by decide)
      obtain ⟨h2, c1, c2, c3⟩ := a2.putP Z1 (a := 3) (k := 6) hp8 (by omega) (by decide) rfl (mx32 0 (pF w p 6 - 1)) (fun F wk rf Q => RelF_p3 Q Z1 hp8 _)
      rw [← hv] at c1
      rw [show sI h1 (r + 4) 0 (nI p) (pF w p 6 - 1) = some h2 from c1, Option.bind_some]
      exact last _ h2 (Gd_p G1 hp8 (by omega) hb) c2 (fun q hq => (c3 q (own q 4 (by decide) hq)).trans (k1 q hq))
  · rw [if_neg h7, if_neg h7]
    by_cases h0 : pF w p 6 ≤ 0
    · rw [if_pos h0]; exact last _ h1 G1 a2 k1
    · rw [if_neg h0]; exact last _ h1 G1 a2 k1
end PZS
