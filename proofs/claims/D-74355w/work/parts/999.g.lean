/-! reading: the row that is read, plain -/
def told_ok (v : Nat → Int32) : Prop := ir (v 0) 1 (nI 4) = true ∧ ir (v 1) 1 (nI 4) = true ∧ ir (v 2) 0 (nI 7) = true ∧ ir (v 3) 0 (nI 999) = true
/-- the wishes of a house -/
def WsR (rd : Rw) (m p j : Nat) (u : Nat → Nat) : Prop := j ≤ 6 ∧ pF rd p 11 = nI j ∧ (∀ i, i < j → pF rd p (12 + i) = nI (u i) ∧ u i < m) ∧ (∀ i i', i < j → i' < j → u i = u i' → i = i') ∧ ∀ i, j ≤ i → i < 6 → pF rd p (12 + i) = 0
/-- between two lines: the row read so far, and what the register has of it -/
def PRw (rd : Rw) (m n : Nat) (F : Nat → Nat → Int32) : Prop :=
  (rd 230 = nI m ∧ m ≤ 10 ∧ rd 231 = nI n ∧ n ≤ 8) ∧
  (∀ r, r < 6 → ir (rd (224 + r)) (loR r) (hiR r) = true ∧ F 0 r = rd (224 + r)) ∧
  (∀ x, x < m → ir (hF rd x 0) 1 (nI 4) = true ∧ ir (hF rd x 1) 0 (nI 7) = true ∧ (hF rd x 2 = -1 ∨ ∃ p, p < n ∧ hF rd x 2 = nI p ∧ pF rd p 4 = nI x)) ∧
  (∀ x k, x < 10 → k < 8 → (m ≤ x ∨ 3 ≤ k) → hF rd x k = 0) ∧
  (∀ p, p < n → told_ok (pF rd p) ∧ (pF rd p 4 = -1 ∨ ∃ x, x < m ∧ pF rd p 4 = nI x ∧ hF rd x 2 = nI p) ∧ ∃ j u, WsR rd m p j u) ∧
  (∀ p k, p < 8 → k < 18 → (n ≤ p ∨ (5 ≤ k ∧ k ≤ 10)) → pF rd p k = 0) ∧
  (∀ i, 232 ≤ i → i < 390 → rd i = 0) ∧
  (∀ p, p < 8 → F 1 p = (if p < n then pF rd p 4 else -1) ∧ F 6 p = pF rd p 11 ∧ (∀ i, i < 6 → F 7 (6 * p + i) = pF rd p (12 + i)) ∧ F 10 p = (if p < n then pF rd p 1 else 0)) ∧
  (∀ x, x < 10 → F 9 x = -1) ∧ ∀ a j, a < 15 → a ≠ 0 → a ≠ 1 → a ≠ 6 → a ≠ 7 → a ≠ 9 → a ≠ 10 → F a j = 0
/-- within a house's line: told v, lives in o, j wishes u -/
def MidR (rd0 rd : Rw) (F0 F : Nat → Nat → Int32) (m n : Nat) (v : Nat → Int32) (o : Option Nat) (j : Nat) (u : Nat → Nat) : Prop :=
  (∀ i, (∀ k, k < 18 → i ≠ 80 + 18 * n + k) → (∀ x, o = some x → i ≠ 8 * x + 2) → rd i = rd0 i) ∧
  (∀ k, k < 4 → pF rd n k = v k) ∧ pF rd n 4 = eO o ∧ (∀ k, 5 ≤ k → k ≤ 10 → pF rd n k = 0) ∧ WsR rd m n j u ∧
  (∀ x, o = some x → x < m ∧ hF rd0 x 2 = -1 ∧ hF rd x 2 = nI n) ∧
  (∀ a i, ¬ (a = 1 ∧ i = n) → ¬ (a = 6 ∧ i = n) → ¬ (a = 7 ∧ 6 * n ≤ i ∧ i < 6 * n + 6) → F a i = F0 a i) ∧ F 1 n = eO o ∧ F 6 n = nI j ∧ ∀ i, i < 6 → F 7 (6 * n + i) = pF rd n (12 + i)
section PRG
variable {rd rd0 : Rw} {F F0 : Nat → Nat → Int32} {m n j x r : Nat} {v : Nat → Int32} {o : Option Nat} {u : Nat → Nat} {z v0 v1 v2 v3 : Int32}
theorem PRw.home (P : PRw rd m n F) (hm : m < 10) (i0 : ir v0 1 (nI 4) = true) (i1 : ir v1 0 (nI 7) = true) : PRw (rdH rd m v0 v1) (m + 1) n F := by
  obtain ⟨⟨p1, p2, p3, p4⟩, p5, p6, p7, p8, p9, p10, p11, p12, p13⟩ := P
  have far : ∀ i, i ≠ 230 → (∀ k, k < 3 → i ≠ 8 * m + k) → rdH rd m v0 v1 i = rd i := fun i h1 h2 => by
    have a0 : i ≠ 8 * m := h2 0 (by decide)
    have a1 := h2 1 (by decide); have a2 := h2 2 (by decide)
    unfold rdH
    rw [upd_n h1, upd_n a2, upd_n a1, upd_n a0]
  have ph : ∀ p k, p < 8 → k < 18 → pF (rdH rd m v0 v1) p k = pF rd p k := fun p k hp hk => far _ (by omega) (fun y hy => by omega)
  have e0 : hF (rdH rd m v0 v1) m 0 = v0 := by
    show rdH rd m v0 v1 (8 * m + 0) = v0
    unfold rdH
    rw [upd_n (by omega), upd_n (by omega), upd_n (by omega)]
    exact upd_s
  have e1 : hF (rdH rd m v0 v1) m 1 = v1 := by
    show rdH rd m v0 v1 (8 * m + 1) = v1
    unfold rdH
    rw [upd_n (by omega), upd_n (by omega), upd_s]
  have e2 : hF (rdH rd m v0 v1) m 2 = -1 := by
    show rdH rd m v0 v1 (8 * m + 2) = -1
    unfold rdH
    rw [upd_n (by omega), upd_s]
  have eh : ∀ x k, x ≠ m → k < 8 → hF (rdH rd m v0 v1) x k = hF rd x k ∨ 8 * x + k = 230 := fun x k hx hk => by
    by_cases h : 8 * x + k = 230
    · exact Or.inr h
    · exact Or.inl (far _ h (fun y hy => by omega))
  have eh' : ∀ x k, x < 10 → x ≠ m → k < 8 → hF (rdH rd m v0 v1) x k = hF rd x k := fun x k hx hn hk => (eh x k hn hk).resolve_right (by omega)
  refine ⟨⟨?_, by omega, ?_, p4⟩, fun r hr => ?_, fun x hx => ?_, fun x k hx hk hz => ?_, fun p hp => ?_, fun p k hp hk hz => ?_, fun i h1 h2 => ?_, fun p hp => ?_, p12, p13⟩
  · unfold rdH; rw [upd_s]
  · rw [far 231 (by omega) (fun y hy => by omega)]; exact p3
  · rw [far _ (by omega) (fun y hy => by omega)]; exact p5 r hr
  · by_cases hxm : x = m
    · subst hxm
      rw [e0, e1, e2]
      exact ⟨i0, i1, Or.inl rfl⟩
    · obtain ⟨a1, a2, a3⟩ := p6 x (by omega)
      rw [eh' x 0 (by omega) hxm (by decide), eh' x 1 (by omega) hxm (by decide), eh' x 2 (by omega) hxm (by decide)]
      refine ⟨a1, a2, ?_⟩
      rcases a3 with h | ⟨p, h1, h2, h3⟩
      · exact Or.inl h
      · exact Or.inr ⟨p, h1, h2, by rw [ph p 4 (by omega) (by decide)]; exact h3⟩
  · by_cases hxm : x = m
    · subst hxm
      have hk3 : 3 ≤ k := by omega
      have : hF (rdH rd x v0 v1) x k = hF rd x k := far _ (by omega) (fun y hy => by omega)
      rw [this]
      exact p7 x k hx hk (Or.inr hk3)
    · rw [eh' x k hx hxm hk]
      exact p7 x k hx hk (by omega)
  · obtain ⟨a1, a2, j, u, w1, w2, w3, w4, w5⟩ := p8 p hp
    refine ⟨?_, ?_, j, u, w1, ?_, fun i hi => ?_, w4, fun i h1 h2 => ?_⟩
    · unfold told_ok at a1 ⊢
      rw [ph p 0 (by omega) (by decide), ph p 1 (by omega) (by decide), ph p 2 (by omega) (by decide), ph p 3 (by omega) (by decide)]; exact a1
    · rw [ph p 4 (by omega) (by decide)]
      rcases a2 with h | ⟨x, h1, h2, h3⟩
      · exact Or.inl h
      · exact Or.inr ⟨x, by omega, h2, by rw [eh' x 2 (by omega) (by omega) (by decide)]; exact h3⟩
    · rw [ph p 11 (by omega) (by decide)]; exact w2
    · rw [ph p (12 + i) (by omega) (by omega)]
      exact ⟨(w3 i hi).1, by have := (w3 i hi).2; omega⟩
    · rw [ph p (12 + i) (by omega) (by omega)]; exact w5 i h1 h2
  · rw [ph p k hp hk]; exact p9 p k hp hk hz
  · rw [far i (by omega) (fun y hy => by omega)]; exact p10 i h1 h2
  · obtain ⟨a1, a2, a3, a4⟩ := p11 p hp
    rw [ph p 4 hp (by decide), ph p 11 hp (by decide), ph p 1 hp (by decide)]
    exact ⟨a1, a2, fun i hi => by rw [ph p (12 + i) hp (by omega)]; exact a3 i hi, a4⟩
theorem PRw.rule (P : PRw rd m n F) (hr : r < 6) (i0 : ir z (loR r) (hiR r) = true) : PRw (upd rd (224 + r) z) m n (uF F 0 r z) := by
  obtain ⟨⟨p1, p2, p3, p4⟩, p5, p6, p7, p8, p9, p10, p11, p12, p13⟩ := P
  have far : ∀ i, i < 224 ∨ 230 ≤ i → upd rd (224 + r) z i = rd i := fun i hi => upd_n (by omega)
  have ph : ∀ p k, p < 8 → k < 18 → pF (upd rd (224 + r) z) p k = pF rd p k := fun p k hp hk => far _ (by omega)
  have hh : ∀ x k, x < 10 → k < 8 → hF (upd rd (224 + r) z) x k = hF rd x k := fun x k hx hk => far _ (by omega)
  refine ⟨⟨by rw [far 230 (by omega)]; exact p1, p2, by rw [far 231 (by omega)]; exact p3, p4⟩, fun y hy => ?_, fun x hx => ?_, fun x k hx hk hz => ?_, fun p hp => ?_, fun p k hp hk hz => ?_, fun i h1 h2 => ?_, fun p hp => ?_, fun x hx => ?_, fun a j h1 h2 h3 h4 h5 h6 h7 => ?_⟩
  · rw [uF_a]
    by_cases hyr : y = r
    · subst hyr
      rw [upd_s, if_pos rfl]
      exact ⟨i0, rfl⟩
    · rw [upd_n (by omega), if_neg hyr]
      exact p5 y hy
  · obtain ⟨a1, a2, a3⟩ := p6 x hx
    rw [hh x 0 (by omega) (by decide), hh x 1 (by omega) (by decide), hh x 2 (by omega) (by decide)]
    refine ⟨a1, a2, ?_⟩
    rcases a3 with h | ⟨p, h1, h2, h3⟩
    · exact Or.inl h
    · exact Or.inr ⟨p, h1, h2, by rw [ph p 4 (by omega) (by decide)]; exact h3⟩
  · rw [hh x k hx hk]; exact p7 x k hx hk hz
  · obtain ⟨a1, a2, j, u, w1, w2, w3, w4, w5⟩ := p8 p hp
    refine ⟨?_, ?_, j, u, w1, ?_, fun i hi => ?_, w4, fun i h1 h2 => ?_⟩
    · unfold told_ok at a1 ⊢
      rw [ph p 0 (by omega) (by decide), ph p 1 (by omega) (by decide), ph p 2 (by omega) (by decide), ph p 3 (by omega) (by decide)]; exact a1
    · rw [ph p 4 (by omega) (by decide)]
      rcases a2 with h | ⟨x, h1, h2, h3⟩
      · exact Or.inl h
      · exact Or.inr ⟨x, by omega, h2, by rw [hh x 2 (by omega) (by decide)]; exact h3⟩
    · rw [ph p 11 (by omega) (by decide)]; exact w2
    · rw [ph p (12 + i) (by omega) (by omega)]; exact w3 i hi
    · rw [ph p (12 + i) (by omega) (by omega)]; exact w5 i h1 h2
  · rw [ph p k hp hk]; exact p9 p k hp hk hz
  · rw [far i (by omega)]; exact p10 i h1 h2
  · obtain ⟨a1, a2, a3, a4⟩ := p11 p hp
    rw [ph p 4 hp (by decide), ph p 11 hp (by decide), ph p 1 hp (by decide), uF_n (by decide), uF_n (by decide), uF_n (by decide)]
    exact ⟨a1, a2, fun i hi => by rw [ph p (12 + i) hp (by omega), uF_n (by decide)]; exact a3 i hi, a4⟩
  · rw [uF_n (by decide)]; exact p12 x hx
  · rw [uF_n h2]; exact p13 a j h1 h2 h3 h4 h5 h6 h7
/-- the house's line begins -/
theorem MidR.start (P : PRw rd0 m n F0) (hn : n < 8) : MidR rd0 (upd (upd (upd (upd (upd rd0 (80 + 18 * n + 0) v0) (80 + 18 * n + 1) v1) (80 + 18 * n + 2) v2) (80 + 18 * n + 3) v3) (80 + 18 * n + 4) (-1)) F0 F0 m n (fun k => if k = 0 then v0 else if k = 1 then v1 else if k = 2 then v2 else v3) none 0 u := by
  obtain ⟨⟨p1, p2, p3, p4⟩, p5, p6, p7, p8, p9, p10, p11, p12, p13⟩ := P
  generalize hrd : upd (upd (upd (upd (upd rd0 (80 + 18 * n + 0) v0) (80 + 18 * n + 1) v1) (80 + 18 * n + 2) v2) (80 + 18 * n + 3) v3) (80 + 18 * n + 4) (-1) = rd
  have far : ∀ i, (∀ k, k < 5 → i ≠ 80 + 18 * n + k) → rd i = rd0 i := fun i h => by
    have a0 := h 0 (by decide); have a1 := h 1 (by decide); have a2 := h 2 (by decide); have a3 := h 3 (by decide); have a4 := h 4 (by decide)
    rw [← hrd, upd_n a4, upd_n a3, upd_n a2, upd_n a1, upd_n a0]
  have hk : ∀ k, 5 ≤ k → k < 18 → pF rd n k = 0 := fun k h1 h2 => (far _ (fun y hy => by omega)).trans (p9 n k hn h2 (Or.inl (Nat.le_refl _)))
  refine ⟨fun i h1 h2 => far i (fun k hk => h1 k (by omega)), fun k hk => ?_, ?_, fun k h1 h2 => hk k h1 (by omega), ⟨by omega, hk 11 (by decide) (by decide), fun i hi => absurd hi (by omega), fun i i' hi => absurd hi (by omega), fun i h1 h2 => hk (12 + i) (by omega) (by omega)⟩, fun x hx => (by cases hx), fun _ _ _ _ _ => rfl, ?_, ?_, fun i hi => ?_⟩
  · show rd (80 + 18 * n + k) = _
    rcases (show k = 0 ∨ k = 1 ∨ k = 2 ∨ k = 3 by omega) with rfl | rfl | rfl | rfl
    · rw [← hrd, upd_n (by omega), upd_n (by omega), upd_n (by omega), upd_n (by omega), upd_s]; rfl
    · rw [← hrd, upd_n (by omega), upd_n (by omega), upd_n (by omega), upd_s]; rfl
    · rw [← hrd, upd_n (by omega), upd_n (by omega), upd_s]; rfl
    · rw [← hrd, upd_n (by omega), upd_s]; rfl
  · show rd (80 + 18 * n + 4) = -1
    rw [← hrd, upd_s]
  · have := (p11 n hn).1
    rw [if_neg (Nat.lt_irrefl n)] at this
    exact this
  · rw [(p11 n hn).2.1]
    exact p9 n 11 hn (by decide) (Or.inl (Nat.le_refl _))
  · rw [(p11 n hn).2.2.1 i hi, hk (12 + i) (by omega) (by omega)]
    exact p9 n (12 + i) hn (by omega) (Or.inl (Nat.le_refl _))
theorem MidR.inn (M : MidR rd0 rd F0 F m n v none j u) (hn : n < 8) (hx : x < m) (hm : m ≤ 10) (hf : hF rd0 x 2 = -1) : MidR rd0 (upd (upd rd (80 + 18 * n + 4) (nI x)) (8 * x + 2) (nI n)) F0 (uF F 1 n (nI x)) m n v (some x) j u := by
  obtain ⟨q1, q2, q3, q4, ⟨w1, w2, w3, w4, w5⟩, q5, q6, q7, q8, q9⟩ := M
  generalize hrd : upd (upd rd (80 + 18 * n + 4) (nI x)) (8 * x + 2) (nI n) = rd'
  have ho : ∀ k, k < 18 → k ≠ 4 → pF rd' n k = pF rd n k := fun k h1 h2 => by
    show rd' (80 + 18 * n + k) = rd (80 + 18 * n + k)
    rw [← hrd, upd_n (by omega), upd_n (by omega)]
  refine ⟨fun i h1 h2 => ?_, fun k hk => (ho k (by omega) (by omega)).trans (q2 k hk), ?_, fun k h1 h2 => (ho k (by omega) (by omega)).trans (q4 k h1 h2), ⟨w1, (ho 11 (by decide) (by decide)).trans w2, fun i hi => ?_, w4, fun i h1 h2 => (ho (12 + i) (by omega) (by omega)).trans (w5 i h1 h2)⟩, fun y hy => ?_, fun a i h1 h2 h3 => ?_, ?_, ?_, fun i hi => ?_⟩
  · have a1 := h1 4 (by decide)
    have a2 := h2 x rfl
    rw [← hrd, upd_n a2, upd_n a1]
    exact q1 i h1 (fun y hy => by cases hy)
  · show rd' (80 + 18 * n + 4) = nI x
    rw [← hrd, upd_n (by omega), upd_s]
  · rw [ho (12 + i) (by omega) (by omega)]; exact w3 i hi
  · cases hy
    refine ⟨hx, hf, ?_⟩
    show rd' (8 * x + 2) = nI n
    rw [← hrd, upd_s]
  · by_cases ha : a = 1
    · subst ha
      rw [uF_a, if_neg (fun z => h1 ⟨rfl, z⟩)]
      exact q6 1 i h1 h2 h3
    · rw [uF_n ha]; exact q6 a i h1 h2 h3
  · rw [uF_a, if_pos rfl]; rfl
  · rw [uF_n (by decide)]; exact q8
  · rw [uF_n (by decide), ho (12 + i) (by omega) (by omega)]; exact q9 i hi
theorem MidR.wish (M : MidR rd0 rd F0 F m n v o j u) (hn : n < 8) (hj : j < 6) (hx : x < m) (hm : m ≤ 10) (hnew : ∀ i, i < j → u i ≠ x) : MidR rd0 (upd (upd rd (80 + 18 * n + (12 + j)) (nI x)) (80 + 18 * n + 11) (nI (j + 1))) F0 (uF (uF F 7 (6 * n + j) (nI x)) 6 n (nI (j + 1))) m n v o (j + 1) (fun i => if i = j then x else u i) := by
  obtain ⟨q1, q2, q3, q4, ⟨w1, w2, w3, w4, w5⟩, q5, q6, q7, q8, q9⟩ := M
  generalize hrd : upd (upd rd (80 + 18 * n + (12 + j)) (nI x)) (80 + 18 * n + 11) (nI (j + 1)) = rd'
  have ho : ∀ k, k < 18 → k ≠ 11 → k ≠ 12 + j → pF rd' n k = pF rd n k := fun k h1 h2 h3 => by
    show rd' (80 + 18 * n + k) = rd (80 + 18 * n + k)
    rw [← hrd, upd_n (by omega), upd_n (by omega)]
  have hj' : pF rd' n (12 + j) = nI x := by
    show rd' (80 + 18 * n + (12 + j)) = nI x
    rw [← hrd, upd_n (by omega), upd_s]
  refine ⟨fun i h1 h2 => ?_, fun k hk => (ho k (by omega) (by omega) (by omega)).trans (q2 k hk), (ho 4 (by decide) (by decide) (by omega)).trans q3, fun k h1 h2 => (ho k (by omega) (by omega) (by omega)).trans (q4 k h1 h2), ⟨by omega, ?_, fun i hi => ?_, fun i i' h1 h2 h3 => ?_, fun i h1 h2 => (ho (12 + i) (by omega) (by omega) (by omega)).trans (w5 i (by omega) h2)⟩, fun y hy => ?_, fun a i h1 h2 h3 => ?_, ?_, ?_, fun i hi => ?_⟩
  · have a1 := h1 11 (by decide)
    have a2 := h1 (12 + j) (by omega)
    rw [← hrd, upd_n a1, upd_n a2]
    exact q1 i h1 h2
  · show rd' (80 + 18 * n + 11) = nI (j + 1)
    rw [← hrd, upd_s]
  · by_cases hij : i = j
    · subst hij
      simp only [if_true]
      exact ⟨hj', hx⟩
    · simp only [if_neg hij]
      rw [ho (12 + i) (by omega) (by omega) (by omega)]; exact w3 i (by omega)
  · by_cases e1 : i = j
    · by_cases e2 : i' = j
      · omega
      · simp only [if_pos e1, if_neg e2] at h3
        exact absurd h3.symm (hnew i' (by omega))
    · by_cases e2 : i' = j
      · simp only [if_neg e1, if_pos e2] at h3
        exact absurd h3 (hnew i (by omega))
      · simp only [if_neg e1, if_neg e2] at h3
        exact w4 i i' (by omega) (by omega) h3
  · obtain ⟨z1, z2, z3⟩ := q5 y hy
    refine ⟨z1, z2, ?_⟩
    show rd' (8 * y + 2) = nI n
    rw [← hrd, upd_n (by omega), upd_n (by omega)]; exact z3
  · by_cases ha6 : a = 6
    · subst ha6
      rw [uF_a, if_neg (fun z => h2 ⟨rfl, z⟩), uF_n (by decide)]
      exact q6 6 i h1 h2 h3
    · rw [uF_n ha6]
      by_cases ha7 : a = 7
      · subst ha7
        rw [uF_a, if_neg (fun z => h3 ⟨rfl, by omega, by omega⟩)]
        exact q6 7 i h1 h2 h3
      · rw [uF_n ha7]; exact q6 a i h1 h2 h3
  · rw [uF_n (by decide), uF_n (by decide)]; exact q7
  · rw [uF_a, if_pos rfl]
  · rw [uF_n (by decide), uF_a]
    by_cases hij : i = j
    · subst hij
      rw [if_pos rfl, hj']
    · rw [if_neg (by omega), ho (12 + i) (by omega) (by omega) (by omega)]; exact q9 i hi
theorem MidR.fin (P : PRw rd0 m n F0) (M : MidR rd0 rd F0 F m n v o j u) (hv : told_ok v) (hn : n < 8) : PRw (upd rd 231 (nI (n + 1))) m (n + 1) (uF F 10 n (v 1)) := by
  obtain ⟨⟨p1, p2, p3, p4⟩, p5, p6, p7, p8, p9, p10, p11, p12, p13⟩ := P
  obtain ⟨q1, q2, q3, q4, ⟨w1, w2, w3, w4, w5⟩, q5, q6, q7, q8, q9⟩ := M
  generalize hrd : upd rd 231 (nI (n + 1)) = rd'
  have e0 : ∀ i, i ≠ 231 → rd' i = rd i := fun i hi => by rw [← hrd, upd_n hi]
  have hob : ∀ x, o = some x → x < 10 := fun x hx => by have := (q5 x hx).1; omega
  have far : ∀ i, 224 ≤ i → i ≠ 231 → rd' i = rd0 i := fun i h1 h2 => (e0 i h2).trans (q1 i (fun k hk => by omega) (fun x hx => by have := hob x hx; omega))
  have own : ∀ k, k < 18 → pF rd' n k = pF rd n k := fun k hk => e0 _ (by omega)
  have oth : ∀ p k, p < 8 → p ≠ n → k < 18 → pF rd' p k = pF rd0 p k := fun p k h1 h2 h3 => (e0 _ (by omega)).trans (q1 _ (fun y hy => by omega) (fun x hx => by have := hob x hx; omega))
  have hom : ∀ x k, x < 10 → k < 8 → (k ≠ 2 ∨ o ≠ some x) → hF rd' x k = hF rd0 x k := fun x k h1 h2 h3 => (e0 _ (by omega)).trans (q1 _ (fun y hy => by omega) (fun y hy e => by
    have := hob y hy
    rcases h3 with z | z
    · omega
    · exact z (by rw [hy]; exact congrArg some (by omega))))
  have in2 : ∀ x, o = some x → hF rd' x 2 = nI n := fun x hx => by
    have := hob x hx
    exact (e0 _ (by omega)).trans (q5 x hx).2.2
  refine ⟨⟨by rw [far 230 (by decide) (by decide)]; exact p1, p2, by rw [← hrd, upd_s], by omega⟩, fun r hr => ?_, fun x hx => ?_, fun x k hx hk hz => ?_, fun p hp => ?_, fun p k hp hk hz => ?_, fun i h1 h2 => (far i (by omega) (by omega)).trans (p10 i h1 h2), fun p hp => ?_, fun x hx => ?_, fun a i h1 h2 h3 h4 h5 h6 h7 => ?_⟩
  · rw [far _ (by omega) (by omega), uF_n (by decide), q6 0 r (fun z => by omega) (fun z => by omega) (fun z => by omega)]
    exact p5 r hr
  · obtain ⟨a1, a2, a3⟩ := p6 x hx
    rw [hom x 0 (by omega) (by decide) (Or.inl (by decide)), hom x 1 (by omega) (by decide) (Or.inl (by decide))]
    refine ⟨a1, a2, ?_⟩
    by_cases hox : o = some x
    · exact Or.inr ⟨n, by omega, in2 x hox, by rw [own 4 (by decide), q3, hox]; rfl⟩
    · rw [hom x 2 (by omega) (by decide) (Or.inr hox)]
      rcases a3 with h | ⟨p, h1, h2, h3⟩
      · exact Or.inl h
      · exact Or.inr ⟨p, by omega, h2, by rw [oth p 4 (by omega) (by omega) (by decide)]; exact h3⟩
  · rw [hom x k hx hk ?_]
    · exact p7 x k hx hk hz
    · by_cases hk2 : k = 2
      · refine Or.inr (fun e => ?_)
        have := (q5 x e).1
        omega
      · exact Or.inl hk2
  · by_cases hpn : p = n
    · subst hpn
      refine ⟨?_, ?_, j, u, w1, ?_, fun i hi => ?_, w4, fun i h1 h2 => ?_⟩
      · unfold told_ok at hv ⊢
        rw [own 0 (by decide), own 1 (by decide), own 2 (by decide), own 3 (by decide), q2 0 (by decide), q2 1 (by decide), q2 2 (by decide), q2 3 (by decide)]
        exact hv
      · rw [own 4 (by decide), q3]
        cases ho : o with
        | none => exact Or.inl rfl
        | some x => exact Or.inr ⟨x, (q5 x ho).1, rfl, in2 x ho⟩
      · rw [own 11 (by decide)]; exact w2
      · rw [own (12 + i) (by omega)]; exact w3 i hi
      · rw [own (12 + i) (by omega)]; exact w5 i h1 h2
    · obtain ⟨a1, a2, j', u', w1', w2', w3', w4', w5'⟩ := p8 p (by omega)
      refine ⟨?_, ?_, j', u', w1', ?_, fun i hi => ?_, w4', fun i h1 h2 => ?_⟩
      · unfold told_ok at a1 ⊢
        rw [oth p 0 (by omega) hpn (by decide), oth p 1 (by omega) hpn (by decide), oth p 2 (by omega) hpn (by decide), oth p 3 (by omega) hpn (by decide)]
        exact a1
      · rw [oth p 4 (by omega) hpn (by decide)]
        rcases a2 with h | ⟨x, h1, h2, h3⟩
        · exact Or.inl h
        · refine Or.inr ⟨x, h1, h2, ?_⟩
          rw [hom x 2 (by omega) (by decide) (Or.inr (fun e => ?_))]
          · exact h3
          · have := (q5 x e).2.1
            rw [h3] at this
            exact nI_m1 (by omega) this
      · rw [oth p 11 (by omega) hpn (by decide)]; exact w2'
      · rw [oth p (12 + i) (by omega) hpn (by omega)]; exact w3' i hi
      · rw [oth p (12 + i) (by omega) hpn (by omega)]; exact w5' i h1 h2
  · by_cases hpn : p = n
    · subst hpn
      rw [own k hk]; exact q4 k (by omega) (by omega)
    · rw [oth p k hp hpn hk]
      exact p9 p k hp hk (by omega)
  · obtain ⟨a1, a2, a3, a4⟩ := p11 p hp
    rw [uF_n (by decide), uF_n (by decide), uF_a]
    by_cases hpn : p = n
    · subst hpn
      rw [if_pos (by omega), if_pos rfl, if_pos (by omega), own 4 (by decide), own 11 (by decide), own 1 (by decide), q7, q3, q8, w2, q2 1 (by decide)]
      exact ⟨rfl, rfl, fun i hi => by rw [uF_n (by decide), own (12 + i) (by omega)]; exact q9 i hi, rfl⟩
    · rw [if_neg hpn, q6 1 p (fun z => hpn z.2) (fun z => by omega) (fun z => by omega), q6 6 p (fun z => by omega) (fun z => hpn z.2) (fun z => by omega), q6 10 p (fun z => by omega) (fun z => by omega) (fun z => by omega), oth p 4 hp hpn (by decide), oth p 11 hp hpn (by decide), oth p 1 hp hpn (by decide), a1, a4]
      refine ⟨?_, a2, fun i hi => ?_, ?_⟩
      · by_cases h : p < n
        · rw [if_pos h, if_pos (by omega)]
        · rw [if_neg h, if_neg (by omega)]
      · rw [uF_n (by decide), q6 7 _ (fun z => by omega) (fun z => by omega) (fun z => by omega), oth p (12 + i) hp hpn (by omega)]
        exact a3 i hi
      · by_cases h : p < n
        · rw [if_pos h, if_pos (by omega)]
        · rw [if_neg h, if_neg (by omega)]
  · rw [uF_n (by decide), q6 9 x (fun z => by omega) (fun z => by omega) (fun z => by omega)]
    exact p12 x hx
  · rw [uF_n h7, q6 a i (fun z => h3 z.1) (fun z => h4 z.1) (fun z => h5 z.1)]
    exact p13 a i h1 h2 h3 h4 h5 h6 h7
end PRG
