/-! a new register -/
def IC (h : AH) (r : Nat) (h0 : AH) (fs : List Value) (es : List hE) : Prop := h r = some (.inr (.inl (1, fs))) ∧ fs.length = 27 ∧ (∀ q, q < r → h q = h0 q) ∧ ∀ i e, es[i]? = some e → h (r + 1 + i) = some e
def rE (t N : Nat) (f : Nat → Int32) : hE := .inl (t, N, .inl f)
def aE (t N : Nat) (g : Nat → Option Nat) : hE := .inl (t, N, .inr (.inr (.inr (.inr g))))
section PIN
variable {h h0 h1 : AH} {r n i j k a q s c C D t N : Nat} {fs : List Value} {es : List hE} {e : hE} {v : Value} {iv : Int32} {E : bE} {Q : AH → Prop} {f : Nat → Int32} {g : Nat → Option Nat}
theorem IC.al (I : IC h r h0 fs es) (hn : n = r + 1 + es.length) : IC (hu h n e) r h0 fs (es ++ [e]) := by
  subst hn
  obtain ⟨i1, i2, i3, i4⟩ := I
  refine ⟨by rw [hu_n (by omega)]; exact i1, i2, fun q hq => by rw [hu_n (by omega)]; exact i3 q hq, fun i e' he => ?_⟩
  rw [List.getElem?_append] at he
  by_cases hi : i < es.length
  · rw [if_pos hi] at he
    rw [hu_n (by omega)]; exact i4 i e' he
  · rw [if_neg hi] at he
    have hz : i = es.length := by
      cases hh : i - es.length with
      | zero => omega
      | succ z => rw [hh] at he; simp at he
    subst hz
    rw [Nat.sub_self] at he
    simp at he
    rw [hu_s, he]
theorem IC.wr (I : IC h r h0 fs es) (hi : i < 27) : ∃ h', wr h r 1 i v = some h' ∧ IC h' r h0 (fs.set i v) es := by
  obtain ⟨i1, i2, i3, i4⟩ := I
  refine ⟨_, wr_at i1 (by omega), hu_s, by rw [List.length_set]; exact i2, fun q hq => by rw [hu_n (by omega)]; exact i3 q hq, fun i e' he => by rw [hu_n (by omega)]; exact i4 i e' he⟩
theorem IC.st (I : IC h r h0 fs es) (hq : q = r + 1 + j) : IC (hu h q e) r h0 fs (es.set j e) := by
  subst hq
  obtain ⟨i1, i2, i3, i4⟩ := I
  refine ⟨by rw [hu_n (by omega)]; exact i1, i2, fun q hq => by rw [hu_n (by omega)]; exact i3 q hq, fun i e' he => ?_⟩
  rw [List.getElem?_set] at he
  by_cases hi : j = i
  · subst hi
    rw [if_pos rfl] at he
    by_cases hl : j < es.length
    · rw [if_pos hl] at he
      rw [hu_s, Option.some.inj he]
    · rw [if_neg hl] at he; cases he
  · rw [if_neg hi] at he
    rw [hu_n (by omega)]; exact i4 i e' he
theorem IC.gr (I : IC h r h0 fs es) (hf : fs[i]? = some (.ref q)) : gA h r 1 i = some q := by
  simp [gA, rd, I.1, hf, vR]
theorem IC.eqv (I : IC h r h0 fs es) (he : es[j]? = some e) : IC h r h0 fs (es.set j e) := by
  obtain ⟨i1, i2, i3, i4⟩ := I
  refine ⟨i1, i2, i3, fun i e' h => ?_⟩
  rw [List.getElem?_set] at h
  by_cases hi : j = i
  · subst hi
    rw [if_pos rfl] at h
    by_cases hl : j < es.length
    · rw [if_pos hl] at h
      exact i4 j e' (he.trans h)
    · rw [if_neg hl] at h; cases h
  · rw [if_neg hi] at h
    exact i4 i e' h
theorem ia (I : IC h r h0 fs es) {K : AH → Option (Unit × AH × Nat × Nat)} (hn : n = r + 1 + es.length) (hi : i < 27) (k : ∀ h', IC h' r h0 (fs.set i (.ref n)) (es ++ [e]) → ∃ h'', K h' = some ((), h'', C, D) ∧ Q h'') : ∃ h'', aC 1 s ((wr (hu h n e) r 1 i (.ref n)).bind K) = some ((), h'', C + 1, D + s) ∧ Q h'' := by
  obtain ⟨h', e1, I1⟩ := (I.al (e := e) hn).wr (v := .ref n) hi
  obtain ⟨h'', e2, q2⟩ := k h' I1
  rw [e1, Option.bind_some, e2, aC_some, Nat.add_comm 1, Nat.add_comm s]
  exact ⟨h'', rfl, q2⟩
theorem iw (I : IC h r h0 fs es) {K : AH → Option (Unit × AH × Nat × Nat)} (hi : i < 27) (k : ∀ h', IC h' r h0 (fs.set i v) es → ∃ h'', K h' = some ((), h'', C, D) ∧ Q h'') : ∃ h'', (wr h r 1 i v).bind K = some ((), h'', C, D) ∧ Q h'' := by
  obtain ⟨h', e1, I1⟩ := I.wr (v := v) hi
  rw [e1, Option.bind_some]
  exact k h' I1
theorem ic {X : Option (Unit × AH × Nat × Nat)} (k : ∃ h'', X = some ((), h'', C, D) ∧ Q h'') : ∃ h'', aC 1 s X = some ((), h'', C + 1, D + s) ∧ Q h'' := by
  obtain ⟨h'', e2, q2⟩ := k
  rw [e2, aC_some, Nat.add_comm 1, Nat.add_comm s]
  exact ⟨h'', rfl, q2⟩
theorem isr (I : IC h r h0 fs es) {K : AH → Option (Unit × AH × Nat × Nat)} {ja jq : Nat} (ha : a = r + 1 + ja) (hq : q = r + 1 + jq) (h1 : es[ja]? = some (aE t N g)) (h2 : es[jq]? = some e) (hs : stO t (some e) = true) (hiv : iv = nI i) (hi : i < N) (hN : N < 2 ^ 30) (k : ∀ h', IC h' r h0 fs (es.set ja (aE t N (va_up g i (some q)))) → ∃ h'', K h' = some ((), h'', C, D) ∧ Q h'') : ∃ h'', gd (stO t (h q)) ((sR h a t iv (some q)).bind K) = some ((), h'', C, D) ∧ Q h'' := by
  subst ha hiv
  have ea : h (r + 1 + ja) = some (aE t N g) := I.2.2.2 _ _ h1
  have eq : h q = some e := by rw [hq]; exact I.2.2.2 _ _ h2
  rw [eq, hs, gdT]
  have : sR h (r + 1 + ja) t (nI i) (some q) = some (hu h (r + 1 + ja) (aE t N (va_up g i (some q)))) := by
    simp only [sR, arR, ea, aE, if_true, Option.bind_some]
    rw [gdn ⟨hi, by omega⟩, nI_clamp (by omega)]
  rw [this, Option.bind_some]
  exact k _ (I.st rfl)
/-- a list's own cells -/
theorem il (I : IC h r h0 fs es) {K : Unit × AH × Nat × Nat → AH → Option (Unit × AH × Nat × Nat)} {n1 : Nat} (hn : n = r + 1 + es.length) (hn1 : n1 = n + 1) (hi : i < 27) (k : ∀ h', IC h' r h0 (fs.set i (.ref n)) (es ++ [lO 0 n1 0] ++ [rO 2 (fun _ => none)]) → ∃ h'', K ((), hu (hu h n (lO 0 n1 0)) n1 (rO 2 (fun _ => none)), 1, 2) h' = some ((), h'', C, D) ∧ Q h'') : ∃ h'', aC 1 3 ((f_J2_init E (hu h n (.inr (.inl (11, df_J2)))) n1 n (nI 2)).bind fun v => aC v.2.2.1 v.2.2.2 ((wr v.2.1 r 1 i (.ref n)).bind (K v))) = some ((), h'', C + 2, D + 5) ∧ Q h'' := by
  subst hn1
  have e1 : f_J2_init E (hu h n (.inr (.inl (11, df_J2)))) (n + 1) n (nI 2) = some ((), hu (hu h n (lO 0 (n + 1) 0)) (n + 1) (rO 2 (fun _ => none)), 1, 2) := by
    have w0 : wr (hu h n (.inr (.inl (11, df_J2)))) n 11 0 (.int 0) = some (hu h n (.inr (.inl (11, [.int 0, .null, .int 0])))) := by
      rw [wr_at hu_s (by decide), hu_hu]; rfl
    have w1 : wr (hu (hu h n (.inr (.inl (11, [.int 0, .null, .int 0])))) (n + 1) (rO 2 (fun _ => none))) n 11 1 (.ref (n + 1)) = some (hu (hu h n (lO 0 (n + 1) 0)) (n + 1) (rO 2 (fun _ => none))) := by
      have : hu (hu h n (.inr (.inl (11, [.int 0, .null, .int 0])))) (n + 1) (rO 2 (fun _ => none)) n = some (.inr (.inl (11, [.int 0, .null, .int 0]))) := by rw [hu_n (by omega)]; exact hu_s
      rw [wr_at this (by decide), hu_comm (by omega), hu_hu]; rfl
    simp only [f_J2_init, f_J1_init, f_J0_init, Option.bind_some, w0, bd]
    rw [if_neg (by decide), show nA (nI 2) = true by decide, gdT]
    simp only [Nat.add_zero, nI_clamp (show 2 < 2 ^ 31 by decide)]
    rw [show (Sum.inl (4, 2, Sum.inr (Sum.inr (Sum.inr (Sum.inr (fun _ => none))))) : hE) = rO 2 (fun _ => none) from rfl, w1, Option.bind_some, aC_some, aC_some]
  rw [e1, Option.bind_some]
  dsimp only
  have I1 : IC (hu (hu h n (lO 0 (n + 1) 0)) (n + 1) (rO 2 (fun _ => none))) r h0 fs (es ++ [lO 0 (n + 1) 0] ++ [rO 2 (fun _ => none)]) := (I.al hn).al (by rw [List.length_append, hn]; rfl)
  obtain ⟨h', e2, I2⟩ := I1.wr (v := .ref n) hi
  obtain ⟨h'', e3, q3⟩ := k h' I2
  rw [e2, Option.bind_some, e3, aC_some, aC_some]
  refine ⟨h'', ?_, q3⟩
  rw [show 1 + (1 + C) = C + 2 by omega, show 3 + (2 + D) = D + 5 by omega]
theorem ini169 {nc : Nat} : ∀ (k i m : Nat) (h : AH) (es : List hE) (f : Nat → Int32), i + k = 8 → IC h r h0 fs es → fs[1]? = some (.ref (r + 2)) → es[1]? = some (rE 0 8 f) → (∀ j, j < i → f j = -1) → ∃ h' f', f_X2_init_169 (m + k + 1) E r (nI i) h nc = f_X2_init_190 FU E r 0 h' nc ∧ IC h' r h0 fs (es.set 1 (rE 0 8 f')) ∧ ∀ j, j < 8 → f' j = -1
  | 0, i, m, h, es, f, hi, I, hf, he, hj => by
    have : i = 8 := by omega
    subst this
    refine ⟨h, f, ?_, ?_, hj⟩
    · rw [f_X2_init_169, if_pos (nI_leR 8)]
    · exact I.eqv he
  | k + 1, i, m, h, es, f, hi, I, hf, he, hj => by
    have e1 : h (r + 2) = some (rE 0 8 f) := I.2.2.2 1 _ he
    have e2 : sI h (r + 2) 0 (nI i) (-1) = some (hu h (r + 2) (rE 0 8 (upd f i (-1)))) := sI_at e1 (by omega) (by decide) _
    have I2 : IC (hu h (r + 2) (rE 0 8 (upd f i (-1)))) r h0 fs (es.set 1 (rE 0 8 (upd f i (-1)))) := I.st rfl
    have hl : 1 < es.length := by
      rcases Nat.lt_or_ge 1 es.length with z | z
      · exact z
      · rw [List.getElem?_eq_none z] at he; cases he
    obtain ⟨h', f', e3, I3, j3⟩ := ini169 (nc := nc) k (i + 1) m _ _ (upd f i (-1)) (by omega) I2 hf (by rw [List.getElem?_set, if_pos rfl, if_pos hl]) (fun j hj2 => by
      by_cases hji : j = i
      · subst hji; exact upd_s
      · rw [upd_n hji]; exact hj j (by omega))
    refine ⟨h', f', ?_, by rw [List.set_set] at I3; exact I3, j3⟩
    rw [show m + (k + 1) + 1 = (m + k + 1) + 1 by omega, f_X2_init_169, if_neg (nI_ge (by omega) (by decide)), I.gr hf, Option.bind_some, e2, Option.bind_some, nI_1, e3]
theorem ini190 {nc : Nat} : ∀ (k i m : Nat) (h : AH) (es : List hE) (f : Nat → Int32), i + k = 10 → IC h r h0 fs es → fs[9]? = some (.ref (r + 10)) → es[9]? = some (rE 0 10 f) → (∀ j, j < i → f j = -1) → ∃ h' f', f_X2_init_190 (m + k + 1) E r (nI i) h nc = f_X2_init_190 (m + 1) E r (nI 10) h' nc ∧ IC h' r h0 fs (es.set 9 (rE 0 10 f')) ∧ ∀ j, j < 10 → f' j = -1
  | 0, i, m, h, es, f, hi, I, hf, he, hj => by
    have : i = 10 := by omega
    subst this
    refine ⟨h, f, ?_, ?_, hj⟩
    · rfl
    · exact I.eqv he
  | k + 1, i, m, h, es, f, hi, I, hf, he, hj => by
    have e1 : h (r + 10) = some (rE 0 10 f) := I.2.2.2 9 _ he
    have e2 : sI h (r + 10) 0 (nI i) (-1) = some (hu h (r + 10) (rE 0 10 (upd f i (-1)))) := sI_at e1 (by omega) (by decide) _
    have I2 : IC (hu h (r + 10) (rE 0 10 (upd f i (-1)))) r h0 fs (es.set 9 (rE 0 10 (upd f i (-1)))) := I.st rfl
    have hl : 9 < es.length := by
      rcases Nat.lt_or_ge 9 es.length with z | z
      · exact z
      · rw [List.getElem?_eq_none z] at he; cases he
    obtain ⟨h', f', e3, I3, j3⟩ := ini190 (nc := nc) k (i + 1) m _ _ (upd f i (-1)) (by omega) I2 hf (by rw [List.getElem?_set, if_pos rfl, if_pos hl]) (fun j hj2 => by
      by_cases hji : j = i
      · subst hji; exact upd_s
      · rw [upd_n hji]; exact hj j (by omega))
    refine ⟨h', f', ?_, by rw [List.set_set] at I3; exact I3, j3⟩
    rw [show m + (k + 1) + 1 = (m + k + 1) + 1 by omega, f_X2_init_190, if_neg (nI_ge (by omega) (by decide)), I.gr hf, Option.bind_some, e2, Option.bind_some, nI_1, e3]
def plR (k : Nat) : Int32 := if k = 0 then nI 3 else if k = 1 then nI 4 else if k = 4 then nI 999 else if k = 5 then nI 2 else 0
/-- what a register starts with -/
def IniF (F : Nat → Nat → Int32) : Prop := (∀ k, k < 6 → F 0 k = plR k) ∧ (∀ j, j < 8 → F 1 j = -1) ∧ (∀ j, j < 10 → F 9 j = -1) ∧ ∀ a j, a ≠ 0 → a ≠ 1 → a ≠ 9 → F a j = 0
def lam (k : Nat) (q : Nat) : hE := .inr (.inr (k, [.ref q]))
theorem x_tail {m nc : Nat} {e0 e1 e2 e3 e4 e5 e6 e7 e8 e9 e10 e11 e12 e13 e14 e15 e16 e17 e18 : hE} {v0 v1 v2 v3 v4 v5 v6 v7 v8 v9 v10 v11 v12 v13 v14 v15 v16 v17 v18 v19 v20 v21 v22 v23 v24 v25 v26 : Value} (I : IC h r h0 [v0, v1, v2, v3, v4, v5, v6, v7, v8, v9, v10, v11, v12, v13, v14, v15, v16, v17, v18, v19, v20, v21, v22, v23, v24, v25, v26] [e0, e1, e2, e3, e4, e5, e6, e7, e8, e9, e10, e11, e12, e13, e14, e15, e16, e17, e18]) (hN : nc = r + 1 + 19) : ∃ h'' : AH, f_X2_init_190 (m + 1) E r (nI 10) h nc = some ((), h'', 21, 30) ∧ IC h'' r h0 [v0, v1, v2, v3, v4, v5, v6, v7, v8, v9, v10, v11, v12, v13, v14, v15, v16, v17, v18, v19, v20, v21, .ref (r + 40), .ref (r + 34), .ref (r + 20), v25, v26] [e0, e1, e2, e3, e4, e5, e6, e7, e8, e9, e10, e11, e12, e13, e14, e15, e16, e17, e18, rK r 20, rK r 21, rK r 22, rK r 23, rK r 24, rK r 25, rK r 26, rK r 27, rK r 28, rK r 29, rK r 30, rK r 31, rK r 32, rK r 33, rK r 34, rK r 35, rK r 36, rK r 37, rK r 38, rK r 39, rK r 40] := by
  subst hN
  rw [f_X2_init_190, if_pos (nI_leR 10)]
  simp only [bd, f_X1_rising, f_X1_sooner, f_X1_inTurn, aC_some, Option.bind_some, Nat.add_zero]
  refine ic (ic (isr ((I.al (e := aE 5 6 (fun _ => none)) rfl).al (e := lam 0 r) rfl) (ja := 19) (jq := 20) (i := 0) (N := 6) (g := fun _ => none) (e := lam 0 r) rfl rfl rfl rfl rfl rfl (by decide) (by decide) (fun h1 J1 => ?_)))
  have I1 : IC h1 r h0 [v0, v1, v2, v3, v4, v5, v6, v7, v8, v9, v10, v11, v12, v13, v14, v15, v16, v17, v18, v19, v20, v21, v22, v23, v24, v25, v26] [e0, e1, e2, e3, e4, e5, e6, e7, e8, e9, e10, e11, e12, e13, e14, e15, e16, e17, e18, aE 5 6 (va_up (fun _ => none) 0 (some (r + 1 + 20))), lam 0 r] := J1
  refine ic (isr (I1.al (e := lam 1 r) rfl) (ja := 19) (jq := 21) (i := 1) (N := 6) (g := va_up (fun _ => none) 0 (some (r + 1 + 20))) (e := lam 1 r) rfl rfl rfl rfl rfl rfl (by decide) (by decide) (fun h2 J2 => ?_))
  have I2 : IC h2 r h0 [v0, v1, v2, v3, v4, v5, v6, v7, v8, v9, v10, v11, v12, v13, v14, v15, v16, v17, v18, v19, v20, v21, v22, v23, v24, v25, v26] [e0, e1, e2, e3, e4, e5, e6, e7, e8, e9, e10, e11, e12, e13, e14, e15, e16, e17, e18, aE 5 6 (va_up (va_up (fun _ => none) 0 (some (r + 1 + 20))) 1 (some (r + 1 + 21))), lam 0 r, lam 1 r] := J2
  refine ic (isr (I2.al (e := lam 2 r) rfl) (ja := 19) (jq := 22) (i := 2) (N := 6) (g := va_up (va_up (fun _ => none) 0 (some (r + 1 + 20))) 1 (some (r + 1 + 21))) (e := lam 2 r) rfl rfl rfl rfl rfl rfl (by decide) (by decide) (fun h3 J3 => ?_))
  have I3 : IC h3 r h0 [v0, v1, v2, v3, v4, v5, v6, v7, v8, v9, v10, v11, v12, v13, v14, v15, v16, v17, v18, v19, v20, v21, v22, v23, v24, v25, v26] [e0, e1, e2, e3, e4, e5, e6, e7, e8, e9, e10, e11, e12, e13, e14, e15, e16, e17, e18, aE 5 6 (va_up (va_up (va_up (fun _ => none) 0 (some (r + 1 + 20))) 1 (some (r + 1 + 21))) 2 (some (r + 1 + 22))), lam 0 r, lam 1 r, lam 2 r] := J3
  refine ic (isr (I3.al (e := lam 3 r) rfl) (ja := 19) (jq := 23) (i := 3) (N := 6) (g := va_up (va_up (va_up (fun _ => none) 0 (some (r + 1 + 20))) 1 (some (r + 1 + 21))) 2 (some (r + 1 + 22))) (e := lam 3 r) rfl rfl rfl rfl rfl rfl (by decide) (by decide) (fun h4 J4 => ?_))
  have I4 : IC h4 r h0 [v0, v1, v2, v3, v4, v5, v6, v7, v8, v9, v10, v11, v12, v13, v14, v15, v16, v17, v18, v19, v20, v21, v22, v23, v24, v25, v26] [e0, e1, e2, e3, e4, e5, e6, e7, e8, e9, e10, e11, e12, e13, e14, e15, e16, e17, e18, aE 5 6 (va_up (va_up (va_up (va_up (fun _ => none) 0 (some (r + 1 + 20))) 1 (some (r + 1 + 21))) 2 (some (r + 1 + 22))) 3 (some (r + 1 + 23))), lam 0 r, lam 1 r, lam 2 r, lam 3 r] := J4
  refine ic (isr (I4.al (e := lam 4 r) rfl) (ja := 19) (jq := 24) (i := 4) (N := 6) (g := va_up (va_up (va_up (va_up (fun _ => none) 0 (some (r + 1 + 20))) 1 (some (r + 1 + 21))) 2 (some (r + 1 + 22))) 3 (some (r + 1 + 23))) (e := lam 4 r) rfl rfl rfl rfl rfl rfl (by decide) (by decide) (fun h5 J5 => ?_))
  have I5 : IC h5 r h0 [v0, v1, v2, v3, v4, v5, v6, v7, v8, v9, v10, v11, v12, v13, v14, v15, v16, v17, v18, v19, v20, v21, v22, v23, v24, v25, v26] [e0, e1, e2, e3, e4, e5, e6, e7, e8, e9, e10, e11, e12, e13, e14, e15, e16, e17, e18, aE 5 6 (va_up (va_up (va_up (va_up (va_up (fun _ => none) 0 (some (r + 1 + 20))) 1 (some (r + 1 + 21))) 2 (some (r + 1 + 22))) 3 (some (r + 1 + 23))) 4 (some (r + 1 + 24))), lam 0 r, lam 1 r, lam 2 r, lam 3 r, lam 4 r] := J5
  refine ic (isr (I5.al (e := lam 5 r) rfl) (ja := 19) (jq := 25) (i := 5) (N := 6) (g := va_up (va_up (va_up (va_up (va_up (fun _ => none) 0 (some (r + 1 + 20))) 1 (some (r + 1 + 21))) 2 (some (r + 1 + 22))) 3 (some (r + 1 + 23))) 4 (some (r + 1 + 24))) (e := lam 5 r) rfl rfl rfl rfl rfl rfl (by decide) (by decide) (fun h6 J6 => ?_))
  have I6 : IC h6 r h0 [v0, v1, v2, v3, v4, v5, v6, v7, v8, v9, v10, v11, v12, v13, v14, v15, v16, v17, v18, v19, v20, v21, v22, v23, v24, v25, v26] [e0, e1, e2, e3, e4, e5, e6, e7, e8, e9, e10, e11, e12, e13, e14, e15, e16, e17, e18, aE 5 6 (va_up (va_up (va_up (va_up (va_up (va_up (fun _ => none) 0 (some (r + 1 + 20))) 1 (some (r + 1 + 21))) 2 (some (r + 1 + 22))) 3 (some (r + 1 + 23))) 4 (some (r + 1 + 24))) 5 (some (r + 1 + 25))), lam 0 r, lam 1 r, lam 2 r, lam 3 r, lam 4 r, lam 5 r] := J6
  refine iw I6 (i := 24) (v := .ref (r + 1 + 19)) (by decide) (fun h7 J7 => ?_)
  have I7 : IC h7 r h0 [v0, v1, v2, v3, v4, v5, v6, v7, v8, v9, v10, v11, v12, v13, v14, v15, v16, v17, v18, v19, v20, v21, v22, v23, .ref (r + 1 + 19), v25, v26] [e0, e1, e2, e3, e4, e5, e6, e7, e8, e9, e10, e11, e12, e13, e14, e15, e16, e17, e18, aE 5 6 (va_up (va_up (va_up (va_up (va_up (va_up (fun _ => none) 0 (some (r + 1 + 20))) 1 (some (r + 1 + 21))) 2 (some (r + 1 + 22))) 3 (some (r + 1 + 23))) 4 (some (r + 1 + 24))) 5 (some (r + 1 + 25))), lam 0 r, lam 1 r, lam 2 r, lam 3 r, lam 4 r, lam 5 r] := J7
  refine ic (ic (ic (isr (((I7.al (e := aE 6 3 (fun _ => none)) rfl).al (e := lam 6 r) rfl).al (e := lam 7 (r + 1 + 27)) rfl) (ja := 26) (jq := 28) (i := 0) (N := 3) (g := fun _ => none) (e := lam 7 (r + 1 + 27)) rfl rfl rfl rfl rfl rfl (by decide) (by decide) (fun h8 J8 => ?_))))
  have I8 : IC h8 r h0 [v0, v1, v2, v3, v4, v5, v6, v7, v8, v9, v10, v11, v12, v13, v14, v15, v16, v17, v18, v19, v20, v21, v22, v23, .ref (r + 1 + 19), v25, v26] [e0, e1, e2, e3, e4, e5, e6, e7, e8, e9, e10, e11, e12, e13, e14, e15, e16, e17, e18, aE 5 6 (va_up (va_up (va_up (va_up (va_up (va_up (fun _ => none) 0 (some (r + 1 + 20))) 1 (some (r + 1 + 21))) 2 (some (r + 1 + 22))) 3 (some (r + 1 + 23))) 4 (some (r + 1 + 24))) 5 (some (r + 1 + 25))), lam 0 r, lam 1 r, lam 2 r, lam 3 r, lam 4 r, lam 5 r, aE 6 3 (va_up (fun _ => none) 0 (some (r + 1 + 28))), lam 6 r, lam 7 (r + 1 + 27)] := J8
  refine ic (ic (isr ((I8.al (e := lam 8 r) rfl).al (e := lam 7 (r + 1 + 29)) rfl) (ja := 26) (jq := 30) (i := 1) (N := 3) (g := va_up (fun _ => none) 0 (some (r + 1 + 28))) (e := lam 7 (r + 1 + 29)) rfl rfl rfl rfl rfl rfl (by decide) (by decide) (fun h9 J9 => ?_)))
  have I9 : IC h9 r h0 [v0, v1, v2, v3, v4, v5, v6, v7, v8, v9, v10, v11, v12, v13, v14, v15, v16, v17, v18, v19, v20, v21, v22, v23, .ref (r + 1 + 19), v25, v26] [e0, e1, e2, e3, e4, e5, e6, e7, e8, e9, e10, e11, e12, e13, e14, e15, e16, e17, e18, aE 5 6 (va_up (va_up (va_up (va_up (va_up (va_up (fun _ => none) 0 (some (r + 1 + 20))) 1 (some (r + 1 + 21))) 2 (some (r + 1 + 22))) 3 (some (r + 1 + 23))) 4 (some (r + 1 + 24))) 5 (some (r + 1 + 25))), lam 0 r, lam 1 r, lam 2 r, lam 3 r, lam 4 r, lam 5 r, aE 6 3 (va_up (va_up (fun _ => none) 0 (some (r + 1 + 28))) 1 (some (r + 1 + 30))), lam 6 r, lam 7 (r + 1 + 27), lam 8 r, lam 7 (r + 1 + 29)] := J9
  refine ic (ic (isr ((I9.al (e := lam 9 r) rfl).al (e := lam 7 (r + 1 + 31)) rfl) (ja := 26) (jq := 32) (i := 2) (N := 3) (g := va_up (va_up (fun _ => none) 0 (some (r + 1 + 28))) 1 (some (r + 1 + 30))) (e := lam 7 (r + 1 + 31)) rfl rfl rfl rfl rfl rfl (by decide) (by decide) (fun h10 J10 => ?_)))
  have I10 : IC h10 r h0 [v0, v1, v2, v3, v4, v5, v6, v7, v8, v9, v10, v11, v12, v13, v14, v15, v16, v17, v18, v19, v20, v21, v22, v23, .ref (r + 1 + 19), v25, v26] [e0, e1, e2, e3, e4, e5, e6, e7, e8, e9, e10, e11, e12, e13, e14, e15, e16, e17, e18, aE 5 6 (va_up (va_up (va_up (va_up (va_up (va_up (fun _ => none) 0 (some (r + 1 + 20))) 1 (some (r + 1 + 21))) 2 (some (r + 1 + 22))) 3 (some (r + 1 + 23))) 4 (some (r + 1 + 24))) 5 (some (r + 1 + 25))), lam 0 r, lam 1 r, lam 2 r, lam 3 r, lam 4 r, lam 5 r, aE 6 3 (va_up (va_up (va_up (fun _ => none) 0 (some (r + 1 + 28))) 1 (some (r + 1 + 30))) 2 (some (r + 1 + 32))), lam 6 r, lam 7 (r + 1 + 27), lam 8 r, lam 7 (r + 1 + 29), lam 9 r, lam 7 (r + 1 + 31)] := J10
  refine ia I10 (n := r + 1 + 33) (i := 23) (e := lam 10 (r + 1 + 26)) rfl (by decide) (fun h11 J11 => ?_)
  have I11 : IC h11 r h0 [v0, v1, v2, v3, v4, v5, v6, v7, v8, v9, v10, v11, v12, v13, v14, v15, v16, v17, v18, v19, v20, v21, v22, .ref (r + 1 + 33), .ref (r + 1 + 19), v25, v26] [e0, e1, e2, e3, e4, e5, e6, e7, e8, e9, e10, e11, e12, e13, e14, e15, e16, e17, e18, aE 5 6 (va_up (va_up (va_up (va_up (va_up (va_up (fun _ => none) 0 (some (r + 1 + 20))) 1 (some (r + 1 + 21))) 2 (some (r + 1 + 22))) 3 (some (r + 1 + 23))) 4 (some (r + 1 + 24))) 5 (some (r + 1 + 25))), lam 0 r, lam 1 r, lam 2 r, lam 3 r, lam 4 r, lam 5 r, aE 6 3 (va_up (va_up (va_up (fun _ => none) 0 (some (r + 1 + 28))) 1 (some (r + 1 + 30))) 2 (some (r + 1 + 32))), lam 6 r, lam 7 (r + 1 + 27), lam 8 r, lam 7 (r + 1 + 29), lam 9 r, lam 7 (r + 1 + 31), lam 10 (r + 1 + 26)] := J11
  refine ic (ic (ic (isr (((I11.al (e := aE 6 3 (fun _ => none)) rfl).al (e := lam 11 r) rfl).al (e := lam 12 (r + 1 + 35)) rfl) (ja := 34) (jq := 36) (i := 0) (N := 3) (g := fun _ => none) (e := lam 12 (r + 1 + 35)) rfl rfl rfl rfl rfl rfl (by decide) (by decide) (fun h12 J12 => ?_))))
  have I12 : IC h12 r h0 [v0, v1, v2, v3, v4, v5, v6, v7, v8, v9, v10, v11, v12, v13, v14, v15, v16, v17, v18, v19, v20, v21, v22, .ref (r + 1 + 33), .ref (r + 1 + 19), v25, v26] [e0, e1, e2, e3, e4, e5, e6, e7, e8, e9, e10, e11, e12, e13, e14, e15, e16, e17, e18, aE 5 6 (va_up (va_up (va_up (va_up (va_up (va_up (fun _ => none) 0 (some (r + 1 + 20))) 1 (some (r + 1 + 21))) 2 (some (r + 1 + 22))) 3 (some (r + 1 + 23))) 4 (some (r + 1 + 24))) 5 (some (r + 1 + 25))), lam 0 r, lam 1 r, lam 2 r, lam 3 r, lam 4 r, lam 5 r, aE 6 3 (va_up (va_up (va_up (fun _ => none) 0 (some (r + 1 + 28))) 1 (some (r + 1 + 30))) 2 (some (r + 1 + 32))), lam 6 r, lam 7 (r + 1 + 27), lam 8 r, lam 7 (r + 1 + 29), lam 9 r, lam 7 (r + 1 + 31), lam 10 (r + 1 + 26), aE 6 3 (va_up (fun _ => none) 0 (some (r + 1 + 36))), lam 11 r, lam 12 (r + 1 + 35)] := J12
  refine ic (ic (isr ((I12.al (e := lam 13 r) rfl).al (e := lam 12 (r + 1 + 37)) rfl) (ja := 34) (jq := 38) (i := 1) (N := 3) (g := va_up (fun _ => none) 0 (some (r + 1 + 36))) (e := lam 12 (r + 1 + 37)) rfl rfl rfl rfl rfl rfl (by decide) (by decide) (fun h13 J13 => ?_)))
  have I13 : IC h13 r h0 [v0, v1, v2, v3, v4, v5, v6, v7, v8, v9, v10, v11, v12, v13, v14, v15, v16, v17, v18, v19, v20, v21, v22, .ref (r + 1 + 33), .ref (r + 1 + 19), v25, v26] [e0, e1, e2, e3, e4, e5, e6, e7, e8, e9, e10, e11, e12, e13, e14, e15, e16, e17, e18, aE 5 6 (va_up (va_up (va_up (va_up (va_up (va_up (fun _ => none) 0 (some (r + 1 + 20))) 1 (some (r + 1 + 21))) 2 (some (r + 1 + 22))) 3 (some (r + 1 + 23))) 4 (some (r + 1 + 24))) 5 (some (r + 1 + 25))), lam 0 r, lam 1 r, lam 2 r, lam 3 r, lam 4 r, lam 5 r, aE 6 3 (va_up (va_up (va_up (fun _ => none) 0 (some (r + 1 + 28))) 1 (some (r + 1 + 30))) 2 (some (r + 1 + 32))), lam 6 r, lam 7 (r + 1 + 27), lam 8 r, lam 7 (r + 1 + 29), lam 9 r, lam 7 (r + 1 + 31), lam 10 (r + 1 + 26), aE 6 3 (va_up (va_up (fun _ => none) 0 (some (r + 1 + 36))) 1 (some (r + 1 + 38))), lam 11 r, lam 12 (r + 1 + 35), lam 13 r, lam 12 (r + 1 + 37)] := J13
  rw [I13.gr (i := 23) (q := r + 1 + 33) rfl, Option.bind_some]
  refine isr I13 (ja := 34) (jq := 33) (i := 2) (N := 3) (g := va_up (va_up (fun _ => none) 0 (some (r + 1 + 36))) 1 (some (r + 1 + 38))) (e := lam 10 (r + 1 + 26)) rfl rfl rfl rfl rfl rfl (by decide) (by decide) (fun h14 J14 => ?_)
  have I14 : IC h14 r h0 [v0, v1, v2, v3, v4, v5, v6, v7, v8, v9, v10, v11, v12, v13, v14, v15, v16, v17, v18, v19, v20, v21, v22, .ref (r + 1 + 33), .ref (r + 1 + 19), v25, v26] [e0, e1, e2, e3, e4, e5, e6, e7, e8, e9, e10, e11, e12, e13, e14, e15, e16, e17, e18, aE 5 6 (va_up (va_up (va_up (va_up (va_up (va_up (fun _ => none) 0 (some (r + 1 + 20))) 1 (some (r + 1 + 21))) 2 (some (r + 1 + 22))) 3 (some (r + 1 + 23))) 4 (some (r + 1 + 24))) 5 (some (r + 1 + 25))), lam 0 r, lam 1 r, lam 2 r, lam 3 r, lam 4 r, lam 5 r, aE 6 3 (va_up (va_up (va_up (fun _ => none) 0 (some (r + 1 + 28))) 1 (some (r + 1 + 30))) 2 (some (r + 1 + 32))), lam 6 r, lam 7 (r + 1 + 27), lam 8 r, lam 7 (r + 1 + 29), lam 9 r, lam 7 (r + 1 + 31), lam 10 (r + 1 + 26), aE 6 3 (va_up (va_up (va_up (fun _ => none) 0 (some (r + 1 + 36))) 1 (some (r + 1 + 38))) 2 (some (r + 1 + 33))), lam 11 r, lam 12 (r + 1 + 35), lam 13 r, lam 12 (r + 1 + 37)] := J14
  refine ia I14 (n := r + 1 + 39) (i := 22) (e := lam 10 (r + 1 + 34)) rfl (by decide) (fun h15 J15 => ?_)
  have I15 : IC h15 r h0 [v0, v1, v2, v3, v4, v5, v6, v7, v8, v9, v10, v11, v12, v13, v14, v15, v16, v17, v18, v19, v20, v21, .ref (r + 1 + 39), .ref (r + 1 + 33), .ref (r + 1 + 19), v25, v26] [e0, e1, e2, e3, e4, e5, e6, e7, e8, e9, e10, e11, e12, e13, e14, e15, e16, e17, e18, aE 5 6 (va_up (va_up (va_up (va_up (va_up (va_up (fun _ => none) 0 (some (r + 1 + 20))) 1 (some (r + 1 + 21))) 2 (some (r + 1 + 22))) 3 (some (r + 1 + 23))) 4 (some (r + 1 + 24))) 5 (some (r + 1 + 25))), lam 0 r, lam 1 r, lam 2 r, lam 3 r, lam 4 r, lam 5 r, aE 6 3 (va_up (va_up (va_up (fun _ => none) 0 (some (r + 1 + 28))) 1 (some (r + 1 + 30))) 2 (some (r + 1 + 32))), lam 6 r, lam 7 (r + 1 + 27), lam 8 r, lam 7 (r + 1 + 29), lam 9 r, lam 7 (r + 1 + 31), lam 10 (r + 1 + 26), aE 6 3 (va_up (va_up (va_up (fun _ => none) 0 (some (r + 1 + 36))) 1 (some (r + 1 + 38))) 2 (some (r + 1 + 33))), lam 11 r, lam 12 (r + 1 + 35), lam 13 r, lam 12 (r + 1 + 37), lam 10 (r + 1 + 34)] := J15
  refine ⟨h15, rfl, ?_⟩
  have f20 : va_up (va_up (va_up (va_up (va_up (va_up (fun _ => none) 0 (some (r + 1 + 20))) 1 (some (r + 1 + 21))) 2 (some (r + 1 + 22))) 3 (some (r + 1 + 23))) 4 (some (r + 1 + 24))) 5 (some (r + 1 + 25)) = fun i => if i < 6 then some (r + 21 + i) else none := by
    funext i
    match i with
    | 0 => rfl
    | 1 => rfl
    | 2 => rfl
    | 3 => rfl
    | 4 => rfl
    | 5 => rfl
    | i + 6 =>
      have : ¬ i + 6 < 6 := by omega
      simp [va_up, this]
  have f27 : va_up (va_up (va_up (fun _ => none) 0 (some (r + 1 + 28))) 1 (some (r + 1 + 30))) 2 (some (r + 1 + 32)) = fun i => if i = 0 then some (r + 29) else if i = 1 then some (r + 31) else if i = 2 then some (r + 33) else none := by
    funext i
    match i with
    | 0 => rfl
    | 1 => rfl
    | 2 => rfl
    | i + 3 => simp [va_up]
  have f35 : va_up (va_up (va_up (fun _ => none) 0 (some (r + 1 + 36))) 1 (some (r + 1 + 38))) 2 (some (r + 1 + 33)) = fun i => if i = 0 then some (r + 37) else if i = 1 then some (r + 39) else if i = 2 then some (r + 34) else none := by
    funext i
    match i with
    | 0 => rfl
    | 1 => rfl
    | 2 => rfl
    | i + 3 => simp [va_up]
  have k20 : rK r 20 = aE 5 6 (va_up (va_up (va_up (va_up (va_up (va_up (fun _ => none) 0 (some (r + 1 + 20))) 1 (some (r + 1 + 21))) 2 (some (r + 1 + 22))) 3 (some (r + 1 + 23))) 4 (some (r + 1 + 24))) 5 (some (r + 1 + 25))) := by rw [f20]; rfl
  have k27 : rK r 27 = aE 6 3 (va_up (va_up (va_up (fun _ => none) 0 (some (r + 1 + 28))) 1 (some (r + 1 + 30))) 2 (some (r + 1 + 32))) := by rw [f27]; rfl
  have k35 : rK r 35 = aE 6 3 (va_up (va_up (va_up (fun _ => none) 0 (some (r + 1 + 36))) 1 (some (r + 1 + 38))) 2 (some (r + 1 + 33))) := by rw [f35]; rfl
  rw [k20, k27, k35]
  exact I15
theorem x_init {o : Nat} {la oa : Nat → Nat} (hr : h r = some (.inr (.inl (1, df_X2)))) (hz : E.1 2 < r) (hP : ∃ f : Nat → Int32, h (E.1 2) = some (.inl (0, 6, .inl f)) ∧ ∀ k, k < 6 → f k = plR k) : ∃ h'' : AH, f_X2_init E h (r + 1) r o = some ((), h'', 40, 206) ∧ (∃ F, RegH h'' o r (r + 17) (r + 19) F 0 0 (0, 0, 0, 0) 0 la 0 oa 2 2 ∧ IniF F) ∧ ∀ q, q < r → h'' q = h q := by
  obtain ⟨gP, p1, p2⟩ := hP
  have I0 : IC h r h [.null, .null, .null, .null, .null, .null, .null, .null, .null, .null, .null, .null, .null, .null, .null, .null, .null, .int 0, .int 0, .int 0, .int 0, .int 0, .null, .null, .null, .int 0, .null] [] := ⟨hr, rfl, fun _ _ => rfl, fun i e he => by cases he⟩
  unfold f_X2_init
  simp only [bd]
  refine iw I0 (i := 26) (v := .ref o) (by decide) (fun h1 J1 => ?_)
  have I1 : IC h1 r h [.null, .null, .null, .null, .null, .null, .null, .null, .null, .null, .null, .null, .null, .null, .null, .null, .null, .int 0, .int 0, .int 0, .int 0, .int 0, .null, .null, .null, .int 0, .ref o] [] := J1
  refine ia I1 (n := r + 1 + 0) (i := 0) (e := rE 0 6 (fun _ => 0)) rfl (by decide) (fun h2 J2 => ?_)
  have I2 : IC h2 r h [.ref (r + 1 + 0), .null, .null, .null, .null, .null, .null, .null, .null, .null, .null, .null, .null, .null, .null, .null, .null, .int 0, .int 0, .int 0, .int 0, .int 0, .null, .null, .null, .int 0, .ref o] [rE 0 6 (fun _ => 0)] := J2
  refine ia I2 (n := r + 1 + 1) (i := 1) (e := rE 0 8 (fun _ => 0)) rfl (by decide) (fun h3 J3 => ?_)
  have I3 : IC h3 r h [.ref (r + 1 + 0), .ref (r + 1 + 1), .null, .null, .null, .null, .null, .null, .null, .null, .null, .null, .null, .null, .null, .null, .null, .int 0, .int 0, .int 0, .int 0, .int 0, .null, .null, .null, .int 0, .ref o] [rE 0 6 (fun _ => 0), rE 0 8 (fun _ => 0)] := J3
  refine ia I3 (n := r + 1 + 2) (i := 2) (e := rE 0 8 (fun _ => 0)) rfl (by decide) (fun h4 J4 => ?_)
  have I4 : IC h4 r h [.ref (r + 1 + 0), .ref (r + 1 + 1), .ref (r + 1 + 2), .null, .null, .null, .null, .null, .null, .null, .null, .null, .null, .null, .null, .null, .null, .int 0, .int 0, .int 0, .int 0, .int 0, .null, .null, .null, .int 0, .ref o] [rE 0 6 (fun _ => 0), rE 0 8 (fun _ => 0), rE 0 8 (fun _ => 0)] := J4
  refine ia I4 (n := r + 1 + 3) (i := 3) (e := rE 0 8 (fun _ => 0)) rfl (by decide) (fun h5 J5 => ?_)
  have I5 : IC h5 r h [.ref (r + 1 + 0), .ref (r + 1 + 1), .ref (r + 1 + 2), .ref (r + 1 + 3), .null, .null, .null, .null, .null, .null, .null, .null, .null, .null, .null, .null, .null, .int 0, .int 0, .int 0, .int 0, .int 0, .null, .null, .null, .int 0, .ref o] [rE 0 6 (fun _ => 0), rE 0 8 (fun _ => 0), rE 0 8 (fun _ => 0), rE 0 8 (fun _ => 0)] := J5
  refine ia I5 (n := r + 1 + 4) (i := 4) (e := rE 0 8 (fun _ => 0)) rfl (by decide) (fun h6 J6 => ?_)
  have I6 : IC h6 r h [.ref (r + 1 + 0), .ref (r + 1 + 1), .ref (r + 1 + 2), .ref (r + 1 + 3), .ref (r + 1 + 4), .null, .null, .null, .null, .null, .null, .null, .null, .null, .null, .null, .null, .int 0, .int 0, .int 0, .int 0, .int 0, .null, .null, .null, .int 0, .ref o] [rE 0 6 (fun _ => 0), rE 0 8 (fun _ => 0), rE 0 8 (fun _ => 0), rE 0 8 (fun _ => 0), rE 0 8 (fun _ => 0)] := J6
  refine ia I6 (n := r + 1 + 5) (i := 5) (e := rE 0 8 (fun _ => 0)) rfl (by decide) (fun h7 J7 => ?_)
  have I7 : IC h7 r h [.ref (r + 1 + 0), .ref (r + 1 + 1), .ref (r + 1 + 2), .ref (r + 1 + 3), .ref (r + 1 + 4), .ref (r + 1 + 5), .null, .null, .null, .null, .null, .null, .null, .null, .null, .null, .null, .int 0, .int 0, .int 0, .int 0, .int 0, .null, .null, .null, .int 0, .ref o] [rE 0 6 (fun _ => 0), rE 0 8 (fun _ => 0), rE 0 8 (fun _ => 0), rE 0 8 (fun _ => 0), rE 0 8 (fun _ => 0), rE 0 8 (fun _ => 0)] := J7
  refine ia I7 (n := r + 1 + 6) (i := 6) (e := rE 0 8 (fun _ => 0)) rfl (by decide) (fun h8 J8 => ?_)
  have I8 : IC h8 r h [.ref (r + 1 + 0), .ref (r + 1 + 1), .ref (r + 1 + 2), .ref (r + 1 + 3), .ref (r + 1 + 4), .ref (r + 1 + 5), .ref (r + 1 + 6), .null, .null, .null, .null, .null, .null, .null, .null, .null, .null, .int 0, .int 0, .int 0, .int 0, .int 0, .null, .null, .null, .int 0, .ref o] [rE 0 6 (fun _ => 0), rE 0 8 (fun _ => 0), rE 0 8 (fun _ => 0), rE 0 8 (fun _ => 0), rE 0 8 (fun _ => 0), rE 0 8 (fun _ => 0), rE 0 8 (fun _ => 0)] := J8
  refine ia I8 (n := r + 1 + 7) (i := 7) (e := rE 0 48 (fun _ => 0)) rfl (by decide) (fun h9 J9 => ?_)
  have I9 : IC h9 r h [.ref (r + 1 + 0), .ref (r + 1 + 1), .ref (r + 1 + 2), .ref (r + 1 + 3), .ref (r + 1 + 4), .ref (r + 1 + 5), .ref (r + 1 + 6), .ref (r + 1 + 7), .null, .null, .null, .null, .null, .null, .null, .null, .null, .int 0, .int 0, .int 0, .int 0, .int 0, .null, .null, .null, .int 0, .ref o] [rE 0 6 (fun _ => 0), rE 0 8 (fun _ => 0), rE 0 8 (fun _ => 0), rE 0 8 (fun _ => 0), rE 0 8 (fun _ => 0), rE 0 8 (fun _ => 0), rE 0 8 (fun _ => 0), rE 0 48 (fun _ => 0)] := J9
  refine ia I9 (n := r + 1 + 8) (i := 8) (e := rE 0 10 (fun _ => 0)) rfl (by decide) (fun h10 J10 => ?_)
  have I10 : IC h10 r h [.ref (r + 1 + 0), .ref (r + 1 + 1), .ref (r + 1 + 2), .ref (r + 1 + 3), .ref (r + 1 + 4), .ref (r + 1 + 5), .ref (r + 1 + 6), .ref (r + 1 + 7), .ref (r + 1 + 8), .null, .null, .null, .null, .null, .null, .null, .null, .int 0, .int 0, .int 0, .int 0, .int 0, .null, .null, .null, .int 0, .ref o] [rE 0 6 (fun _ => 0), rE 0 8 (fun _ => 0), rE 0 8 (fun _ => 0), rE 0 8 (fun _ => 0), rE 0 8 (fun _ => 0), rE 0 8 (fun _ => 0), rE 0 8 (fun _ => 0), rE 0 48 (fun _ => 0), rE 0 10 (fun _ => 0)] := J10
  refine ia I10 (n := r + 1 + 9) (i := 9) (e := rE 0 10 (fun _ => 0)) rfl (by decide) (fun h11 J11 => ?_)
  have I11 : IC h11 r h [.ref (r + 1 + 0), .ref (r + 1 + 1), .ref (r + 1 + 2), .ref (r + 1 + 3), .ref (r + 1 + 4), .ref (r + 1 + 5), .ref (r + 1 + 6), .ref (r + 1 + 7), .ref (r + 1 + 8), .ref (r + 1 + 9), .null, .null, .null, .null, .null, .null, .null, .int 0, .int 0, .int 0, .int 0, .int 0, .null, .null, .null, .int 0, .ref o] [rE 0 6 (fun _ => 0), rE 0 8 (fun _ => 0), rE 0 8 (fun _ => 0), rE 0 8 (fun _ => 0), rE 0 8 (fun _ => 0), rE 0 8 (fun _ => 0), rE 0 8 (fun _ => 0), rE 0 48 (fun _ => 0), rE 0 10 (fun _ => 0), rE 0 10 (fun _ => 0)] := J11
  refine ia I11 (n := r + 1 + 10) (i := 10) (e := rE 0 8 (fun _ => 0)) rfl (by decide) (fun h12 J12 => ?_)
  have I12 : IC h12 r h [.ref (r + 1 + 0), .ref (r + 1 + 1), .ref (r + 1 + 2), .ref (r + 1 + 3), .ref (r + 1 + 4), .ref (r + 1 + 5), .ref (r + 1 + 6), .ref (r + 1 + 7), .ref (r + 1 + 8), .ref (r + 1 + 9), .ref (r + 1 + 10), .null, .null, .null, .null, .null, .null, .int 0, .int 0, .int 0, .int 0, .int 0, .null, .null, .null, .int 0, .ref o] [rE 0 6 (fun _ => 0), rE 0 8 (fun _ => 0), rE 0 8 (fun _ => 0), rE 0 8 (fun _ => 0), rE 0 8 (fun _ => 0), rE 0 8 (fun _ => 0), rE 0 8 (fun _ => 0), rE 0 48 (fun _ => 0), rE 0 10 (fun _ => 0), rE 0 10 (fun _ => 0), rE 0 8 (fun _ => 0)] := J12
  refine ia I12 (n := r + 1 + 11) (i := 11) (e := rE 0 10 (fun _ => 0)) rfl (by decide) (fun h13 J13 => ?_)
  have I13 : IC h13 r h [.ref (r + 1 + 0), .ref (r + 1 + 1), .ref (r + 1 + 2), .ref (r + 1 + 3), .ref (r + 1 + 4), .ref (r + 1 + 5), .ref (r + 1 + 6), .ref (r + 1 + 7), .ref (r + 1 + 8), .ref (r + 1 + 9), .ref (r + 1 + 10), .ref (r + 1 + 11), .null, .null, .null, .null, .null, .int 0, .int 0, .int 0, .int 0, .int 0, .null, .null, .null, .int 0, .ref o] [rE 0 6 (fun _ => 0), rE 0 8 (fun _ => 0), rE 0 8 (fun _ => 0), rE 0 8 (fun _ => 0), rE 0 8 (fun _ => 0), rE 0 8 (fun _ => 0), rE 0 8 (fun _ => 0), rE 0 48 (fun _ => 0), rE 0 10 (fun _ => 0), rE 0 10 (fun _ => 0), rE 0 8 (fun _ => 0), rE 0 10 (fun _ => 0)] := J13
  refine ia I13 (n := r + 1 + 12) (i := 12) (e := rE 3 10 (fun _ => 0)) rfl (by decide) (fun h14 J14 => ?_)
  have I14 : IC h14 r h [.ref (r + 1 + 0), .ref (r + 1 + 1), .ref (r + 1 + 2), .ref (r + 1 + 3), .ref (r + 1 + 4), .ref (r + 1 + 5), .ref (r + 1 + 6), .ref (r + 1 + 7), .ref (r + 1 + 8), .ref (r + 1 + 9), .ref (r + 1 + 10), .ref (r + 1 + 11), .ref (r + 1 + 12), .null, .null, .null, .null, .int 0, .int 0, .int 0, .int 0, .int 0, .null, .null, .null, .int 0, .ref o] [rE 0 6 (fun _ => 0), rE 0 8 (fun _ => 0), rE 0 8 (fun _ => 0), rE 0 8 (fun _ => 0), rE 0 8 (fun _ => 0), rE 0 8 (fun _ => 0), rE 0 8 (fun _ => 0), rE 0 48 (fun _ => 0), rE 0 10 (fun _ => 0), rE 0 10 (fun _ => 0), rE 0 8 (fun _ => 0), rE 0 10 (fun _ => 0), rE 3 10 (fun _ => 0)] := J14
  refine ia I14 (n := r + 1 + 13) (i := 13) (e := rE 3 8 (fun _ => 0)) rfl (by decide) (fun h15 J15 => ?_)
  have I15 : IC h15 r h [.ref (r + 1 + 0), .ref (r + 1 + 1), .ref (r + 1 + 2), .ref (r + 1 + 3), .ref (r + 1 + 4), .ref (r + 1 + 5), .ref (r + 1 + 6), .ref (r + 1 + 7), .ref (r + 1 + 8), .ref (r + 1 + 9), .ref (r + 1 + 10), .ref (r + 1 + 11), .ref (r + 1 + 12), .ref (r + 1 + 13), .null, .null, .null, .int 0, .int 0, .int 0, .int 0, .int 0, .null, .null, .null, .int 0, .ref o] [rE 0 6 (fun _ => 0), rE 0 8 (fun _ => 0), rE 0 8 (fun _ => 0), rE 0 8 (fun _ => 0), rE 0 8 (fun _ => 0), rE 0 8 (fun _ => 0), rE 0 8 (fun _ => 0), rE 0 48 (fun _ => 0), rE 0 10 (fun _ => 0), rE 0 10 (fun _ => 0), rE 0 8 (fun _ => 0), rE 0 10 (fun _ => 0), rE 3 10 (fun _ => 0), rE 3 8 (fun _ => 0)] := J15
  refine ia I15 (n := r + 1 + 14) (i := 14) (e := rE 3 8 (fun _ => 0)) rfl (by decide) (fun h16 J16 => ?_)
  have I16 : IC h16 r h [.ref (r + 1 + 0), .ref (r + 1 + 1), .ref (r + 1 + 2), .ref (r + 1 + 3), .ref (r + 1 + 4), .ref (r + 1 + 5), .ref (r + 1 + 6), .ref (r + 1 + 7), .ref (r + 1 + 8), .ref (r + 1 + 9), .ref (r + 1 + 10), .ref (r + 1 + 11), .ref (r + 1 + 12), .ref (r + 1 + 13), .ref (r + 1 + 14), .null, .null, .int 0, .int 0, .int 0, .int 0, .int 0, .null, .null, .null, .int 0, .ref o] [rE 0 6 (fun _ => 0), rE 0 8 (fun _ => 0), rE 0 8 (fun _ => 0), rE 0 8 (fun _ => 0), rE 0 8 (fun _ => 0), rE 0 8 (fun _ => 0), rE 0 8 (fun _ => 0), rE 0 48 (fun _ => 0), rE 0 10 (fun _ => 0), rE 0 10 (fun _ => 0), rE 0 8 (fun _ => 0), rE 0 10 (fun _ => 0), rE 3 10 (fun _ => 0), rE 3 8 (fun _ => 0), rE 3 8 (fun _ => 0)] := J16
  refine il I16 (n := r + 1 + 15) (n1 := r + 1 + 16) (i := 15) rfl rfl (by decide) (fun h17 J17 => ?_)
  dsimp only
  have I17 : IC h17 r h [.ref (r + 1 + 0), .ref (r + 1 + 1), .ref (r + 1 + 2), .ref (r + 1 + 3), .ref (r + 1 + 4), .ref (r + 1 + 5), .ref (r + 1 + 6), .ref (r + 1 + 7), .ref (r + 1 + 8), .ref (r + 1 + 9), .ref (r + 1 + 10), .ref (r + 1 + 11), .ref (r + 1 + 12), .ref (r + 1 + 13), .ref (r + 1 + 14), .ref (r + 1 + 15), .null, .int 0, .int 0, .int 0, .int 0, .int 0, .null, .null, .null, .int 0, .ref o] [rE 0 6 (fun _ => 0), rE 0 8 (fun _ => 0), rE 0 8 (fun _ => 0), rE 0 8 (fun _ => 0), rE 0 8 (fun _ => 0), rE 0 8 (fun _ => 0), rE 0 8 (fun _ => 0), rE 0 48 (fun _ => 0), rE 0 10 (fun _ => 0), rE 0 10 (fun _ => 0), rE 0 8 (fun _ => 0), rE 0 10 (fun _ => 0), rE 3 10 (fun _ => 0), rE 3 8 (fun _ => 0), rE 3 8 (fun _ => 0), lO 0 (r + 1 + 16) 0, rO 2 (fun _ => none)] := J17
  refine il I17 (n := r + 1 + 17) (n1 := r + 1 + 18) (i := 16) rfl rfl (by decide) (fun h18 J18 => ?_)
  dsimp only
  have I18 : IC h18 r h [.ref (r + 1 + 0), .ref (r + 1 + 1), .ref (r + 1 + 2), .ref (r + 1 + 3), .ref (r + 1 + 4), .ref (r + 1 + 5), .ref (r + 1 + 6), .ref (r + 1 + 7), .ref (r + 1 + 8), .ref (r + 1 + 9), .ref (r + 1 + 10), .ref (r + 1 + 11), .ref (r + 1 + 12), .ref (r + 1 + 13), .ref (r + 1 + 14), .ref (r + 1 + 15), .ref (r + 1 + 17), .int 0, .int 0, .int 0, .int 0, .int 0, .null, .null, .null, .int 0, .ref o] [rE 0 6 (fun _ => 0), rE 0 8 (fun _ => 0), rE 0 8 (fun _ => 0), rE 0 8 (fun _ => 0), rE 0 8 (fun _ => 0), rE 0 8 (fun _ => 0), rE 0 8 (fun _ => 0), rE 0 48 (fun _ => 0), rE 0 10 (fun _ => 0), rE 0 10 (fun _ => 0), rE 0 8 (fun _ => 0), rE 0 10 (fun _ => 0), rE 3 10 (fun _ => 0), rE 3 8 (fun _ => 0), rE 3 8 (fun _ => 0), lO 0 (r + 1 + 16) 0, rO 2 (fun _ => none), lO 0 (r + 1 + 18) 0, rO 2 (fun _ => none)] := J18
  rw [I18.gr (i := 0) (q := r + 1 + 0) rfl, Option.bind_some]
  have c1 : h18 (E.1 2) = some (.inl (0, 6, .inl gP)) := (I18.2.2.1 _ hz).trans p1
  have c2 : h18 (r + 1 + 0) = some (.inl (0, 6, .inl (fun _ => 0))) := I18.2.2.2 0 _ rfl
  rw [cI_at c1 c2 (by decide), Option.bind_some]
  have I19 : IC (hu h18 (r + 1 + 0) (rE 0 6 (va_cpy gP (fun _ => 0) 0 0 6))) r h [.ref (r + 1 + 0), .ref (r + 1 + 1), .ref (r + 1 + 2), .ref (r + 1 + 3), .ref (r + 1 + 4), .ref (r + 1 + 5), .ref (r + 1 + 6), .ref (r + 1 + 7), .ref (r + 1 + 8), .ref (r + 1 + 9), .ref (r + 1 + 10), .ref (r + 1 + 11), .ref (r + 1 + 12), .ref (r + 1 + 13), .ref (r + 1 + 14), .ref (r + 1 + 15), .ref (r + 1 + 17), .int 0, .int 0, .int 0, .int 0, .int 0, .null, .null, .null, .int 0, .ref o] [rE 0 6 (va_cpy gP (fun _ => 0) 0 0 6), rE 0 8 (fun _ => 0), rE 0 8 (fun _ => 0), rE 0 8 (fun _ => 0), rE 0 8 (fun _ => 0), rE 0 8 (fun _ => 0), rE 0 8 (fun _ => 0), rE 0 48 (fun _ => 0), rE 0 10 (fun _ => 0), rE 0 10 (fun _ => 0), rE 0 8 (fun _ => 0), rE 0 10 (fun _ => 0), rE 3 10 (fun _ => 0), rE 3 8 (fun _ => 0), rE 3 8 (fun _ => 0), lO 0 (r + 1 + 16) 0, rO 2 (fun _ => none), lO 0 (r + 1 + 18) 0, rO 2 (fun _ => none)] := I18.st (j := 0) rfl
  obtain ⟨h20, f1, e20, J20, j20⟩ := ini169 (E := E) (nc := r + 1 + 19) 8 0 9991 _ _ (fun _ => 0) rfl I19 rfl rfl (fun j hj => absurd hj (by omega))
  have I20 : IC h20 r h [.ref (r + 1 + 0), .ref (r + 1 + 1), .ref (r + 1 + 2), .ref (r + 1 + 3), .ref (r + 1 + 4), .ref (r + 1 + 5), .ref (r + 1 + 6), .ref (r + 1 + 7), .ref (r + 1 + 8), .ref (r + 1 + 9), .ref (r + 1 + 10), .ref (r + 1 + 11), .ref (r + 1 + 12), .ref (r + 1 + 13), .ref (r + 1 + 14), .ref (r + 1 + 15), .ref (r + 1 + 17), .int 0, .int 0, .int 0, .int 0, .int 0, .null, .null, .null, .int 0, .ref o] [rE 0 6 (va_cpy gP (fun _ => 0) 0 0 6), rE 0 8 f1, rE 0 8 (fun _ => 0), rE 0 8 (fun _ => 0), rE 0 8 (fun _ => 0), rE 0 8 (fun _ => 0), rE 0 8 (fun _ => 0), rE 0 48 (fun _ => 0), rE 0 10 (fun _ => 0), rE 0 10 (fun _ => 0), rE 0 8 (fun _ => 0), rE 0 10 (fun _ => 0), rE 3 10 (fun _ => 0), rE 3 8 (fun _ => 0), rE 3 8 (fun _ => 0), lO 0 (r + 1 + 16) 0, rO 2 (fun _ => none), lO 0 (r + 1 + 18) 0, rO 2 (fun _ => none)] := J20
  obtain ⟨h21, f9, e21, J21, j21⟩ := ini190 (E := E) (nc := r + 1 + 19) 10 0 9989 _ _ (fun _ => 0) rfl I20 rfl rfl (fun j hj => absurd hj (by omega))
  have I21 : IC h21 r h [.ref (r + 1 + 0), .ref (r + 1 + 1), .ref (r + 1 + 2), .ref (r + 1 + 3), .ref (r + 1 + 4), .ref (r + 1 + 5), .ref (r + 1 + 6), .ref (r + 1 + 7), .ref (r + 1 + 8), .ref (r + 1 + 9), .ref (r + 1 + 10), .ref (r + 1 + 11), .ref (r + 1 + 12), .ref (r + 1 + 13), .ref (r + 1 + 14), .ref (r + 1 + 15), .ref (r + 1 + 17), .int 0, .int 0, .int 0, .int 0, .int 0, .null, .null, .null, .int 0, .ref o] [rE 0 6 (va_cpy gP (fun _ => 0) 0 0 6), rE 0 8 f1, rE 0 8 (fun _ => 0), rE 0 8 (fun _ => 0), rE 0 8 (fun _ => 0), rE 0 8 (fun _ => 0), rE 0 8 (fun _ => 0), rE 0 48 (fun _ => 0), rE 0 10 (fun _ => 0), rE 0 10 f9, rE 0 8 (fun _ => 0), rE 0 10 (fun _ => 0), rE 3 10 (fun _ => 0), rE 3 8 (fun _ => 0), rE 3 8 (fun _ => 0), lO 0 (r + 1 + 16) 0, rO 2 (fun _ => none), lO 0 (r + 1 + 18) 0, rO 2 (fun _ => none)] := J21
  obtain ⟨h22, e22, J22⟩ := x_tail (E := E) (m := 9989) I21 rfl
  rw [show 9991 + 8 + 1 = FU from rfl] at e20
  rw [show 9989 + 10 + 1 = FU from rfl] at e21
  have e23 : f_X2_init_169 FU E r 0 (hu h18 (r + 1 + 0) (rE 0 6 (va_cpy gP (fun _ => 0) 0 0 6))) (r + 1 + 19) = some ((), h22, 21, 30) := e20.trans (e21.trans e22)
  refine ⟨h22, e23, ?_, J22.2.2.1⟩
  refine ⟨fun a => if a = 0 then va_cpy gP (fun _ => 0) 0 0 6 else if a = 1 then f1 else if a = 9 then f9 else fun _ => 0, ⟨J22.1, ?_, ⟨0, fun _ => none, J22.2.2.2 15 _ rfl, J22.2.2.2 16 _ rfl, by decide, by decide, by decide, fun i hi => absurd hi (by omega), fun _ _ _ => rfl⟩, ⟨0, fun _ => none, J22.2.2.2 17 _ rfl, J22.2.2.2 18 _ rfl, by decide, by decide, by decide, fun i hi => absurd hi (by omega), fun _ _ _ => rfl⟩, ?_, Or.inr (Or.inr (Or.inl rfl)), Or.inr (Or.inr (Or.inr rfl)), by omega⟩, ?_, ?_, ?_, ?_⟩
  · intro a ha
    have hx : a = 0 ∨ a = 1 ∨ a = 2 ∨ a = 3 ∨ a = 4 ∨ a = 5 ∨ a = 6 ∨ a = 7 ∨ a = 8 ∨ a = 9 ∨ a = 10 ∨ a = 11 ∨ a = 12 ∨ a = 13 ∨ a = 14 := by omega
    rcases hx with rfl | rfl | rfl | rfl | rfl | rfl | rfl | rfl | rfl | rfl | rfl | rfl | rfl | rfl | rfl
    · exact J22.2.2.2 0 _ rfl
    · exact J22.2.2.2 1 _ rfl
    · exact J22.2.2.2 2 _ rfl
    · exact J22.2.2.2 3 _ rfl
    · exact J22.2.2.2 4 _ rfl
    · exact J22.2.2.2 5 _ rfl
    · exact J22.2.2.2 6 _ rfl
    · exact J22.2.2.2 7 _ rfl
    · exact J22.2.2.2 8 _ rfl
    · exact J22.2.2.2 9 _ rfl
    · exact J22.2.2.2 10 _ rfl
    · exact J22.2.2.2 11 _ rfl
    · exact J22.2.2.2 12 _ rfl
    · exact J22.2.2.2 13 _ rfl
    · exact J22.2.2.2 14 _ rfl
  · intro i h1 h2
    obtain ⟨k, rfl⟩ : ∃ k, i = 20 + k := ⟨i - 20, by omega⟩
    have := J22.2.2.2 (19 + k)
    rw [show r + 1 + (19 + k) = r + (20 + k) by omega] at this
    refine this _ ?_
    have hx : k = 0 ∨ k = 1 ∨ k = 2 ∨ k = 3 ∨ k = 4 ∨ k = 5 ∨ k = 6 ∨ k = 7 ∨ k = 8 ∨ k = 9 ∨ k = 10 ∨ k = 11 ∨ k = 12 ∨ k = 13 ∨ k = 14 ∨ k = 15 ∨ k = 16 ∨ k = 17 ∨ k = 18 ∨ k = 19 ∨ k = 20 := by omega
    rcases hx with rfl | rfl | rfl | rfl | rfl | rfl | rfl | rfl | rfl | rfl | rfl | rfl | rfl | rfl | rfl | rfl | rfl | rfl | rfl | rfl | rfl <;> rfl
  · intro k hk
    show va_cpy gP (fun _ => 0) 0 0 6 k = _
    unfold va_cpy
    rw [if_pos ⟨by omega, by omega⟩, show 0 + (k - 0) = k by omega]
    exact p2 k hk
  · exact j20
  · exact j21
  · intro a j a0 a1 a9
    show (if a = 0 then _ else if a = 1 then f1 else if a = 9 then f9 else fun _ => 0) j = 0
    rw [if_neg a0, if_neg a1, if_neg a9]
end PIN
