/-! THE COMPONENT's side: a home is let -/
section PTL
variable {h h1 : AH} {nx nx' : Nat} {M M' : Nat → Prop} {o r eL eO_ cL cO : Nat} {w W : Rw} {p x a b dn k off : Nat} {zs : Nat → Nat} {n : Nat} {E : bE}
theorem Rng_psj2 (Z : Rng w) {band : Int32} (j : Nat) (hj : j ≤ 8) : Rng (psj w x band j) := Rng_psj Z j hj
theorem psj_g {band : Int32} {j i : Nat} (hi : 224 ≤ i) (hj : j ≤ 8) : psj w x band j i = w i := psj_o (by omega)
/-- those who are passed -/
theorem x_passed (X : RX h nx M o r eL eO_ cL cO w) (Z : Rng w) (hp : p < nP w) (x3 x4 x5 : Int32) : ∃ (h' : AH) (m : Nat), f_X2_lets_10 FU E r (nI p) (nI x) x3 x4 x5 (bnI w p) 0 h nx = f_X2_lets_10 (m + 1) E r (nI p) (nI x) x3 x4 x5 (bnI w p) (nI (nP w)) h' nx ∧ RX h' nx M o r eL eO_ cL cO (psj w x (bnI w p) (nP w)) ∧ ∀ q, q ≠ r + 5 → h' q = h q := by
  have b2 := Z.gP.2
  have key := lp_ex (fun n' j (s : AH) => f_X2_lets_10 n' E r (nI p) (nI x) x3 x4 x5 (bnI w p) (nI j) s nx) (nP w) (fun j s => RX s nx M o r eL eO_ cL cO (psj w x (bnI w p) j) ∧ ∀ q, q ≠ r + 5 → s q = h q) ?_ FU 0 h (Nat.zero_le _) (FU_lt (by omega)) ⟨by rw [psj_0]; exact X, fun _ _ => rfl⟩
  · obtain ⟨s, m, ⟨k1, k2⟩, k3⟩ := key
    exact ⟨s, m, k3, k1, k2⟩
  · intro n' j s hj hs
    obtain ⟨k1, k2⟩ := hs
    have Zj := Rng_psj2 (x := x) (band := bnI w p) Z j (by omega)
    have eP : nP (psj w x (bnI w p) j) = nP w := by unfold nP wN; rw [psj_g (by decide) (by omega)]
    have hjb : j < nP (psj w x (bnI w p) j) := by rw [eP]; exact hj
    have hc := cnd_psj (m := w) (h := x) (band := bnI w p) (j := j) (q := j) (by omega)
    obtain ⟨⟨aH, eH, aP, eP', rN, rA, hm, hs, nh, np, tl, O, T, TI, ho, hM'⟩, F, wk, rf, sc, la, oa, R, Q, L, K, s0, il, io, hOwn, hno⟩ := id k1
    simp only [f_X2_lets_10, R.g26, Option.bind_some, O.g1, T.2.1.o, gdT, T.2.1.size, R.o1, c_bidsFor R Q Zj hjb, c_isWaiting R Q Zj hjb, c_bandNow R Q O T Zj hjb, bI_0, nI_1, R.g4]
    rw [eP, if_neg (nI_ge hj (by omega)), R.a4 (by omega), Option.bind_some, (Q.2.1 j hjb).2.2.2.1]
    obtain ⟨h', d1, d2, d3⟩ := k1.putP Zj (a := 4) (k := 9) (p := j) (by omega) (by omega) (by decide) rfl (pF (psj w x (bnI w p) j) j 9 + 1) (fun F wk rf Q => RelF_p4 Q Zj (by omega) _)
    rw [show sI s (r + 5) 0 (nI j) (pF (psj w x (bnI w p) j) j 9 + 1) = some h' from d1, Option.bind_some]
    rw [psj_1, ← hc]
    by_cases hcn : cnd (psj w x (bnI w p) j) x (bnI w p) j = true
    · have hcn2 := hcn
      unfold cnd at hcn2
      rw [Bool.and_eq_true, Bool.and_eq_true, decide_eq_true_iff] at hcn2
      have hne : ¬ nI j = nI p := fun z => by
        have : j = p := (nI_eq (by omega) (by omega)).mp z
        subst this
        have hb : bnI (psj w x (bnI w j) j) j = bnI w j := by
          unfold bnI wtI
          rw [psj_p (by decide) (by decide), psj_p (by decide) (by decide), psj_g (by decide) (by omega), psj_g (by decide) (by omega)]
        have := hcn2.2
        rw [hb] at this
        exact Int32.lt_irrefl this
      rw [if_pos hcn, if_neg hne, hcn2.1.1, hcn2.1.2, if_neg (show ¬ true = false by nofun), if_neg (show ¬ true = false by nofun), if_neg (Int32.not_le.mpr hcn2.2)]
      exact ⟨h', ⟨d2, fun q hq => (d3 q hq).trans (k2 q hq)⟩, rfl⟩
    · rw [if_neg hcn]
      refine ⟨s, ⟨k1, k2⟩, ?_⟩
      split
      · rfl
      · cases h1 : iBd (psj w x (bnI w p) j) j x
        · rfl
        · cases h2 : mayH (psj w x (bnI w p) j) j
          · rfl
          · rw [if_neg (by nofun), if_neg (by nofun)]
            unfold cnd at hcn
            rw [h1, h2] at hcn
            rw [if_pos (Int32.not_lt.mp (fun z => hcn (by simp [z])))]
theorem nar_b (b : Bool) : vp_nar .boolean (bI b) = bI b := by cases b <;> rfl
def let4 (l q mv td : Bool) : Nat → Int32 := upd (upd (upd (upd (fun _ => 0) 0 (bI l)) 1 (bI q)) 2 (bI mv)) 3 (bI td)
def letV (p x : Nat) (wk ch : Int32) (off : Nat) (band : Int32) (l q mv td : Bool) : List Value := [.int (nI p), .int (nI x), .int wk, .int ch, .int (nI off), .int band, .int (bI l), .int (bI q), .int (bI mv), .int (bI td)]
theorem x_letInit {l q mv td : Bool} {a6 : Nat} {wk ch band : Int32} (h1 : h nx = some (.inr (.inl (7, df_X8)))) (h2 : h a6 = some (.inl (3, 4, .inl (let4 l q mv td)))) (hne : a6 ≠ nx) : f_X8_init E h nx' nx (nI p) (nI x) wk ch (nI off) band a6 = some ((), hu h nx (.inr (.inl (7, letV p x wk ch off band l q mv td))), 0, 0) := by
  have st : ∀ (fs : List Value) (k : Nat) (v : Value), k < fs.length → wr (hu h nx (.inr (.inl (7, fs)))) nx 7 k v = some (hu h nx (.inr (.inl (7, fs.set k v)))) := fun fs k v hk => by rw [wr_at hu_s hk, hu_hu]
  have rd4 : ∀ (fs : List Value) (j : Nat), j < 4 → aI (hu h nx (.inr (.inl (7, fs)))) a6 3 (nI j) = some (let4 l q mv td j) := fun fs j hj => by
    simp only [aI, arI, hu_n hne, h2, if_true, Option.bind_some]
    rw [gdn ⟨hj, by decide⟩, nI_clamp (by omega)]
  have isb : ∀ b : Bool, isB (bI b) = true := fun b => by cases b <;> decide
  have e0 : let4 l q mv td 0 = bI l := by unfold let4; rw [upd_n (by decide), upd_n (by decide), upd_n (by decide), upd_s]
  have e1 : let4 l q mv td 1 = bI q := by unfold let4; rw [upd_n (by decide), upd_n (by decide), upd_s]
  have e2 : let4 l q mv td 2 = bI mv := by unfold let4; rw [upd_n (by decide), upd_s]
  have e3 : let4 l q mv td 3 = bI td := by unfold let4; rw [upd_s]
  simp only [f_X8_init]
  rw [wr_at h1 (by decide), Option.bind_some, st _ _ _ (by simp [df_X8]), Option.bind_some, st _ _ _ (by simp [df_X8]), Option.bind_some, st _ _ _ (by simp [df_X8]), Option.bind_some, st _ _ _ (by simp [df_X8]), Option.bind_some, st _ _ _ (by simp [df_X8]), Option.bind_some]
  rw [show (0 : Int32) = nI 0 from rfl, show (1 : Int32) = nI 1 from rfl, rd4 _ 0 (by decide), Option.bind_some, e0, isb, gdT, st _ _ _ (by simp [df_X8]), Option.bind_some, rd4 _ 1 (by decide), Option.bind_some, e1, isb, gdT, st _ _ _ (by simp [df_X8]), Option.bind_some, rd4 _ 2 (by decide), Option.bind_some, e2, isb, gdT, st _ _ _ (by simp [df_X8]), Option.bind_some, rd4 _ 3 (by decide), Option.bind_some, e3, isb, gdT, st _ _ _ (by simp [df_X8]), Option.bind_some]
  rfl
end PTL
