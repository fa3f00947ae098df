/-! fits: both sides -/
def ftB (w : Rw) (p : Nat) (b : Int32) (x : Nat) : Bool := dFit w p x && (if b = 0 then true else if b = 1 then isFr w x else wTk w p x)
def an_fits (w : Rw) (a b : Int32) : Int32 × Int32 := if ir b 0 (nI 2) = false then (-1, 1) else if isHs w a = false then (-1, nI 2) else (nI (stN (ftB w a.toNatClampNeg b) (nH w)), 0)
section PFT
variable {w : Rw} {th st ac a b : Int32} {p x i s : Nat}
theorem m_fits34 (Z : Rng w) (hp : p < nP w) : f_X3_fits_34 FU w (nI p) b 0 0 th st = rA (nI (stN (ftB w p b) (nH w)), 0) := by
  obtain ⟨e1, b1⟩ := Z.gH
  have b2 := Z.gP.2
  have key := lp_upI (fun n i s => f_X3_fits_34 n w (nI p) b (nI s) (nI i) th st) (fun s => rA (nI s, 0)) (fun i s => if ftB w p b i = true then s ||| 2 ^ i else s) (nH w) (fun i s => s < 1024) ?_ ?_ ?_ FU 0 0 (Nat.zero_le _) (FU_lt (by omega)) (by decide)
  · exact key.1
  · intro n s hs
    simp only [f_X3_fits_34]
    rw [e1, if_pos (nI_leR _)]
    rfl
  · intro n i s hi hs
    simp only [f_X3_fits_34]
    rw [e1, if_neg (nI_ge hi (by omega)), m_doesFit (by omega) (by omega), Option.bind_some, m_isFree (by omega), Option.bind_some, m_wouldTake Z (by omega), Option.bind_some, or_0, or_n s hs i (by omega), nI_1]
    unfold ftB
    cases hd : dFit w p i
    · rw [if_pos (show bI false = 0 from rfl)]; rfl
    rw [if_neg (show ¬ bI true = 0 by decide)]
    by_cases h0 : b = 0
    · rw [if_pos h0, if_pos h0]; rfl
    rw [if_neg h0, if_neg h0]
    by_cases h1 : b = 1
    · rw [if_pos h1, if_pos h1]
      cases isFr w i <;> simp [bI]
    · rw [if_neg h1, if_neg h1]
      cases wTk w p i <;> simp [bI]
  · intro i s hi hs
    show (if ftB w p b i = true then s ||| 2 ^ i else s) < 1024
    split
    · exact or_lt (m := 10) hs (by omega)
    · exact hs
theorem m_fits (Z : Rng w) : f_X3_fits w th st a b = rA (an_fits w a b) := by
  simp only [f_X3_fits, m_from, m_isHouse, f_X3_refuse, Option.bind_some, an_fits, bI_0]
  by_cases hv : ir b 0 (nI 2) = false
  · rw [if_pos hv, if_pos hv]; rfl
  rw [if_neg hv, if_neg hv]
  by_cases hh : isHs w a = false
  · rw [if_pos hh, if_pos hh]; rfl
  rw [if_neg hh, if_neg hh]
  obtain ⟨p, hp, rfl⟩ := (hs_t Z).mp (Bool.not_eq_false _ ▸ hh)
  have b1 := Z.gP.2
  rw [nI_clamp (by omega)]
  exact m_fits34 Z hp
theorem shl_n : ∀ k, k < 10 → (1 : Int32) <<< (nI k &&& 31) = nI (2 ^ k) := by decide +kernel
theorem sm32_st {B : Nat → Bool} : ∀ n, sm32 (fun x => if B x = true then nI (2 ^ x) else 0) n = nI (stN B n)
  | 0 => rfl
  | n + 1 => by
    rw [sm32_1, stN_1, sm32_st n]
    by_cases hb : B n = true
    · rw [if_pos hb, if_pos hb, nI_add]
      have h1 := Nat.two_pow_add_eq_or_of_lt (i := n) (stN_lt (B := B) n) 1
      rw [Nat.mul_one] at h1
      rw [Nat.add_comm, h1, Nat.or_comm]
    · rw [if_neg hb, if_neg hb]; exact Int32.add_zero _
end PFT
section PFC
variable {A : Nat → Nat} {I : Nat → Int32} {M : Nat → Prop} {w : Rw} {st : Int32} {h h1 h2 h' : AH} {nx nx' n0 n1 n2 : Nat} {E : bE} {v a b u : Int32} {p x y N k q less : Nat} {f : Option (Int32 × AH × Nat × Nat)} {zs : Nat → Nat} {n : Nat}
theorem z_34 (S : SN A I M w st h nx) (G : Gd w) {q : Nat} (hq : h q = some (.inr (.inr (34, [.ref (A 0), .int (nI p), .int b])))) (hp : p < nP w) (hx : x < nH w) : (dE zs (n + 1)).2.2.2 h nx q (nI x) = some (if ftB w p b x = true then nI (2 ^ x) else 0, h, 0, 0) := by
  have b1 := G.1.gH.2
  obtain ⟨⟨aH, eH, aP, eP, rN, rA, hm, hs, nh, np, tl, O, T, TI, ho, hM⟩, F, wk, rf, sc, la, oa, R, Q, L, K, s0, il, io, hOwn, hno⟩ := id S.1
  rw [E_of hq]
  show lL34 (dE zs n) h nx [.ref (A 0), .int (nI p), .int b] (nI x) = _
  simp only [lL34, S.i0, gdT, f_X1_lambda_fits_22, S.g2, Option.bind_some, R.o1, c_isFitting R Q O T G.1 hp hx, c_isFree R Q O T G.1 G.2.1 hx, c_wouldTake R Q G.1 hp, shl_n x (by omega)]
  unfold ftB
  cases hd : dFit w p x
  · rw [if_pos (show bI false = 0 from rfl)]; rfl
  rw [if_neg (show ¬ bI true = 0 by decide)]
  by_cases h0 : b = 0
  · rw [if_pos h0, if_pos h0]; rfl
  rw [if_neg h0, if_neg h0]
  by_cases h1 : b = 1
  · rw [if_pos h1, if_pos h1]
    cases isFr w x <;> simp [bI]
  · rw [if_neg h1, if_neg h1]
    cases wTk w p x <;> simp [bI]
theorem y_fits (S : SN A I M w st h nx) (G : Gd w) : An A I M w h nx (f_X1_fits (dE zs (n + 1)) h nx (A 0) a b) (an_fits w a b) := by
  have Z := G.1
  rw [f_X1_fits, lg_r b 0 (nI 2) (by decide) (by decide), Option.bind_some, c_isHouse S Z, Option.bind_some]
  unfold an_fits
  cases hv : ir b 0 (nI 2)
  · rw [if_pos (show bI false = 0 from rfl), if_pos (show false = false from rfl)]
    exact An.cn S (by decide)
  rw [if_neg (show ¬ bI true = 0 by decide), if_neg (show ¬ true = false by nofun), S.i0, gdT]
  cases hh : isHs w a
  · rw [if_pos (show bI false = 0 from rfl), if_pos (show false = false from rfl)]
    exact An.cn S (by decide)
  rw [if_neg (show ¬ bI true = 0 by decide), if_neg (show ¬ true = false by nofun)]
  obtain ⟨p, hp, rfl⟩ := (hs_t Z).mp hh
  have b1 := Z.gP.2
  have b2 := Z.gH.2
  rw [nI_clamp (by omega)]
  unfold f_X1_fits_30
  refine An.can0 S (fun h1 S1 q1' => ?_)
  simp only [Nat.add_zero, bd]
  obtain ⟨⟨aH, eH, aP, eP, rN, rA, hm, hs, nh, np, tl, O, T, TI, ho, hM⟩, F, wk, rf, sc, la, oa, R, Q, L, K, s0, il, io, hOwn, hno⟩ := id S1.1
  obtain ⟨h2, e, S2, L2⟩ := y_sum (E := dE zs (n + 1)) (e := .inr (.inr (34, [.ref (A 0), .int (nI p), .int b]))) (g := fun x => if ftB w p b x = true then nI (2 ^ x) else 0) (N := nH w) S1 (by omega) (fun h' nx' j hj S' hq => ⟨h', z_34 S' G hq hp hj, S'.1, fun _ _ => rfl⟩)
  rw [O.g0, Option.bind_some, T.1.o, gdT, T.1.size, Option.bind_some, aC_id, e, sm32_st, aC_some]
  exact An.l1 S1 S2 L2 rfl (by omega)
end PFC
