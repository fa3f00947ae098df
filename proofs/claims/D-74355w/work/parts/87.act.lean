/-! acts: what both sides share -/
/-- an act refused (why), or done (what it answers, the row then) -/
def MA (f : Option (Int32 × Int32 × Int32 × Int32 × Rw × Rw)) (n : Nat) (P : Nat → Rw) (w : Rw) (kp : Rw) (sp : Sum Int32 (Int32 × Rw)) : Prop := match sp with
  | .inl r => f = some (-1, 0, r, nI n, w, kp)
  | .inr z => ∃ kp', f = some (z.1, 0, 0, nI (psN n), z.2, kp') ∧ KPR kp' (psN n) (psP n P w)
def SAb (bc bs : Nat) (A : Nat → Nat) (I' : Nat → Int32) (M : Nat → Prop) (eB : Nat) (h : AH) (nx : Nat) (f : Option (Int32 × AH × Nat × Nat)) (v st' : Int32) (w' : Rw) (n' : Nat) (P' : Nat → Rw) (C' : Nat → hE) : Prop := ∃ (h' : AH) (c d : Nat) (A' : Nat → Nat) (M' : Nat → Prop) (B' : Nat → Nat → Nat) (eP' cP' : Nat), f = some (v, h', c, d) ∧ Sys A' I' M' w' n' P' B' eP' cP' eB C' st' h' (nx + c) ∧ MS M h nx M' h' (nx + c) ∧ (∀ k, k = 0 ∨ 6 ≤ k → A' k = A k) ∧ c ≤ bc ∧ d ≤ bs
/-- the component's answer to an act -/
def CA (A : Nat → Nat) (I : Nat → Int32) (M : Nat → Prop) (eB : Nat) (h : AH) (nx : Nat) (f : Option (Int32 × AH × Nat × Nat)) (w : Rw) (n : Nat) (P : Nat → Rw) (C : Nat → hE) (sp : Sum Int32 (Int32 × Rw)) : Prop := match sp with
  | .inl r => SA A I M eB h nx f (-1) r w n P C
  | .inr z => SA A I M eB h nx f z.1 0 z.2 (psN n) (psP n P w) C
section PAC
variable {A A' : Nat → Nat} {I I' : Nat → Int32} {M M' M1 : Nat → Prop} {w w' W : Rw} {st st' : Int32} {h h0 h1 h2 h' : AH} {nx nx' n0 n1 n2 : Nat} {E : bE} {v a b u : Int32} {p x y N k q d K r eL eO_ cL cO eL' eO' cL' cO' o bc bs c1 d1 : Nat} {f f1 : Option (Int32 × AH × Nat × Nat)} {zs : Nat → Nat} {n m : Nat} {P P' : Nat → Rw} {B B' : Nat → Nat → Nat} {eP cP eB eP' cP' : Nat} {C C' : Nat → hE}
theorem Sys.own0 (S : Sys A I M w n P B eP cP eB C st h nx) : (∀ q, OwB B 0 q ↔ Own (A 1) (A 2) (A 3) q) ∧ ∀ q, OwB B 1 q ↔ Own (A 8) (B 1 1) (B 1 2) q := by
  obtain ⟨s1, s2, s3, -⟩ := S
  have e1 := s2 0 (by decide); have e2 := s2 1 (by decide); have e3 := s2 2 (by decide)
  exact ⟨fun q => by unfold OwB; rw [← e1, ← e2, ← e3], fun q => by unfold OwB; rw [← s3]⟩
/-- the register now is read, the status written -/
theorem Sys.sn (S : Sys A I M w n P B eP cP eB C st h nx) (S' : SN A I M w st' h' nx') (L : QS A h nx h' nx') : Sys A I M w n P B eP cP eB C st' h' nx' ∧ MS M h nx M h' nx' := by
  obtain ⟨o0, o1⟩ := S.own0
  have ow := S.1.1.own
  have hl : ∀ q, q < nx → q ≠ A 0 → ¬ OwB B 0 q → ¬ OwB B 1 q → h' q = h q := fun q hq h0 h1 _ => L.2 q hq (fun e => h1 ((o0 q).mpr (e ▸ Or.inl ⟨by omega, by omega⟩))) h0
  obtain ⟨s1, s2, s3, s4, s5, s6, s7, s8⟩ := id S
  refine S.step S' rfl (fun _ _ => rfl) s2 ?_ (fun _ _ => rfl) (fun z hz => ⟨rfl, Or.inl rfl, Or.inl rfl, s6 z (by omega)⟩) (fun q hq z => absurd (ow.1 q ((o0 q).mp z)).2 (by omega)) Ext.rfl' L.1 hl
  obtain ⟨F, wk, rf, sc, nl, la, no, oa, R, s0, hOwn, hno⟩ := id s4
  refine s4.keep L.1 Ext.rfl' (fun q hq ho => L.2 q hq (fun e => ?_) (fun e => ?_))
  · exact absurd (s7 0 1 q (by omega) (by omega) ((o0 q).mpr (e ▸ Or.inl ⟨by omega, by omega⟩)) ho) (by decide)
  · exact hno (e ▸ ho)
theorem Sys.now (S : Sys A I M w n P B eP cP eB C st h nx) (X : RX h' nx' M' (A 0) (A 1) eL' eO' cL' cO' w') (hn : nx ≤ nx') (Ex : Ext M M' nx) (y1 : eL' = A 2 ∨ nx ≤ eL') (y2 : eO' = A 3 ∨ nx ≤ eO') (y3 : cL' < 60) (y4 : cO' < 60) (hk : ∀ q, q < nx → ¬ Own (A 1) (A 2) (A 3) q → h' q = h q) : ∃ (A' : Nat → Nat) (B' : Nat → Nat → Nat), Sys A' I M' w' n P B' eP cP eB C st h' nx' ∧ MS M h nx M' h' nx' ∧ ∀ k, k < 2 ∨ 6 ≤ k → A' k = A k := by
  obtain ⟨o0, o1⟩ := S.own0
  have ow := S.1.1.own
  obtain ⟨s1, s2, s3, s4, s5, s6, s7, s8⟩ := id S
  obtain ⟨F, wk, rf, sc, nl, la, no, oa, R, s0, hOwn, hno⟩ := id s4
  have e1 := s2 0 (by decide); have e2 := s2 1 (by decide); have e3 := s2 2 (by decide)
  let A' : Nat → Nat := fun k => if k = 2 then eL' else if k = 3 then eO' else if k = 4 then cL' else if k = 5 then cO' else A k
  let B' : Nat → Nat → Nat := fun i => if i = 0 then fun k => if k = 0 then A 1 else if k = 1 then eL' else if k = 2 then eO' else if k = 3 then cL' else cO' else B i
  have hA0 : A' 0 = A 0 := rfl
  have hoE : oE A' I st = oE A I st := rfl
  obtain ⟨z1, z2⟩ := S.step (A' := A') (B' := B') (I' := I) (st' := st) (h' := h') (nx' := nx') (M' := M') (w' := w') ⟨X, by rw [hoE, show A' 0 = A 0 from rfl, hk _ s1.1.ne.2.1 ow.2.1]; exact s1.2⟩ rfl (fun k hk => by
    show (if k = 2 then _ else if k = 3 then _ else if k = 4 then _ else if k = 5 then _ else A k) = A k
    rw [if_neg (by omega), if_neg (by omega), if_neg (by omega), if_neg (by omega)]) (fun k hk => by
    rcases (show k = 0 ∨ k = 1 ∨ k = 2 ∨ k = 3 ∨ k = 4 by omega) with rfl | rfl | rfl | rfl | rfl <;> rfl) (s4.keep hn Ex (fun q hq ho => hk q hq (fun z => absurd (s7 0 1 q (by omega) (by omega) ((o0 q).mpr z) ho) (by decide)))) (fun i hi => if_neg (by omega)) (fun z hz => by
    rcases (show z = 0 ∨ z = 1 by omega) with rfl | rfl
    · exact ⟨e1, by rw [← e2]; exact y1, by rw [← e3]; exact y2, y3, y4⟩
    · exact ⟨rfl, Or.inl rfl, Or.inl rfl, s6 1 (by omega)⟩) (fun q hq _ z => absurd (hOwn q z).2 (by omega)) Ex hn (fun q hq h0 h1 h2 => hk q hq (fun z => h1 ((o0 q).mpr z)))
  refine ⟨A', B', z1, z2, fun k hk => ?_⟩
  show (if k = 2 then _ else if k = 3 then _ else if k = 4 then _ else if k = 5 then _ else A k) = A k
  rw [if_neg (by omega), if_neg (by omega), if_neg (by omega), if_neg (by omega)]
theorem Sys.xw {d : Nat} (S : Sys A I M w n P B eP cP eB C st h nx) (V : XW (A 0) (A 1) h nx M (A 2) (A 3) (A 4) (A 5) w h' nx' M' eL' eO' cL' cO' w' bc bs d) : ∃ (A' : Nat → Nat) (B' : Nat → Nat → Nat), Sys A' I M' w' n P B' eP cP eB C st h' nx' ∧ MS M h nx M' h' nx' ∧ ∀ k, k < 2 ∨ 6 ≤ k → A' k = A k := by
  obtain ⟨a1, a2, a3, a4, a5, a6, a7, a8, a9, a10, a11, a12, a13⟩ := V
  exact S.now a1 a2 a3 a4 a5 a8 a9 a13
theorem Sys.put (S : Sys A I M w n P B eP cP eB C st h nx) (X : RX h' nx M (A 0) (A 1) (A 2) (A 3) (A 4) (A 5) w') (hk : ∀ q, ¬ Own (A 1) (A 2) (A 3) q → h' q = h q) : ∃ (A' : Nat → Nat) (B' : Nat → Nat → Nat), Sys A' I M w' n P B' eP cP eB C st h' nx ∧ MS M h nx M h' nx ∧ ∀ k, k < 2 ∨ 6 ≤ k → A' k = A k :=
  S.now X (Nat.le_refl _) Ext.rfl' (Or.inl rfl) (Or.inl rfl) S.caps.1 S.caps.2 (fun q _ hq => hk q hq)
theorem SAb.sa (Q : SAb bc bs A I M eB h1 (nx + c1) f1 v st' w' n P' C) (hM : MS M1 h nx M h1 (nx + c1)) (hA : ∀ k, k = 0 ∨ 6 ≤ k → A k = A' k) (hf : f = aC c1 d1 f1) (hc : c1 + bc ≤ 15998) (hd : d1 + bs ≤ 94215) : SA A' I M1 eB h nx f v st' w' n P' C := by
  obtain ⟨h2, c, d, A2, M2, B2, eP2, cP2, e, S, m2, a2, b1, b2⟩ := Q
  refine ⟨h2, c1 + c, d1 + d, A2, M2, B2, eP2, cP2, by rw [hf, e, aC_some], by rw [← Nat.add_assoc]; exact S, by rw [← Nat.add_assoc]; exact hM.trans m2, fun k hk => (a2 k hk).trans (hA k hk), by omega, by omega⟩
/-- an act that is done: remembered first -/
theorem act_ok (S : Sys A I M w n P B eP cP eB C st h nx) (G : Gd w) (D : PZ zs M h nx) {KK : Int32 × AH × Nat × Nat → Unit × AH × Nat × Nat → Option (Int32 × AH × Nat × Nat)} (hk : ∀ h1 h2 c d M2 B2 eP2 cP2, Sys A I M2 w (psN n) (psP n P w) B2 eP2 cP2 eB C 0 h2 (nx + c) → SAb 15000 90000 A I M2 eB h2 (nx + c) (KK (1, h1, 0, 0) ((), h2, c, d)) v 0 w' (psN n) (psP n P w) C) : SA A I M eB h nx (gd (isO h (A 0) 0) ((f_X1_can (dE zs m) h nx (A 0) 0).bind fun v2 => aC v2.2.2.1 v2.2.2.2 (if v2.1 = 0 then some (-1, v2.2.1, 0, 0) else gd (isO v2.2.1 (A 0) 0) ((f_X1_remembers (dE zs m) v2.2.1 (nx + v2.2.2.1) (A 0)).bind fun v6 => aC v6.2.2.1 v6.2.2.2 (KK v2 v6))))) v 0 w' (psN n) (psP n P w) C := by
  obtain ⟨h1, e1, S1, q1⟩ := S.1.can (dE zs m) 0
  obtain ⟨Y1, m1⟩ := S.sn S1 q1
  have D1 : PZ zs M h1 nx := by
    obtain ⟨⟨fz, z1, z2⟩, z3, z4⟩ := D
    exact ⟨⟨fz, by rw [m1.2.2 _ z3 z4]; exact z1, z2⟩, z3, z4⟩
  obtain ⟨h2, c, d, M2, B2, eP2, cP2, e2, S2, m2, b1, b2⟩ := y_remembers (m := m) Y1 G D1
  have Q := hk h1 h2 c d M2 B2 eP2 cP2 S2
  rw [S.1.i0, gdT, e1, Option.bind_some]
  dsimp only
  rw [aC00, if_neg (show ¬ bI (decide ((0 : Int32) = 0)) = 0 by decide), S1.i0, gdT, Nat.add_zero, e2, Option.bind_some]
  exact Q.sa (c1 := c) (d1 := d) (m1.trans m2) (fun _ _ => rfl) rfl (by omega) (by omega)
theorem SA.pre (m1 : MS M h nx M h1 nx) (Q : SA A I M eB h1 nx f v st' w' n P' C) : SA A I M eB h nx f v st' w' n P' C := by
  obtain ⟨h2, c, d, A2, M2, B2, eP2, cP2, e, S, m2, a2⟩ := Q
  exact ⟨h2, c, d, A2, M2, B2, eP2, cP2, e, S, m1.trans m2, a2⟩
theorem PZ.ms (D : PZ zs M h nx) (m1 : MS M h nx M h1 nx) : PZ zs M h1 nx := by
  obtain ⟨⟨fz, z1, z2⟩, z3, z4⟩ := D
  exact ⟨⟨fz, by rw [m1.2.2 _ z3 z4]; exact z1, z2⟩, z3, z4⟩
theorem Sys.o1 (S : Sys A I M w n P B eP cP eB C st h nx) : isO h (A 1) 1 = true := by
  have S1 := S.1.1
  obtain ⟨⟨aH, eH, aP, eP, rN, rA, hm, hs, nh, np, tl, O, T, TI, ho, hM⟩, F, wk, rf, sc, la, oa, R, Q, L, K, s0, il, io, hOwn, hno⟩ := id S1
  exact R.o1
/-- bid -/
def sp_bid (w : Rw) (a b : Int32) : Sum Int32 (Int32 × Rw) := if (isHs w a && isHm w b) = false then .inl (nI 2) else if whN w a.toNatClampNeg b.toNatClampNeg = 0 then .inr (nI (pc (pN w a.toNatClampNeg 10 ||| 2 ^ b.toNatClampNeg)), bw w a.toNatClampNeg (pN w a.toNatClampNeg 10 ||| 2 ^ b.toNatClampNeg)) else .inl (nI 7)
theorem y_bid (S : Sys A I M w n P B eP cP eB C st h nx) (G : Gd w) (D : PZ zs M h nx) : CA A I M eB h nx (f_X1_bid (dE zs (m + 1)) h nx (A 0) a b) w n P C (sp_bid w a b) := by
  have Z := G.1
  have SN1 := S.1
  unfold f_X1_bid sp_bid
  rw [SN1.i0, gdT, c_whyBoth SN1 Z, Option.bind_some]
  by_cases hv : (isHs w a && isHm w b) = true
  · rw [if_pos hv, if_pos (show (0 : Int32) = 0 from rfl), if_neg (by rw [hv]; nofun)]
    rw [Bool.and_eq_true] at hv
    obtain ⟨p, hp, rfl⟩ := (hs_t Z).mp hv.1
    obtain ⟨x, hx, rfl⟩ := (hm_t Z).mp hv.2
    have b1 := Z.gP.2
    have b2 := Z.gH.2
    rw [nI_clamp (show p < 2 ^ 31 by omega), nI_clamp (show x < 2 ^ 31 by omega)]
    obtain ⟨h2, e2, X2, k2⟩ := x_whyNot (zs := zs) (n := m) SN1.1 Z G.2.1 hp hx
    have q2 : QS A h nx h2 nx := (Lt.one k2).qs
    have SN2 : SN A I M w st h2 nx := SN1.lt X2 (Lt.one k2)
    obtain ⟨S2, m2⟩ := S.sn SN2 q2
    have D2 := D.ms m2
    have o1 := S.o1
    have hwl := whN_lt (w := w) (p := p) (h := x)
    rw [SN1.g2, Option.bind_some, o1, gdT, e2, Option.bind_some]
    dsimp only
    rw [aC00]
    by_cases hw : whN w p x = 0
    · rw [hw, if_pos (show nI 0 ≤ 0 from Int32.le_refl _), if_pos rfl]
      refine SA.pre m2 ?_
      unfold f_X1_bid_30
      refine act_ok S2 G D2 (fun h3 h4 c d M4 B4 eP4 cP4 S4 => ?_)
      obtain ⟨h5, e5, X5, k5⟩ := x_putsBid (E := dE zs (m + 1)) S4.1.1 Z hp (show x < 10 by omega)
      obtain ⟨A5, B5, S5, m5, hA5⟩ := S4.put X5 (fun q hq => k5 q (fun e => hq (Or.inl ⟨by omega, by omega⟩)))
      have hb : pN w p 10 ||| 2 ^ x < 1024 := or_lt (n := pN w p 10) (k := x) (m := 10) (by have := (Z.p10 (p := p) (by omega)).2; omega) (by omega)
      have Z5 : Rng (bw w p (pN w p 10 ||| 2 ^ x)) := Rng_bw Z (by omega) hb
      have hp5 : p < nP (bw w p (pN w p 10 ||| 2 ^ x)) := by rw [bw_nP (by omega)]; exact hp
      have bm : f_X2_bidMany (dE zs (m + 1)) h5 (A 1) (nI p) = some (nI (pc (pN w p 10 ||| 2 ^ x))) := by
        have S51 := S5.1.1
        obtain ⟨⟨aH, eH, aP, eP, rN, rA, hm, hs, nh, np, tl, O, T, TI, ho, hM⟩, F, wk, rf, sc, la, oa, R, Q, L, K, s0, il, io, hOwn, hno⟩ := id S51
        rw [← hA5 1 (Or.inl (by decide)), c_bidMany R Q Z5 hp5]
        have e9 : pN (bw w p (pN w p 10 ||| 2 ^ x)) p 10 = pN w p 10 ||| 2 ^ x := by
          show (pF (bw w p (pN w p 10 ||| 2 ^ x)) p 10).toNatClampNeg = _
          rw [bw_s, nI_clamp (by omega)]
        rw [e9]
      have g5 : gA h5 (A 0) 0 2 = some (A 1) := by
        have := S5.1.g2
        rw [hA5 0 (Or.inl (by decide)), hA5 1 (Or.inl (by decide))] at this
        exact this
      have o5 : isO h5 (A 1) 1 = true := by rw [← hA5 1 (Or.inl (by decide))]; exact S5.o1
      refine ⟨h5, 0, 0, A5, M4, B5, eP4, cP4, ?_, S5, m5, fun k hk => hA5 k (by omega), by omega, by omega⟩
      dsimp only
      simp only [Nat.add_zero]
      rw [S4.1.g2, Option.bind_some, S4.o1, gdT, e5, Option.bind_some]
      dsimp only
      rw [g5, Option.bind_some, o5, gdT, bm, Option.bind_some, aC00]
    · rw [if_neg (nI_nle (by omega) (by omega)), if_neg hw]
      exact SA.pre m2 (An.sa S2 (a := (-1, nI 7)) (An.cn SN2 (by decide)))
  · rw [if_neg hv, if_neg (show ¬ nI 2 = 0 by decide), if_pos (Bool.not_eq_true _ ▸ hv)]
    exact An.sa S (a := (-1, nI 2)) (An.cn SN1 (by decide))
end PAC
