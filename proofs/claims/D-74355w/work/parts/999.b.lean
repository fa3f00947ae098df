/-! reading: what the reader has made; its small readers -/
def hmE (s : Nat) (r w : Int32) : hE := .inr (.inl (5, [.ref s, .int r, .int w]))
def hsE (s t : Nat) : hE := .inr (.inl (6, [.ref s, .ref t]))
/-- what is told at a heap -/
def CF (A : Nat → Nat) (I : Nat → Int32) (st : Int32) (tb : Nat → Int32) (e : Nat → Nat) (h : AH) : Prop :=
  RDH A I st tb h ∧ StrsH h (A 10) 6 cstL cstG ∧ StrsH h (A 11) 4 (fun i => cstL (6 + i)) (fun i => cstG (6 + i)) ∧ (∀ k, 17 ≤ k → k < 21 → ∃ s', StrH h (e (20 + k)) s' (cstL k) (cstG k)) ∧ (∃ f : Nat → Int32, h (e 0) = some (.inl (0, 6, .inl f)) ∧ ∀ k, k < 6 → f k = loR k) ∧ ∃ f : Nat → Int32, h (e 1) = some (.inl (0, 6, .inl f)) ∧ ∀ k, k < 6 → f k = hiR k
def RdC (A : Nat → Nat) (I : Nat → Int32) (st : Int32) (ta tb : Nat → Int32) (si : Nat) (e : Nat → Nat) (b : Nat) (h0 : AH) : Prop := Tps ta tb ∧ si ≤ 900 ∧ A 0 < b ∧ A 12 < b ∧ ∀ h, (∀ q, q < b → h q = h0 q) → CF A I st tb e h
def Im (b eH eP lo q : Nat) : Prop := b + 46 ≤ q ∧ q < lo ∧ q ≠ eH ∧ q ≠ eP
/-- the homes and houses that are made (m, n of them), their register; all below lo -/
def RdB (A : Nat → Nat) (b : Nat) (h0 : AH) (rn : Nat → Int64) (m n : Nat) (hv pv : Nat → Nat → Int32) (F : Nat → Nat → Int32) (eH eP lo : Nat) (h : AH) : Prop :=
  ∃ (cH cP : Nat) (hm sh bh hs sp bp tl la oa : Nat → Nat), (∀ q, q < b → h q = h0 q) ∧ b + 46 ≤ lo ∧ LstC h (b + 1) eH m hm cH ∧ LstC h (b + 3) eP n hs cP ∧ (cH < 60 ∧ cP < 60) ∧ ((eH = b + 2 ∨ b + 46 ≤ eH) ∧ (eP = b + 4 ∨ b + 46 ≤ eP) ∧ eH ≠ eP ∧ eH < lo ∧ eP < lo) ∧
  (∀ i, i < m → h (hm i) = some (hmE (sh i) (hv i 0) (hv i 1)) ∧ NmH h (sh i) (bh i) (rn i) ∧ Im b eH eP lo (hm i) ∧ Im b eH eP lo (sh i) ∧ Im b eH eP lo (bh i)) ∧
  (∀ p, p < n → h (hs p) = some (hsE (sp p) (tl p)) ∧ NmH h (sp p) (bp p) (rn (10 + p)) ∧ (∃ t : Nat → Int32, h (tl p) = some (.inl (0, 4, .inl t)) ∧ ∀ k, k < 4 → t k = pv p k) ∧ Im b eH eP lo (hs p) ∧ Im b eH eP lo (sp p) ∧ Im b eH eP lo (bp p) ∧ Im b eH eP lo (tl p)) ∧
  RegH h (A 0) (b + 5) (b + 22) (b + 24) F 0 0 (0, 0, 0, 0) 0 la 0 oa 2 2
/-- the reader's token: its cell alone; and with its word -/
def TkC (si : Nat) (ta : Nat → Int32) (t : Nat) (h : AH) (b o : Nat) : Prop := ∃ (wd' : Nat) (nu' : Int32), h b = some (rdE (nI si) (tFr si ta t) (nI (tNx si ta t)) (srt (tKd si ta t)) nu' wd' (b + 1) (b + 3) (b + 5) o)
def TkN (si : Nat) (ta : Nat → Int32) (t : Nat) (h : AH) (b o lo hi : Nat) : Prop := ∃ (wd' : Nat) (nu' : Int32), h b = some (rdE (nI si) (tFr si ta t) (nI (tNx si ta t)) (srt (tKd si ta t)) nu' wd' (b + 1) (b + 3) (b + 5) o) ∧ (tKd si ta t = nI 3 → nu' = tNu si ta t) ∧ (tKd si ta t = nI 2 → ∃ s, NmH h wd' s (tWd si ta t) ∧ lo ≤ wd' ∧ wd' < hi ∧ lo ≤ s ∧ s < hi)
/-- thrown -/
def YBad {α : Type} (b : Nat) (h0 : AH) (f : Option ((Nat ⊕ α) × AH × Nat × Nat)) (fa pl : Int32) (C D : Nat) : Prop := ∃ (a : Nat) (h' : AH) (c d : Nat), f = some (.inl a, h', c, d) ∧ gI h' a 4 6 = some fa ∧ gI h' a 4 7 = some pl ∧ (∀ q, q < b → h' q = h0 q) ∧ c ≤ C ∧ d ≤ D
def MBad {β : Type} (m : Option (Int32 × Int32 × Int32 × Int32 × Int32 × Int32 × Int32 × Int64 × β)) (fa pl : Int32) : Prop := ∃ x1 x2 x3 x4 x7 x8, m = some (0, x1, x2, x3, x4, fa, pl, x7, x8)
def bdF (K k : Int32) : Int32 := if K = 1 then 1 else k
section PRB
variable {A : Nat → Nat} {I : Nat → Int32} {st : Int32} {ta tb : Nat → Int32} {h h' h0 : AH} {E : bE} {nx si t b m n lo lo' hi hi' k eH eP c d C D C' D' : Nat} {rn rn' : Nat → Int64} {hv pv hv' pv' F : Nat → Nat → Int32} {fa pl K : Int32} {α β : Type} {f : Option ((Nat ⊕ α) × AH × Nat × Nat)} {e : Nat → Nat} {T : T5} {v : Int64}
theorem YBad.bind (Y : YBad b h0 f fa pl C D) (K : (Nat ⊕ α) × AH × Nat × Nat → α → Option ((Nat ⊕ β) × AH × Nat × Nat)) : YBad b h0 (f.bind fun v => aC v.2.2.1 v.2.2.2 (sumc v.1 (fun ax => some (.inl ax, v.2.1, 0, 0)) (K v))) fa pl C D := by
  obtain ⟨a, h', c, d, e1, e2, e3, e4, e5, e6⟩ := Y
  refine ⟨a, h', c + 0, d + 0, ?_, e2, e3, e4, by omega, by omega⟩
  rw [e1]; rfl
theorem YBad.aC (Y : YBad b h0 f fa pl C D) (c d : Nat) : YBad b h0 (aC c d f) fa pl (c + C) (d + D) := by
  obtain ⟨a, h', c1, d1, e1, e2, e3, e4, e5, e6⟩ := Y
  refine ⟨a, h', c + c1, d + d1, ?_, e2, e3, e4, by omega, by omega⟩
  rw [e1]; rfl
theorem YBad.le (Y : YBad b h0 f fa pl C D) (h1 : C ≤ C') (h2 : D ≤ D') : YBad b h0 f fa pl C' D' := by
  obtain ⟨a, h', c1, d1, e1, e2, e3, e4, e5, e6⟩ := Y
  exact ⟨a, h', c1, d1, e1, e2, e3, e4, by omega, by omega⟩
theorem RdB.fr (B : RdB A b h0 rn m n hv pv F eH eP lo h) : ∀ q, q < b → h q = h0 q := by
  obtain ⟨cH, cP, hm, sh, bh, hs, sp, bp, tl, la, oa, b1, b2⟩ := B
  exact b1
theorem RdB.l46 (B : RdB A b h0 rn m n hv pv F eH eP lo h) : b + 46 ≤ lo := by
  obtain ⟨cH, cP, hm, sh, bh, hs, sp, bp, tl, la, oa, b1, b2, b3⟩ := B
  exact b2
theorem RdB.eb (B : RdB A b h0 rn m n hv pv F eH eP lo h) : (eH = b + 2 ∨ b + 46 ≤ eH) ∧ (eP = b + 4 ∨ b + 46 ≤ eP) ∧ eH ≠ eP ∧ eH < lo ∧ eP < lo := by
  obtain ⟨cH, cP, hm, sh, bh, hs, sp, bp, tl, la, oa, b1, b2, b3, b4, b5, b6, b7⟩ := B
  exact b6
theorem Im.up {q : Nat} (H : Im b eH eP lo q) (hl : lo ≤ lo') : Im b eH eP lo' q := ⟨H.1, by have := H.2.1; omega, H.2.2⟩
theorem RdB.keep (B : RdB A b h0 rn m n hv pv F eH eP lo h) (hl : lo ≤ lo') (hk : ∀ q, q < lo → q ≠ b → h' q = h q) : RdB A b h0 rn m n hv pv F eH eP lo' h' := by
  obtain ⟨cH, cP, hm, sh, bh, hs, sp, bp, tl, la, oa, b1, b2, b3, b4, b5, b6, b7, b8, b9⟩ := B
  have ki : ∀ q, Im b eH eP lo q → h' q = h q := fun q hq => hk q hq.2.1 (by have := hq.1; omega)
  refine ⟨cH, cP, hm, sh, bh, hs, sp, bp, tl, la, oa, fun q hq => (hk q (by omega) (by omega)).trans (b1 q hq), by omega, b3.kept (hk _ (by omega) (by omega)) (hk _ b6.2.2.2.1 (by omega)), b4.kept (hk _ (by omega) (by omega)) (hk _ b6.2.2.2.2 (by omega)), b5, ⟨b6.1, b6.2.1, b6.2.2.1, by omega, by omega⟩, fun i hi => ?_, fun p hp => ?_, ?_⟩
  · obtain ⟨z1, z2, z3, z4, z5⟩ := b7 i hi
    exact ⟨(ki _ z3).trans z1, z2.kept (ki _ z4) (ki _ z5), z3.up hl, z4.up hl, z5.up hl⟩
  · obtain ⟨z1, z2, ⟨t, z3, z3'⟩, z4, z5, z6, z7⟩ := b8 p hp
    exact ⟨(ki _ z4).trans z1, z2.kept (ki _ z5) (ki _ z6), ⟨t, (ki _ z7).trans z3, z3'⟩, z4.up hl, z5.up hl, z6.up hl, z7.up hl⟩
  · exact b9.kept (fun q hq => by
      rcases hq with z | z | z
      · exact hk q (by omega) (by omega)
      · exact hk q (by omega) (by omega)
      · exact hk q (by omega) (by omega))
/-- the row may change where nothing of it is made -/
theorem RdB.row (B : RdB A b h0 rn m n hv pv F eH eP lo h) (h1 : ∀ i, i < m → rn' i = rn i ∧ hv' i 0 = hv i 0 ∧ hv' i 1 = hv i 1) (h2 : ∀ p, p < n → rn' (10 + p) = rn (10 + p) ∧ ∀ k, k < 4 → pv' p k = pv p k) : RdB A b h0 rn' m n hv' pv' F eH eP lo h := by
  obtain ⟨cH, cP, hm, sh, bh, hs, sp, bp, tl, la, oa, b1, b2, b3, b4, b5, b6, b7, b8, b9⟩ := B
  refine ⟨cH, cP, hm, sh, bh, hs, sp, bp, tl, la, oa, b1, b2, b3, b4, b5, b6, fun i hi => ?_, fun p hp => ?_, b9⟩
  · obtain ⟨y1, y2, y3⟩ := h1 i hi
    rw [y1, y2, y3]; exact b7 i hi
  · obtain ⟨z1, z2, ⟨t, z3, z3'⟩, z4⟩ := b8 p hp
    obtain ⟨y1, y2⟩ := h2 p hp
    rw [y1]
    exact ⟨z1, z2, ⟨t, z3, fun k hk => (z3' k hk).trans (y2 k hk).symm⟩, z4⟩
theorem TkN.tc {o : Nat} (T : TkN si ta t h b o lo hi) : TkC si ta t h b o := by
  obtain ⟨wd', nu', q, -⟩ := T
  exact ⟨wd', nu', q⟩
theorem TkN.keep {o : Nat} (T : TkN si ta t h b o lo hi) (hb : h' b = h b) (hk : ∀ q, lo ≤ q → q < hi → h' q = h q) : TkN si ta t h' b o lo hi := by
  obtain ⟨wd', nu', q, t2, t3⟩ := T
  refine ⟨wd', nu', hb.trans q, t2, fun z => ?_⟩
  obtain ⟨s, z1, z2, z3, z4, z5⟩ := t3 z
  exact ⟨s, z1.kept (hk _ z2 z3) (hk _ z4 z5), z2, z3, z4, z5⟩
theorem TkN.up {o : Nat} (T : TkN si ta t h b o lo hi) (h1 : hi ≤ hi') : TkN si ta t h b o lo hi' := by
  obtain ⟨wd', nu', q, t2, t3⟩ := T
  refine ⟨wd', nu', q, t2, fun z => ?_⟩
  obtain ⟨s, z1, z2, z3, z4, z5⟩ := t3 z
  exact ⟨s, z1, z2, by omega, z4, by omega⟩
theorem Tok.tn {o : Nat} (hs : si ≤ 900) (ht : t ≤ si) (T : Tok ta si t h b (b + 1) (b + 3) (b + 5) o lo hi) : TkN si ta t h b o lo hi := by
  obtain ⟨wd', nu', q, t2, t3⟩ := T
  rw [(tk_ok hs ht).1] at q
  refine ⟨wd', nu', q, t2, fun z => ?_⟩
  obtain ⟨f, n, s, z1, z2, z3, z4, z5, z6, z7⟩ := t3 z
  refine ⟨s, ⟨n, _, ⟨z1, z2, ?_⟩, z3⟩, z5.1, z5.2, z6, z7⟩
  unfold tWd
  rw [z4]; exact cd8_sh n
theorem RdC.at (C : RdC A I st ta tb si e b h0) (B : RdB A b h0 rn m n hv pv F eH eP lo h) : CF A I st tb e h := C.2.2.2.2 h B.fr
/-- one token on -/
theorem y_go (C : RdC A I st ta tb si e b h0) (B : RdB A b h0 rn m n hv pv F eH eP lo h) (T : TkC si ta t h b (A 0)) (ht : t ≤ si) (hl : lo ≤ nx) : ∃ h' c d, f_X4_goesOn E h nx b = some ((), h', c, d) ∧ RdB A b h0 rn m n hv pv F eH eP lo h' ∧ TkN si ta (tNx si ta t) h' b (A 0) nx (nx + c) ∧ (∀ z, z < nx → z ≠ b → h' z = h z) ∧ c ≤ 4 ∧ d ≤ 40 := by
  obtain ⟨wd', nu', q⟩ := T
  have h46 := B.l46
  have h3 := (tk_ok (g := ta) C.2.1 ht).2.2.1
  obtain ⟨h', c, d, e1, e2, e3, e4, e5⟩ := y_goesOn (E := E) (nx := nx) C.1 C.2.1 (by have := C.2.2.1; omega) (by have := C.2.2.2.1; omega) (by omega) (by have := C.2.2.1; omega) (by have := C.2.2.2.1; omega) h3 (C.at B).1 q
  exact ⟨h', c, d, e1, B.keep (Nat.le_refl _) (fun z hz hz2 => e3 z (by omega) hz2), e2.tn C.2.1 h3, e3, e4, e5⟩
theorem c_is {a0 s : Nat} (T : TkN si ta t h b (A 0) lo hi) (N : NmH h a0 s v) : f_X4_is E h b a0 = some (bI (decide (tKd si ta t = nI 2) && decide (tWd si ta t = v))) := by
  obtain ⟨wd', nu', q, t2, t3⟩ := T
  obtain ⟨-, -, -, r3, -, r5, -, -, -, -, -⟩ := rd0 q
  unfold f_X4_is
  rw [r3, Option.bind_some]
  by_cases hk : tKd si ta t = nI 2
  · obtain ⟨s', z1, -⟩ := t3 hk
    rw [if_pos (srt_1.mpr hk), r5, Option.bind_some, z1.o, gdT, nm_eq z1 N, Option.bind_some, decide_eq_true hk, Bool.true_and]
    cases decide (tWd si ta t = v)
    · rw [if_pos (show bI false = 0 from rfl)]; rfl
    · rw [if_neg (show ¬ bI true = 0 by decide)]; rfl
  · rw [if_neg (fun z => hk (srt_1.mp z)), decide_eq_false hk]; rfl
theorem fdN_split {B : Nat → Bool} {a c : Nat} : (fdN B 0 (a + c)).isSome = ((fdN B 0 a).isSome || (fdN (fun i => B (a + i)) 0 c).isSome) := by
  rw [Bool.eq_iff_iff, Bool.or_eq_true, fdN_any, fdN_any, fdN_any]
  constructor
  · rintro ⟨q, h1, h2, h3⟩
    by_cases hq : q < a
    · exact Or.inl ⟨q, h1, by omega, h3⟩
    · exact Or.inr ⟨q - a, by omega, by omega, by rw [show a + (q - a) = q by omega]; exact h3⟩
  · rintro (⟨q, h1, h2, h3⟩ | ⟨q, h1, h2, h3⟩)
    · exact ⟨q, h1, by omega, h3⟩
    · exact ⟨a + q, by omega, by omega, h3⟩
theorem eO_0 {o : Option Nat} (ho : ∀ j, o = some j → j < 2 ^ 31) : (0 : Int32) ≤ eO o ↔ o.isSome = true := by
  cases o with
  | none => exact ⟨fun z => absurd (show (0 : Int32) ≤ -1 from z) (by decide), fun z => by cases z⟩
  | some j => exact ⟨fun _ => rfl, fun _ => nI_pos' (ho j rfl)⟩
theorem c_isName (H : CF A I st tb e h) (T : TkN si ta t h b (A 0) lo hi) : f_X4_isName E h b = some (bI (isNm (tKd si ta t) (tWd si ta t))) := by
  obtain ⟨wd', nu', q, t2, t3⟩ := T
  obtain ⟨-, -, -, r3, -, r5, -, -, -, r9, -⟩ := rd0 q
  obtain ⟨H1, H2, H3, -⟩ := H
  have g8 : gA h (A 0) 0 8 = some (A 10) := by simp [gA, rd, H1.1, oE, oFs, vR]
  have g9 : gA h (A 0) 0 9 = some (A 11) := by simp [gA, rd, H1.1, oE, oFs, vR]
  unfold f_X4_isName isNm
  rw [r3, Option.bind_some]
  by_cases hk : tKd si ta t = nI 2
  · obtain ⟨s', ⟨n, g, w, S⟩, -⟩ := t3 hk
    have hl : ∀ k, k < 10 → cstL k < 1000 := fun k hk => by have := (cst_w (k := k) (Or.inl hk)).1; omega
    have p1 : plc 6 cstL cstG n g = fdN (fun i => decide (tWd si ta t = cstW i)) 0 6 := by
      unfold plc
      refine fdN_c 6 0 (fun j _ hj => decide_eq_decide.mpr ?_)
      rw [eq_comm (a := tWd si ta t)]
      exact ((cst_w (k := j) (Or.inl (by omega))).inj w).symm
    have p2 : plc 4 (fun i => cstL (6 + i)) (fun i => cstG (6 + i)) n g = fdN (fun i => decide (tWd si ta t = cstW (6 + i))) 0 4 := by
      unfold plc
      refine fdN_c 4 0 (fun j _ hj => decide_eq_decide.mpr ?_)
      rw [eq_comm (a := tWd si ta t)]
      exact ((cst_w (k := 6 + j) (Or.inl (by omega))).inj w).symm
    have b1 : ∀ j, plc 6 cstL cstG n g = some j → j < 2 ^ 31 := fun j hj => by have := (fdN_some hj).2.1; omega
    have b2 : ∀ j, plc 4 (fun i => cstL (6 + i)) (fun i => cstG (6 + i)) n g = some j → j < 2 ^ 31 := fun j hj => by have := (fdN_some hj).2.1; omega
    rw [if_pos (srt_1.mpr hk), r5, Option.bind_some, r9, Option.bind_some, g8, Option.bind_some, y_place H2 (by decide) (fun i hi => hl i (by omega)) S (by have := w.1; omega), Option.bind_some, decide_eq_true hk, Bool.true_and, show (10 : Nat) = 6 + 4 from rfl, fdN_split]
    by_cases z1 : (0 : Int32) ≤ eO (plc 6 cstL cstG n g)
    · rw [if_pos z1, ← p1, (eO_0 b1).mp z1]; rfl
    · rw [if_neg z1, Option.bind_some, Option.bind_some, g9, Option.bind_some, y_place H3 (by decide) (fun i hi => hl (6 + i) (by omega)) S (by have := w.1; omega), Option.bind_some, ← p1, ← p2]
      rw [Bool.eq_false_iff.mpr (fun z => z1 ((eO_0 b1).mpr z)), Bool.false_or]
      by_cases z2 : (0 : Int32) ≤ eO (plc 4 (fun i => cstL (6 + i)) (fun i => cstG (6 + i)) n g)
      · rw [if_pos z2, (eO_0 b2).mp z2]; rfl
      · rw [if_neg z2, Bool.eq_false_iff.mpr (fun z => z2 ((eO_0 b2).mpr z))]; rfl
  · rw [if_neg (fun z => hk (srt_1.mp z)), decide_eq_false hk]; rfl
theorem c_homeNamed {fr to so nu : Int32} {wd s : Nat} (B : RdB A b h0 rn m n hv pv F eH eP lo h) (hm : m ≤ 10) (q : h b = some (rdE (nI si) fr to so nu wd (b + 1) (b + 3) (b + 5) (A 0))) (N : NmH h wd s v) : f_X4_homeNamed E h b = some (eO (hNm rn m v)) := by
  obtain ⟨cH, cP, hma, sh, bh, hs, sp, bp, tl, la, oa, b1, b2, b3, b4, b5, b6, b7, b8, b9⟩ := B
  obtain ⟨-, -, -, -, -, r5, r6, -, -, -, -⟩ := rd0 q
  have key := lp_fd (fun k i => f_X4_homeNamed_2 k E h b (nI i)) (fun i => some (nI i)) (some (-1)) (fun i => decide (rn i = v)) m (fun k => ?_) (fun k i hi => ?_) FU 0 (Nat.zero_le _) (FU_lt (by omega))
  · refine Eq.trans key ?_
    rw [Nat.sub_zero]
    unfold hNm
    cases fdN (fun i => decide (rn i = v)) 0 m <;> rfl
  · simp only [f_X4_homeNamed_2]
    rw [r6, Option.bind_some, b3.o, gdT, b3.size, Option.bind_some, if_pos (nI_leR _)]
  · obtain ⟨z1, z2, -⟩ := b7 i hi
    have o5 : isO h (hma i) 5 = true := by simp [isO, z1, hmE]
    have g0 : gA h (hma i) 5 0 = some (sh i) := by simp [gA, rd, z1, hmE, vR]
    simp only [f_X4_homeNamed_2]
    rw [r6, Option.bind_some, b3.o, gdT, b3.size, Option.bind_some, if_neg (nI_ge hi (by omega)), Option.bind_some, b3.o, gdT, b3.get hi, Option.bind_some, o5, gdT, g0, Option.bind_some, r5, Option.bind_some, z2.o, gdT, nm_eq z2 N, Option.bind_some, nI_1]
    cases decide (rn i = v)
    · rw [if_pos (show bI false = 0 from rfl), if_neg (by nofun)]
    · rw [if_neg (show ¬ bI true = 0 by decide), if_pos rfl]
theorem c_isTaken {fr to so nu : Int32} {wd s : Nat} (B : RdB A b h0 rn m n hv pv F eH eP lo h) (hm : m ≤ 10) (hn : n ≤ 8) (q : h b = some (rdE (nI si) fr to so nu wd (b + 1) (b + 3) (b + 5) (A 0))) (N : NmH h wd s v) (hl : lo ≤ nx) (hw : wd < nx ∧ s < nx) : ∃ h', f_X4_isTaken E h nx b = some (bI (isTk rn m n v), h', 1, 4) ∧ ∀ z, z < nx → h' z = h z := by
  have B0 := B
  obtain ⟨cH, cP, hma, sh, bh, hs, sp, bp, tl, la, oa, b1, b2, b3, b4, b5, b6, b7, b8, b9⟩ := B
  obtain ⟨-, -, -, -, -, r5, r6, r7, -, -, r10⟩ := rd0 q
  obtain ⟨h1, e1, I1, k1⟩ := it_mk (E := E) (nx := nx) b4 (by omega) (by omega)
  have loop : ∀ (k i j : Nat) (h2 : AH), i + k = n → ItH h2 nx (b + 3) eP n hs i → (∀ z, z < nx → h2 z = h z) → ∃ h', f_X4_isTaken_8 (j + k + 1) E b nx h2 (nx + 1) = some (bI ((fdN (fun p => decide (rn (10 + p) = v)) i k).isSome || (hNm rn m v).isSome), h', 0, 0) ∧ ∀ z, z < nx → h' z = h z := by
    intro k
    induction k with
    | zero =>
      intro i j h2 hi It hk
      have q2 := (hk b (by omega)).trans q
      have r10' := (rd0 q2).2.2.2.2.2.2.2.2.2.2
      refine ⟨h2, ?_, hk⟩
      rw [f_X4_isTaken_8, It.o, gdT, it_has It (by omega), Option.bind_some, decide_eq_true (show i = n by omega), if_pos (show bI (!true) = 0 from rfl), r10', gdT, c_homeNamed (B0.keep (Nat.le_refl _) (fun z hz _ => hk z (by omega))) hm q2 (N.kept (hk _ hw.1) (hk _ hw.2)), Option.bind_some]
      have hb : ∀ j, hNm rn m v = some j → j < 2 ^ 31 := fun j hj => by have := (fdN_some hj).2.1; omega
      show (if eO (hNm rn m v) < 0 then _ else _) = some (bI (false || _), h2, 0, 0)
      rw [Bool.false_or]
      cases ho : hNm rn m v with
      | none => rw [if_pos (show eO none < 0 by decide)]; rfl
      | some x => rw [if_neg (show ¬ eO (some x) < 0 from nI_pos (hb x ho))]; rfl
    | succ k ih =>
      intro i j h2 hi It hk
      obtain ⟨h3, e3, It3, k3⟩ := it_next (E := E) (nx := nx + 1) It (by omega) (by omega) (by omega)
      have hk3 : ∀ z, z < nx → h3 z = h z := fun z hz => (k3 z (by omega)).trans (hk z hz)
      obtain ⟨z1, z2, z3, z4, z5, z6, z7⟩ := b8 i (by omega)
      have z1' := (hk3 (hs i) (by have := z4.2.1; omega)).trans z1
      have z2' := z2.kept (hk3 _ (by have := z5.2.1; omega)) (hk3 _ (by have := z6.2.1; omega))
      have N3 := N.kept (hk3 _ hw.1) (hk3 _ hw.2)
      have o6 : isO h3 (hs i) 6 = true := by simp [isO, z1', hsE]
      have g0 : gA h3 (hs i) 6 0 = some (sp i) := by simp [gA, rd, z1', hsE, vR]
      have r5' := (rd0 ((hk3 b (by omega)).trans q)).2.2.2.2.2.1
      have hf : fdN (fun p => decide (rn (10 + p) = v)) i (k + 1) = if decide (rn (10 + i) = v) = true then some i else fdN (fun p => decide (rn (10 + p) = v)) (i + 1) k := rfl
      rw [show j + (k + 1) + 1 = (j + k + 1) + 1 by omega, f_X4_isTaken_8, It.o, gdT, it_has It (by omega), Option.bind_some, decide_eq_false (show ¬ i = n by omega), if_neg (show ¬ bI (!false) = 0 by decide), e3, Option.bind_some]
      dsimp only
      rw [aC00, o6, gdT, g0, Option.bind_some, r5', Option.bind_some, z2'.o, gdT, nm_eq z2' N3, Option.bind_some, Nat.add_zero, hf]
      cases decide (rn (10 + i) = v)
      · rw [if_pos (show bI false = 0 from rfl), if_neg (by nofun)]
        exact ih (i + 1) j h3 (by omega) It3 hk3
      · rw [if_neg (show ¬ bI true = 0 by decide), if_pos rfl]
        exact ⟨h3, rfl, hk3⟩
  obtain ⟨h', e2, k2⟩ := loop n 0 (FU - n - 1) h1 (by omega) I1 k1
  rw [show FU - n - 1 + n + 1 = FU by unfold FU; omega] at e2
  refine ⟨h', ?_, k2⟩
  unfold f_X4_isTaken
  rw [r7, Option.bind_some, b4.o, gdT, e1, Option.bind_some]
  dsimp only
  rw [e2]; rfl
theorem c_isLivedIn {fr to so nu : Int32} {wd x : Nat} (B : RdB A b h0 rn m n hv pv F eH eP lo h) (hn : n ≤ 8) (q : h b = some (rdE (nI si) fr to so nu wd (b + 1) (b + 3) (b + 5) (A 0))) : f_X4_isLivedIn E h b (nI x) = some (bI (fdN (fun p => decide (F 1 p = nI x)) 0 n).isSome) := by
  obtain ⟨cH, cP, hma, sh, bh, hs, sp, bp, tl, la, oa, b1, b2, b3, b4, b5, b6, b7, b8, b9⟩ := B
  obtain ⟨-, -, -, -, -, -, -, r7, r8, -, -⟩ := rd0 q
  have key := lp_fd (fun k i => f_X4_isLivedIn_2 k E h b (nI x) (nI i)) (fun _ => some 1) (some 0) (fun p => decide (F 1 p = nI x)) n (fun k => ?_) (fun k i hi => ?_) FU 0 (Nat.zero_le _) (FU_lt (by omega))
  · refine Eq.trans key ?_
    rw [Nat.sub_zero]
    cases fdN (fun p => decide (F 1 p = nI x)) 0 n <;> rfl
  · simp only [f_X4_isLivedIn_2]
    rw [r7, Option.bind_some, b4.o, gdT, b4.size, Option.bind_some, if_pos (nI_leR _)]
  · simp only [f_X4_isLivedIn_2]
    rw [r7, Option.bind_some, b4.o, gdT, b4.size, Option.bind_some, if_neg (nI_ge hi (by omega)), r8, Option.bind_some, b9.g1, Option.bind_some, b9.a1 (by omega), Option.bind_some, nI_1]
    by_cases hz : F 1 i = nI x
    · rw [if_pos hz, if_pos (decide_eq_true hz)]
    · rw [if_neg hz, if_neg (by rw [decide_eq_false hz]; nofun)]
/-! what is asked for, or thrown -/
def wrE (k p : Int32) : hE := .inr (.inl (4, [.null, .null, .null, .null, .null, .int 0, .int k, .int p]))
theorem wrS {a ci j : Nat} {x : Value} {fs : List Value} (hl : j < fs.length) : wr (hu h a (.inr (.inl (ci, fs)))) a ci j x = some (hu h a (.inr (.inl (ci, fs.set j x)))) := by rw [wr_at hu_s hl, hu_hu]
theorem x_wrong {k p : Int32} : f_X5_init_2 E (hu h nx (.inr (.inl (4, df_X5)))) (nx + 1) nx k p = some ((), hu h nx (wrE k p), 0, 0) := by
  unfold f_X5_init_2 f_J15_init f_J14_init_2
  rw [wrS (by show 0 < 8; decide), Option.bind_some, wrS (by show 1 < 8; decide), Option.bind_some, wrS (by show 2 < 8; decide), Option.bind_some, if_pos rfl, wrS (by show 1 < 8; decide), Option.bind_some, wrS (by show 3 < 8; decide), Option.bind_some, wrS (by show 0 < 8; decide), Option.bind_some, if_pos rfl, wrS (by show 2 < 8; decide), Option.bind_some, Option.bind_some, aC_some, Option.bind_some]
  dsimp only
  rw [wrS (by show 6 < 8; decide), Option.bind_some, wrS (by show 7 < 8; decide), Option.bind_some, aC_some]
  rfl
theorem c_needs1 {k : Int32} : f_X4_needs E h nx b 1 k = some (.inr (), h, 0, 0) := by
  unfold f_X4_needs
  rw [if_neg (by decide)]
theorem c_needs0 {k : Int32} (B : RdB A b h0 rn m n hv pv F eH eP lo h) (T : TkC si ta t h b (A 0)) (hl : lo ≤ nx) (hk : k = nI 2 ∨ tKd si ta t ≠ 1) : YBad b h0 (f_X4_needs E h nx b 0 k) (bdF (tKd si ta t) k) (tFr si ta t) 1 8 := by
  obtain ⟨wd', nu', q⟩ := T
  have h46 := B.l46
  have fr := B.fr
  obtain ⟨-, r1, -, r3, -⟩ := rd0 q
  have fin : ∀ kk : Int32, YBad b h0 (some ((.inl nx, hu h nx (wrE kk (tFr si ta t)), 1, 8) : (Nat ⊕ Unit) × AH × Nat × Nat)) kk (tFr si ta t) 1 8 := fun kk => by
    refine ⟨nx, _, 1, 8, rfl, ?_, ?_, fun z hz => by rw [hu_n (by omega)]; exact fr z hz, Nat.le_refl _, Nat.le_refl _⟩
    · simp [gI, rd, hu_s, wrE, vI]
    · simp [gI, rd, hu_s, wrE, vI]
  have r1' : gI (hu h nx (.inr (.inl (4, df_X5)))) b 3 1 = some (tFr si ta t) := by
    have q2 : hu h nx (.inr (.inl (4, df_X5))) b = some (rdE (nI si) (tFr si ta t) (nI (tNx si ta t)) (srt (tKd si ta t)) nu' wd' (b + 1) (b + 3) (b + 5) (A 0)) := (hu_n (by omega)).trans q
    exact (rd0 q2).2.1
  have o4 : ∀ kk p : Int32, isO (hu h nx (wrE kk p)) nx 4 = true := fun kk p => by simp [isO, hu_s, wrE]
  have e32 : f_X4_needs_32 E b k h nx = some (.inl nx, hu h nx (wrE k (tFr si ta t)), 1, 8) := by
    unfold f_X4_needs_32
    rw [r1', Option.bind_some, x_wrong, Option.bind_some]
    dsimp only
    rw [o4, gdT, aC_some, aC_some]
  unfold f_X4_needs
  rw [if_pos rfl]
  by_cases h2 : k = nI 2
  · rw [if_pos h2, r3, Option.bind_some]
    by_cases h4 : srt (tKd si ta t) = nI 4
    · unfold f_X5_init
      rw [if_pos h4, r1', Option.bind_some, x_wrong, Option.bind_some]
      dsimp only
      rw [aC_some, Option.bind_some]
      dsimp only
      rw [o4, gdT, aC_some, aC_some]
      unfold bdF
      rw [if_pos (srt_4.mp h4)]
      exact fin 1
    · rw [if_neg h4, e32]
      unfold bdF
      rw [if_neg (fun z => h4 (srt_4.mpr z))]
      exact fin k
  · rw [if_neg h2, e32]
    unfold bdF
    rw [if_neg (hk.resolve_left h2)]
    exact fin k
theorem m_bad {fr kd a0 : Int32} : f_X3_bad fr kd fa pl a0 = some (0, bdF kd a0, fr) := by
  unfold f_X3_bad bdF
  by_cases h : kd = 1
  · rw [if_pos h, if_pos h]; rfl
  · rw [if_neg h, if_neg h]; rfl
end PRB
