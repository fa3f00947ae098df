/-! reading: a token, the component's side -/
def srt (k : Int32) : Int32 := if k = 0 then 0 else if k = 1 then nI 4 else if k = nI 2 then 1 else if k = nI 3 then nI 2 else nI 3
section PTG
variable {A : Nat → Nat} {I : Nat → Int32} {st : Int32} {ta tb : Nat → Int32} {h h' : AH} {E : bE} {nx si k rr wd nh np mk t : Nat} {fr to so nu z : Int32}
theorem sb_init : f_J8_init E (hu h nx (.inr (.inl (12, df_J8)))) (nx + 1) nx = some ((), hu (hu h nx (sB3 (nx + 1) 0 0)) (nx + 1) (.inl (2, 16, .inl (fun _ => 0))), 1, 16) := by
  have q0 : hu (hu h nx (.inr (.inl (12, df_J8)))) (nx + 1) (.inl (2, 16, .inl (fun _ => 0))) nx = some (.inr (.inl (12, df_J8))) := (hu_n (by omega)).trans hu_s
  have w0 : wr (hu (hu h nx (.inr (.inl (12, df_J8)))) (nx + 1) (.inl (2, 16, .inl (fun _ => 0)))) nx 12 0 (.ref (nx + 1)) = some (hu (hu h nx (sB3 (nx + 1) 0 0)) (nx + 1) (.inl (2, 16, .inl (fun _ => 0)))) := by
    rw [wr_at q0 (by decide), hu_comm (by omega), hu_hu]; rfl
  have q1 : hu (hu h nx (sB3 (nx + 1) 0 0)) (nx + 1) (.inl (2, 16, .inl (fun _ => 0))) nx = some (.inr (.inl (12, [.ref (nx + 1), .int 0, .int 0, .int (nI 0)]))) := (hu_n (by omega)).trans hu_s
  have w1 : wr (hu (hu h nx (sB3 (nx + 1) 0 0)) (nx + 1) (.inl (2, 16, .inl (fun _ => 0)))) nx 12 1 (.int 0) = some (hu (hu h nx (sB3 (nx + 1) 0 0)) (nx + 1) (.inl (2, 16, .inl (fun _ => 0)))) := by
    rw [wr_at q1 (by show 1 < 4; decide), hu_comm (by omega), hu_hu]; rfl
  unfold f_J8_init f_J7_init
  rw [if_neg (by decide), show nA (nI 16) = true by decide, gdT]
  simp only [nI_clamp (show 16 < 2 ^ 31 by decide)]
  rw [w0, Option.bind_some, show isY 0 = true by decide, gdT, w1, Option.bind_some, aC_some, Option.bind_some, aC_some]
theorem Tps.no (H : Tps ta tb) (hs : si ≤ 900) (hk : k < si) : ¬ byR si ta k = -1 := fun e => by
  rw [byR_lt hk] at e
  rcases H k (by omega) with ⟨z1, z2, z3⟩ | ⟨z1, z2⟩
  · rw [← z3, e] at z1; exact z1 (by decide)
  · rw [e] at z2; exact absurd z2 (by decide)
/-- what a token leaves in the reader -/
def Tok (ta : Nat → Int32) (si t : Nat) (h' : AH) (rr nh np mk o lo hi : Nat) : Prop := ∃ (wd' : Nat) (nu' : Int32), h' rr = some (rdE (nI si) (tkR si ta t 0 0).1 (tkR si ta t 0 0).2.1 (srt (tkR si ta t 0 0).2.2.1) nu' wd' nh np mk o) ∧ ((tkR si ta t 0 0).2.2.1 = nI 3 → nu' = (tkR si ta t 0 0).2.2.2.1) ∧ ((tkR si ta t 0 0).2.2.1 = nI 2 → ∃ (f n b : Nat), n ≤ 8 ∧ (∀ i, i < n → isL (ta (f + i)) = true) ∧ StrH h' wd' b n (fun i => ta (f + i)) ∧ (tkR si ta t 0 0).2.2.2.2 = cd8 ta f n ∧ (lo ≤ wd' ∧ wd' < hi) ∧ lo ≤ b ∧ b < hi)
theorem sk_all {B : Int32 → Bool} (hB : B (-1) = false) : ∀ (d f : Nat), si - f < d → f ≤ si → f ≤ skB si ta B f ∧ skB si ta B f ≤ si ∧ ∀ i, f ≤ i → i < skB si ta B f → B (byR si ta i) = true
  | 0, f, h, _ => by omega
  | d + 1, f, h, hf => by
    cases hb : B (byR si ta f)
    · rw [sk_stop hb hf]; exact ⟨Nat.le_refl _, hf, fun i h1 h2 => by omega⟩
    · obtain ⟨hfs, e⟩ := sk_step hB hb
      obtain ⟨a1, a2, a3⟩ := sk_all hB d (f + 1) (by omega) (by omega)
      rw [e]
      refine ⟨by omega, a2, fun i h1 h2 => ?_⟩
      by_cases hi : i = f
      · subst hi; exact hb
      · exact a3 i (by omega) h2
theorem y_goesOn (H : Tps ta tb) (hs : si ≤ 900) (h0 : rr ≠ A 0) (h1 : rr ≠ A 12) (hr : rr < nx) (hA : A 0 < nx) (hA2 : A 12 < nx) (ht : t ≤ si) (T : RDH A I st tb h) (q : h rr = some (rdE (nI si) fr (nI t) so nu wd nh np mk (A 0))) : ∃ h' c d, f_X4_goesOn E h nx rr = some ((), h', c, d) ∧ Tok ta si t h' rr nh np mk (A 0) nx (nx + c) ∧ (∀ z, z < nx → z ≠ rr → h' z = h z) ∧ c ≤ 4 ∧ d ≤ 40 := by
  have main : ∀ (f m : Nat) (h : AH) (fr' : Int32), f ≤ si → isBl (byR si ta f) = false → skB si ta isBl t = f → RDH A I st tb h → h rr = some (rdE (nI si) (nI f) fr' so nu wd nh np mk (A 0)) → ∃ h' c d, f_X4_goesOn_8 (m + 1) E rr h nx = some ((), h', c, d) ∧ Tok ta si t h' rr nh np mk (A 0) nx (nx + c) ∧ (∀ z, z < nx → z ≠ rr → h' z = h z) ∧ c ≤ 4 ∧ d ≤ 40 := by
    intro f m h fr' hf hb hsk T q
    obtain ⟨r0, r1, r2, r3, r4, r5, r6, r7, r8, r9, r10⟩ := rd0 q
    obtain ⟨c32, c10, -, -⟩ := c_blank (E := E) (k := f) q T H hs (by omega)
    have n32 : ¬ byR si ta f = nI 32 := fun e => by unfold isBl at hb; rw [decide_eq_true e, Bool.true_or] at hb; cases hb
    have n10 : ¬ byR si ta f = nI 10 := fun e => by unfold isBl at hb; rw [decide_eq_true e, Bool.or_true] at hb; cases hb
    have w2 := (rw1 (z := nI f) q).2.1
    have q2 : hu h rr (rdE (nI si) (nI f) (nI f) so nu wd nh np mk (A 0)) rr = some (rdE (nI si) (nI f) (nI f) so nu wd nh np mk (A 0)) := hu_s
    have w5 := (rw1 (z := 0) q2).2.2.2.2 (E.1 (20 + 16))
    rw [hu_hu] at w5
    generalize hh : hu h rr (rdE (nI si) (nI f) (nI f) so nu (E.1 (20 + 16)) nh np mk (A 0)) = h3 at w5
    have q3 : h3 rr = some (rdE (nI si) (nI f) (nI f) so nu (E.1 (20 + 16)) nh np mk (A 0)) := hh ▸ hu_s
    have T3 : RDH A I st tb h3 := hh ▸ T.hu h0 h1
    have k3 : ∀ z, z ≠ rr → h3 z = h z := fun z hz => hh ▸ hu_n hz
    obtain ⟨s0, s1, s2, s3, s4, s5, s6, s7, s8, s9, s10⟩ := rd0 q3
    obtain ⟨-, -, cL, cD⟩ := c_blank (E := E) (k := f) q3 T3 H hs (by omega)
    rw [f_X4_goesOn_8, r1, Option.bind_some, r10, gdT, c32, Option.bind_some, decide_eq_false n32, if_pos (show bI false = 0 from rfl), Option.bind_some, gdT, c10, Option.bind_some, decide_eq_false n10, if_pos (show bI false = 0 from rfl), Option.bind_some, w2, Option.bind_some, w5, Option.bind_some, s1, Option.bind_some, s0, Option.bind_some]
    by_cases hfs : f < si
    · have hne := H.no hs hfs
      rw [if_pos (nI_lt hfs (by omega)), Option.bind_some, s10, gdT, cL, Option.bind_some]
      cases hl : isL (byR si ta f)
      case true =>
        have et : tkR si ta t 0 0 = (nI f, nI (skB si ta isL f), (if skB si ta isL f - f ≤ 8 then nI 2 else 1), 0, cd8 ta f (min 8 (skB si ta isL f - f))) := by
          unfold tkR
          rw [hsk, if_neg hne, if_pos hl]
        rw [if_neg (show ¬ bI true = 0 by decide), sb_init, Option.bind_some]
        dsimp only
        generalize hg : hu (hu h3 nx (sB3 (nx + 1) 0 0)) (nx + 1) (.inl (2, 16, .inl (fun _ => 0))) = h4
        have k4 : ∀ z, z < nx → h4 z = h3 z := fun z hz => by rw [← hg, hu_n (by omega), hu_n (by omega)]
        obtain ⟨h5, e5, a1, a2, a3⟩ := y_107 (E := E) (nx := nx + 1 + 1) (f := f) (sb := nx) (v := nx + 1) (mb := 0) (so := so) (nu := nu) (wd := E.1 (20 + 16)) (nh := nh) (np := np) (mk := mk) H hs h0 h1 ⟨by omega, by omega, by omega, by omega⟩ ⟨by omega, by omega, by omega, by omega, by omega⟩ (by omega) 1000 f 9000 h4 (fun _ => 0) (by omega) (Nat.le_refl _) hf ⟨by rw [k4 _ hA]; exact T3.1, by rw [k4 _ hA2]; exact T3.2⟩ (by rw [k4 _ hr]; exact q3) (by rw [← hg, hu_n (by omega), hu_s, Nat.sub_self]; rfl) (by rw [← hg]; exact hu_s) (fun i hi => by omega)
        obtain ⟨b1, b2, b3⟩ := sk_all (ta := ta) isL_no 1000 f (by omega) hf
        have e5' : f_X4_goesOn_107 FU E rr nx h4 (nx + 1 + 1) = _ := e5
        rw [e5', aC_some, aC_some]
        refine ⟨h5, _, _, rfl, ⟨nx + 1 + 1, nu, ?_, fun hk => ?_, fun _ => ⟨f, min 8 (skB si ta isL f - f), nx + 1 + 1 + 1, by omega, fun i hi => ?_, a2, by rw [et], ⟨by omega, by omega⟩, by omega, by omega⟩⟩, fun z hz hz2 => by rw [a3 z (by omega) hz2 (by omega) (by omega), k4 z hz, k3 z hz2], by omega, by omega⟩
        · rw [a1, et]
          by_cases h8 : skB si ta isL f - f ≤ 8
          · simp only [if_pos h8]; rfl
          · simp only [if_neg h8]; rfl
        · exfalso
          rw [et] at hk
          by_cases h8 : skB si ta isL f - f ≤ 8
          · simp only [if_pos h8] at hk; exact absurd hk (by decide)
          · simp only [if_neg h8] at hk; exact absurd hk (by decide)
        · have := b3 (f + i) (by omega) (by omega)
          rw [byR_lt (by omega)] at this
          exact this
      case false =>
        rw [if_pos (show bI false = 0 from rfl), Option.bind_some, gdT, cD, Option.bind_some]
        cases hd : isD (byR si ta f)
        case true =>
          have et : tkR si ta t 0 0 = (nI f, nI (skB si ta isD f), (if skB si ta isD f - f ≤ 3 then nI 3 else 1), nm3 ta f (min 3 (skB si ta isD f - f)), 0) := by
            unfold tkR
            rw [hsk, if_neg hne, if_neg (by rw [hl]; nofun), if_pos hd]
          rw [if_neg (show ¬ bI true = 0 by decide), (rw1 (z := 0) q3).2.2.2.1, Option.bind_some]
          obtain ⟨h5, e5, a1, a3⟩ := y_221 (E := E) (nx := nx) (f := f) (so := so) (wd := E.1 (20 + 16)) (nh := nh) (np := np) (mk := mk) H hs h0 h1 1000 f 9000 (hu h3 rr (rdE (nI si) (nI f) (nI f) so 0 (E.1 (20 + 16)) nh np mk (A 0))) (by omega) (Nat.le_refl _) hf (T3.hu h0 h1) (by rw [hu_s, Nat.sub_self]; rfl)
          have e5' : f_X4_goesOn_221 FU E rr (hu h3 rr (rdE (nI si) (nI f) (nI f) so 0 (E.1 (20 + 16)) nh np mk (A 0))) nx = _ := e5
          rw [e5']
          refine ⟨h5, 0, 0, rfl, ⟨E.1 (20 + 16), nm3 ta f (min 3 (skB si ta isD f - f)), ?_, fun _ => by rw [et], fun hk => ?_⟩, fun z hz hz2 => by rw [a3 z hz2, hu_n hz2, k3 z hz2], by omega, by omega⟩
          · rw [a1, et]
            by_cases h8 : skB si ta isD f - f ≤ 3
            · simp only [if_pos h8]; rfl
            · simp only [if_neg h8]; rfl
          · exfalso
            rw [et] at hk
            by_cases h8 : skB si ta isD f - f ≤ 3
            · simp only [if_pos h8] at hk; exact absurd hk (by decide)
            · simp only [if_neg h8] at hk; exact absurd hk (by decide)
        case false =>
          have et : tkR si ta t 0 0 = (nI f, nI (f + 1), (if byR si ta f = nI 59 then nI 4 else 1), 0, 0) := by
            unfold tkR
            rw [hsk, if_neg hne, if_neg (by rw [hl]; nofun), if_neg (by rw [hd]; nofun)]
          have w2' := (rw1 (z := nI (f + 1)) q3).2.1
          generalize hg : hu h3 rr (rdE (nI si) (nI f) (nI (f + 1)) so nu (E.1 (20 + 16)) nh np mk (A 0)) = h4 at w2'
          have q4 : h4 rr = some (rdE (nI si) (nI f) (nI (f + 1)) so nu (E.1 (20 + 16)) nh np mk (A 0)) := hg ▸ hu_s
          have T4 : RDH A I st tb h4 := hg ▸ T3.hu h0 h1
          have g10 : gA h4 (A 0) 0 10 = some (A 12) := by simp [gA, rd, T4.1, oE, oFs, vR]
          obtain ⟨-, t1, -, -, -, -, -, -, -, t9, -⟩ := rd0 q4
          have eb : (tb f = nI 59) ↔ (byR si ta f = nI 59) := by
            rw [byR_lt hfs]
            rcases H f (by omega) with ⟨z1, z2, z3⟩ | ⟨z1, z2⟩
            · rw [z3]
            · constructor
              · intro e; rw [e] at z1; exact absurd z1 (by decide)
              · intro e; rw [e] at z2; exact absurd z2 (by decide)
          have fin : ∀ z : Int32, ∃ h5, f_X4_goesOn_354 E rr z h4 nx = some ((), h5, 0, 0) ∧ h5 rr = some (rdE (nI si) (nI f) (nI (f + 1)) z nu (E.1 (20 + 16)) nh np mk (A 0)) ∧ ∀ y, y ≠ rr → h5 y = h y := fun z => by
            unfold f_X4_goesOn_354
            rw [(rw1 (z := z) q4).2.2.1, Option.bind_some]
            exact ⟨_, rfl, hu_s, fun y hy => by rw [hu_n hy, ← hg, hu_n hy, k3 y hy]⟩
          rw [if_pos (show bI false = 0 from rfl), s2, Option.bind_some, nI_1, w2', Option.bind_some, t9, Option.bind_some, g10, Option.bind_some, t1, Option.bind_some, aI_at T4.2 (by omega) (by decide), Option.bind_some]
          by_cases h59 : tb f = nI 59
          · obtain ⟨h5, e5, a1, a3⟩ := fin (nI 3)
            rw [if_pos h59, e5]
            refine ⟨h5, 0, 0, rfl, ⟨E.1 (20 + 16), nu, ?_, fun hk => ?_, fun hk => ?_⟩, fun z hz hz2 => a3 z hz2, by omega, by omega⟩
            · rw [a1, et]; simp only [if_pos (eb.mp h59)]; rfl
            · rw [et] at hk; simp only [if_pos (eb.mp h59)] at hk; exact absurd hk (by decide)
            · rw [et] at hk; simp only [if_pos (eb.mp h59)] at hk; exact absurd hk (by decide)
          · obtain ⟨h5, e5, a1, a3⟩ := fin (nI 4)
            rw [if_neg h59, e5]
            refine ⟨h5, 0, 0, rfl, ⟨E.1 (20 + 16), nu, ?_, fun hk => ?_, fun hk => ?_⟩, fun z hz hz2 => a3 z hz2, by omega, by omega⟩
            · rw [a1, et]; simp only [if_neg (fun z => h59 (eb.mpr z))]; rfl
            · rw [et] at hk; simp only [if_neg (fun z => h59 (eb.mpr z))] at hk; exact absurd hk (by decide)
            · rw [et] at hk; simp only [if_neg (fun z => h59 (eb.mpr z))] at hk; exact absurd hk (by decide)
    · have hb1 : byR si ta f = -1 := if_neg hfs
      have et : tkR si ta t 0 0 = (nI f, nI f, 0, 0, 0) := by
        unfold tkR
        rw [hsk, if_pos hb1]
      rw [if_neg (nI_nlt (by omega) (by omega)), (rw1 (z := 0) q3).2.2.1, Option.bind_some]
      refine ⟨_, 0, 0, rfl, ⟨E.1 (20 + 16), nu, by rw [hu_s, et]; rfl, fun hk => ?_, fun hk => ?_⟩, fun z hz hz2 => by rw [hu_n hz2, k3 z hz2], by omega, by omega⟩
      · rw [et] at hk; exact absurd (show (0 : Int32) = nI 3 from hk) (by decide)
      · rw [et] at hk; exact absurd (show (0 : Int32) = nI 2 from hk) (by decide)
  have skip : ∀ (d f m : Nat) (h : AH) (to' : Int32), si - f < d → f ≤ si → skB si ta isBl t = skB si ta isBl f → RDH A I st tb h → h rr = some (rdE (nI si) (nI f) to' so nu wd nh np mk (A 0)) → ∃ h' c d', f_X4_goesOn_8 (m + d) E rr h nx = some ((), h', c, d') ∧ Tok ta si t h' rr nh np mk (A 0) nx (nx + c) ∧ (∀ z, z < nx → z ≠ rr → h' z = h z) ∧ c ≤ 4 ∧ d' ≤ 40 := by
    intro d
    induction d with
    | zero => intro f m h to' hd _ _ _ _; omega
    | succ d ih =>
      intro f m h to' hd hf hsk T q
      cases hb : isBl (byR si ta f)
      case false => exact main f (m + d) h to' hf hb (by rw [hsk, sk_stop hb hf]) T q
      case true =>
        obtain ⟨hfs, e⟩ := sk_step isBl_no hb
        obtain ⟨r0, r1, r2, r3, r4, r5, r6, r7, r8, r9, r10⟩ := rd0 q
        obtain ⟨c32, c10, -, -⟩ := c_blank (E := E) (k := f) q T H hs (by omega)
        have next : ∃ h' c d', f_X4_goesOn_38 (f_X4_goesOn_8 (m + d) E) E rr h nx = some ((), h', c, d') ∧ Tok ta si t h' rr nh np mk (A 0) nx (nx + c) ∧ (∀ z, z < nx → z ≠ rr → h' z = h z) ∧ c ≤ 4 ∧ d' ≤ 40 := by
          unfold f_X4_goesOn_38
          rw [r1, Option.bind_some, nI_1, (rw1 (z := nI (f + 1)) q).1, Option.bind_some]
          obtain ⟨h', c, d', e1, e2, e3, e4⟩ := ih (f + 1) m (hu h rr (rdE (nI si) (nI (f + 1)) to' so nu wd nh np mk (A 0))) to' (by omega) (by omega) (by rw [hsk, e]) (T.hu h0 h1) hu_s
          exact ⟨h', c, d', e1, e2, fun z hz hz2 => (e3 z hz hz2).trans (hu_n hz2), e4⟩
        rw [show m + (d + 1) = m + d + 1 from rfl, f_X4_goesOn_8, r1, Option.bind_some, r10, gdT, c32, Option.bind_some]
        by_cases h32 : byR si ta f = nI 32
        · rw [decide_eq_true h32, if_neg (show ¬ bI true = 0 by decide)]; exact next
        · rw [decide_eq_false h32, if_pos (show bI false = 0 from rfl), Option.bind_some, gdT, c10, Option.bind_some]
          have h10 : byR si ta f = nI 10 := by
            unfold isBl at hb
            rw [decide_eq_false h32, Bool.false_or] at hb
            exact of_decide_eq_true hb
          rw [decide_eq_true h10, if_neg (show ¬ bI true = 0 by decide)]; exact next
  unfold f_X4_goesOn
  rw [(rd0 q).2.2.1, Option.bind_some, (rw1 (z := nI t) q).1, Option.bind_some]
  obtain ⟨h', c, d', e1, e2, e3, e4⟩ := skip 1000 t 9000 _ (nI t) (by omega) ht rfl (T.hu h0 h1) hu_s
  exact ⟨h', c, d', e1, e2, fun z hz hz2 => (e3 z hz hz2).trans (hu_n hz2), e4⟩
end PTG
