/-! reading: the component's tokens -/
def rdE (si fr to so nu : Int32) (wd nh np mk o : Nat) : hE := .inr (.inl (3, [.int si, .int fr, .int to, .int so, .int nu, .ref wd, .ref nh, .ref np, .ref mk, .ref o]))
/-- the object with its tape -/
def RDH (A : Nat → Nat) (I : Nat → Int32) (st : Int32) (tb : Nat → Int32) (h : AH) : Prop := h (A 0) = some (oE A I st) ∧ h (A 12) = some (tE tb)
section PTC2
variable {A : Nat → Nat} {I : Nat → Int32} {st : Int32} {ta tb : Nat → Int32} {h h' : AH} {E : bE} {nx si k rr wd nh np mk : Nat} {fr to so nu lo hi z : Int32}
theorem rd0 (q : h rr = some (rdE (nI si) fr to so nu wd nh np mk (A 0))) : gI h rr 3 0 = some (nI si) ∧ gI h rr 3 1 = some fr ∧ gI h rr 3 2 = some to ∧ gI h rr 3 3 = some so ∧ gI h rr 3 4 = some nu ∧ gA h rr 3 5 = some wd ∧ gA h rr 3 6 = some nh ∧ gA h rr 3 7 = some np ∧ gA h rr 3 8 = some mk ∧ gA h rr 3 9 = some (A 0) ∧ isO h rr 3 = true := by
  refine ⟨?_, ?_, ?_, ?_, ?_, ?_, ?_, ?_, ?_, ?_, ?_⟩ <;> simp [gI, gA, isO, rd, q, rdE, vI, vR]
theorem rw1 (q : h rr = some (rdE (nI si) fr to so nu wd nh np mk (A 0))) : wr h rr 3 1 (.int z) = some (hu h rr (rdE (nI si) z to so nu wd nh np mk (A 0))) ∧ wr h rr 3 2 (.int z) = some (hu h rr (rdE (nI si) fr z so nu wd nh np mk (A 0))) ∧ wr h rr 3 3 (.int z) = some (hu h rr (rdE (nI si) fr to z nu wd nh np mk (A 0))) ∧ wr h rr 3 4 (.int z) = some (hu h rr (rdE (nI si) fr to so z wd nh np mk (A 0))) ∧ ∀ y, wr h rr 3 5 (.ref y) = some (hu h rr (rdE (nI si) fr to so nu y nh np mk (A 0))) := by
  have q : h rr = some (.inr (.inl (3, [.int (nI si), .int fr, .int to, .int so, .int nu, .ref wd, .ref nh, .ref np, .ref mk, .ref (A 0)]))) := q
  refine ⟨?_, ?_, ?_, ?_, fun y => ?_⟩
  · rw [wr_at q (by show 1 < 10; decide)]; rfl
  · rw [wr_at q (by show 2 < 10; decide)]; rfl
  · rw [wr_at q (by show 3 < 10; decide)]; rfl
  · rw [wr_at q (by show 4 < 10; decide)]; rfl
  · rw [wr_at q (by show 5 < 10; decide)]; rfl
theorem c_isAt (q : h rr = some (rdE (nI si) fr to so nu wd nh np mk (A 0))) (T : RDH A I st tb h) (hs : si ≤ 900) (hk : k < 2 ^ 31) : f_X4_isAt E h rr (nI k) lo hi = some (bI (decide (k < si) && (!decide (tb k < lo) && !decide (hi < tb k)))) := by
  obtain ⟨r0, -, -, -, -, -, -, -, -, r9, -⟩ := rd0 q
  have g10 : gA h (A 0) 0 10 = some (A 12) := by simp [gA, rd, T.1, oE, oFs, vR]
  unfold f_X4_isAt
  rw [r0, Option.bind_some]
  by_cases h1 : k < si
  · rw [if_neg (nI_ge h1 (by omega)), r9, Option.bind_some, g10, Option.bind_some, aI_at T.2 (by omega) (by decide), Option.bind_some, lg_c (tb k) lo hi rfl rfl, Option.bind_some, decide_eq_true h1, Bool.true_and]
    cases (!decide (tb k < lo) && !decide (hi < tb k)) <;> rfl
  · rw [if_pos (nI_le (by omega) hk), decide_eq_false h1]; rfl
theorem c_in (q : h rr = some (rdE (nI si) fr to so nu wd nh np mk (A 0))) (T : RDH A I st tb h) (H : Tps ta tb) (hs : si ≤ 900) (hk : k < 2 ^ 31) (h0 : ¬ lo < 0) (h1 : hi ≤ nI 127) : f_X4_isAt E h rr (nI k) lo hi = some (bI (!decide (byR si ta k < lo) && !decide (hi < byR si ta k))) := by
  rw [c_isAt q T hs hk]
  unfold byR
  by_cases h2 : k < si
  · rw [decide_eq_true h2, Bool.true_and, if_pos h2, (H k (by omega)).rng h0 h1]
  · have a1 : (-1 : Int32) < lo := by
      rw [Int32.lt_iff_toInt_lt] at h0 ⊢
      rw [show (-1 : Int32).toInt = -1 by decide]
      rw [show (0 : Int32).toInt = 0 by decide] at h0
      omega
    rw [decide_eq_false h2, Bool.false_and, if_neg h2, decide_eq_true a1, Bool.not_true, Bool.false_and]
theorem rg_eq {x c : Int32} : (!decide (x < c) && !decide (c < x)) = decide (x = c) := by
  by_cases h : x = c
  · subst h
    rw [decide_eq_true rfl, decide_eq_false (show ¬ x < x from Int32.lt_irrefl)]; rfl
  · rw [decide_eq_false h]
    by_cases h1 : x < c
    · rw [decide_eq_true h1]; rfl
    · have h2 : c < x := by
        rw [Int32.lt_iff_toInt_lt] at h1 ⊢
        rw [← Int32.toInt_inj] at h
        omega
      rw [decide_eq_true h2]; simp
theorem c_blank (q : h rr = some (rdE (nI si) fr to so nu wd nh np mk (A 0))) (T : RDH A I st tb h) (H : Tps ta tb) (hs : si ≤ 900) (hk : k < 2 ^ 31) : f_X4_isAt E h rr (nI k) (nI 32) (nI 32) = some (bI (decide (byR si ta k = nI 32))) ∧ f_X4_isAt E h rr (nI k) (nI 10) (nI 10) = some (bI (decide (byR si ta k = nI 10))) ∧ f_X4_isAt E h rr (nI k) (nI 97) (nI 122) = some (bI (isL (byR si ta k))) ∧ f_X4_isAt E h rr (nI k) (nI 48) (nI 57) = some (bI (isD (byR si ta k))) := by
  refine ⟨?_, ?_, ?_, ?_⟩
  · rw [c_in q T H hs hk (by decide) (by decide), rg_eq]
  · rw [c_in q T H hs hk (by decide) (by decide), rg_eq]
  · rw [c_in q T H hs hk (by decide) (by decide)]; rfl
  · rw [c_in q T H hs hk (by decide) (by decide)]; rfl
theorem Byt.eq {x y : Int32} (H : Byt x y) (h : x < nI 128) : x = y := by
  rcases H with ⟨-, -, z⟩ | ⟨-, z⟩
  · exact z
  · exact absurd h (Int32.not_lt.mpr z)
theorem isD_lt {c : Int32} (h : isD c = true) : c < nI 128 := by
  unfold isD at h
  rw [Bool.and_eq_true, Bool.not_eq_true', Bool.not_eq_true', decide_eq_false_iff_not, decide_eq_false_iff_not, Int32.lt_iff_toInt_lt, Int32.lt_iff_toInt_lt] at h
  rw [Int32.lt_iff_toInt_lt]
  rw [show (nI 57).toInt = 57 by decide] at h
  rw [show (nI 128).toInt = 128 by decide]
  omega
theorem RDH.hu (T : RDH A I st tb h) {e : hE} (h0 : rr ≠ A 0) (h1 : rr ≠ A 12) : RDH A I st tb (hu h rr e) := ⟨(hu_n (Ne.symm h0)).trans T.1, (hu_n (Ne.symm h1)).trans T.2⟩
theorem y_221 {f : Nat} (H : Tps ta tb) (hs : si ≤ 900) (h0 : rr ≠ A 0) (h1 : rr ≠ A 12) : ∀ (d t m : Nat) (h : AH), si - t < d → f ≤ t → t ≤ si → RDH A I st tb h → h rr = some (rdE (nI si) (nI f) (nI t) so (nm3 ta f (min 3 (t - f))) wd nh np mk (A 0)) → ∃ h', f_X4_goesOn_221 (m + d) E rr h nx = some ((), h', 0, 0) ∧ h' rr = some (rdE (nI si) (nI f) (nI (skB si ta isD t)) (if skB si ta isD t - f ≤ 3 then nI 2 else nI 4) (nm3 ta f (min 3 (skB si ta isD t - f))) wd nh np mk (A 0)) ∧ ∀ q, q ≠ rr → h' q = h q
  | 0, t, m, h, hd, _, _, _, _ => by omega
  | d + 1, t, m, h, hd, hf, ht, T, q => by
    obtain ⟨r0, r1, r2, r3, r4, r5, r6, r7, r8, r9, r10⟩ := rd0 q
    obtain ⟨-, -, -, w4, -⟩ := rw1 (z := nI 0) q
    obtain ⟨-, -, -, cD⟩ := c_blank (E := E) (k := t) q T H hs (by omega)
    rw [show m + (d + 1) = m + d + 1 from rfl, f_X4_goesOn_221, r2, Option.bind_some, r10, gdT, cD, Option.bind_some]
    cases hl : isD (byR si ta t)
    · rw [if_pos (show bI false = 0 from rfl), Option.bind_some, r1, Option.bind_some, nI_sb hf, sk_stop hl ht]
      have fin : ∀ z : Int32, ∃ h', f_X4_goesOn_315 E rr z h nx = some ((), h', 0, 0) ∧ h' rr = some (rdE (nI si) (nI f) (nI t) z (nm3 ta f (min 3 (t - f))) wd nh np mk (A 0)) ∧ ∀ q, q ≠ rr → h' q = h q := fun z => by
        unfold f_X4_goesOn_315
        rw [(rw1 (z := z) q).2.2.1, Option.bind_some]
        exact ⟨_, rfl, hu_s, fun q hq => hu_n hq⟩
      by_cases h8 : t - f ≤ 3
      · rw [if_pos (nI_le h8 (by decide)), if_pos h8]; exact fin _
      · rw [if_neg (nI_ge (by omega) (by omega)), if_neg h8]; exact fin _
    · obtain ⟨hts, e⟩ := sk_step isD_no hl
      rw [if_neg (show ¬ bI true = 0 by decide), Option.bind_some, r1, Option.bind_some, nI_sb hf, e]
      have go : ∀ z : Int32, z = nm3 ta f (min 3 (t + 1 - f)) → ∃ h', f_X4_goesOn_280 (f_X4_goesOn_221 (m + d) E) E rr rr z h nx = some ((), h', 0, 0) ∧ h' rr = some (rdE (nI si) (nI f) (nI (skB si ta isD (t + 1))) (if skB si ta isD (t + 1) - f ≤ 3 then nI 2 else nI 4) (nm3 ta f (min 3 (skB si ta isD (t + 1) - f))) wd nh np mk (A 0)) ∧ ∀ q, q ≠ rr → h' q = h q := fun z hz => by
        have q1 : hu h rr (rdE (nI si) (nI f) (nI t) so z wd nh np mk (A 0)) rr = some (rdE (nI si) (nI f) (nI t) so z wd nh np mk (A 0)) := hu_s
        have g2 := (rd0 q1).2.2.1
        have e2 := (rw1 (z := nI (t + 1)) q1).2.1
        rw [hu_hu] at e2
        unfold f_X4_goesOn_280
        rw [(rw1 (z := z) q).2.2.2.1, Option.bind_some, g2, Option.bind_some, nI_1, e2, Option.bind_some]
        obtain ⟨h', e3, q3, k3⟩ := y_221 (f := f) H hs h0 h1 d (t + 1) m (hu h rr (rdE (nI si) (nI f) (nI (t + 1)) so z wd nh np mk (A 0))) (by omega) (by omega) (by omega) (T.hu h0 h1) (by rw [hu_s, hz])
        exact ⟨h', e3, q3, fun q hq => (k3 q hq).trans (hu_n hq)⟩
      by_cases h8 : 3 ≤ t - f
      · rw [if_pos (nI_le h8 (by omega)), r4, Option.bind_some]
        exact go _ (by rw [show min 3 (t + 1 - f) = min 3 (t - f) by omega])
      · have g10 : gA h (A 0) 0 10 = some (A 12) := by simp [gA, rd, T.1, oE, oFs, vR]
        have etb : ta t = tb t := (H t (by omega)).eq (by rw [← byR_lt (ta := ta) hts]; exact isD_lt hl)
        rw [if_neg (nI_ge (by omega) (by decide)), r4, Option.bind_some, r9, Option.bind_some, g10, Option.bind_some, Option.bind_some, aI_at T.2 (by omega) (by decide), Option.bind_some]
        refine go _ ?_
        rw [show min 3 (t + 1 - f) = min 3 (t - f) + 1 by omega, ← etb]
        show _ = (nI 10 * nm3 ta f (min 3 (t - f)) + ta (f + min 3 (t - f))) - nI 48
        rw [show f + min 3 (t - f) = t by omega]
theorem let_c : ∀ k, k < 123 → 97 ≤ k → ((nI k).toUInt32 % 65536).toInt32 = nI k ∧ (nI k).toInt8.toInt32 = nI k := by decide
theorem y_107 {f sb v : Nat} {mb : Int32} (H : Tps ta tb) (hs : si ≤ 900) (h0 : rr ≠ A 0) (h1 : rr ≠ A 12) (s0 : sb ≠ A 0 ∧ sb ≠ A 12 ∧ sb ≠ rr ∧ sb < nx) (v0 : v ≠ A 0 ∧ v ≠ A 12 ∧ v ≠ rr ∧ v ≠ sb ∧ v < nx) (hr : rr < nx) : ∀ (d t m : Nat) (h : AH) (F : Nat → Int32), si - t < d → f ≤ t → t ≤ si → RDH A I st tb h → h rr = some (rdE (nI si) (nI f) (nI t) so nu wd nh np mk (A 0)) → h sb = some (sB3 v (min 8 (t - f)) mb) → h v = some (.inl (2, 16, .inl F)) → (∀ i, i < min 8 (t - f) → F i = ta (f + i)) → ∃ h', f_X4_goesOn_107 (m + d) E rr sb h nx = some ((), h', 2, 4 + min 8 (skB si ta isL t - f)) ∧ h' rr = some (rdE (nI si) (nI f) (nI (skB si ta isL t)) (if skB si ta isL t - f ≤ 8 then 1 else nI 4) nu nx nh np mk (A 0)) ∧ StrH h' nx (nx + 1) (min 8 (skB si ta isL t - f)) (fun i => ta (f + i)) ∧ ∀ q, q < nx → q ≠ rr → q ≠ sb → q ≠ v → h' q = h q
  | 0, t, m, h, F, hd, _, _, _, _, _, _, _ => by omega
  | d + 1, t, m, h, F, hd, hf, ht, T, q, qs, qv, hF => by
    obtain ⟨r0, r1, r2, r3, r4, r5, r6, r7, r8, r9, r10⟩ := rd0 q
    obtain ⟨-, -, cL, -⟩ := c_blank (E := E) (k := t) q T H hs (by omega)
    rw [show m + (d + 1) = m + d + 1 from rfl, f_X4_goesOn_107, r2, Option.bind_some, r10, gdT, cL, Option.bind_some]
    cases hl : isL (byR si ta t)
    · obtain ⟨h2, e2, ⟨x, y, g, s1, s2, s3⟩, k2⟩ := sb_str (E := E) (nx := nx) qs qv (by omega) (by decide) s0.2.2.2 v0.2.2.2.2
      have q2 : h2 rr = some (rdE (nI si) (nI f) (nI t) so nu wd nh np mk (A 0)) := (k2 _ hr).trans q
      have w5 := (rw1 (z := 0) q2).2.2.2.2 nx
      have q3 : hu h2 rr (rdE (nI si) (nI f) (nI t) so nu nx nh np mk (A 0)) rr = some (rdE (nI si) (nI f) (nI t) so nu nx nh np mk (A 0)) := hu_s
      have g1 := (rd0 q3).2.1
      have g2 := (rd0 q3).2.2.1
      rw [if_pos (show bI false = 0 from rfl), sbo qs, gdT, e2, Option.bind_some]
      dsimp only
      rw [w5, Option.bind_some, g2, Option.bind_some, g1, Option.bind_some, nI_sb hf, sk_stop hl ht]
      have fin : ∀ z : Int32, ∃ h', aC 2 (4 + min 8 (t - f)) (f_X4_goesOn_195 E rr z (hu h2 rr (rdE (nI si) (nI f) (nI t) so nu nx nh np mk (A 0))) (nx + 2)) = some ((), h', 2, 4 + min 8 (t - f)) ∧ h' rr = some (rdE (nI si) (nI f) (nI t) z nu nx nh np mk (A 0)) ∧ StrH h' nx (nx + 1) (min 8 (t - f)) (fun i => ta (f + i)) ∧ ∀ q, q < nx → q ≠ rr → q ≠ sb → q ≠ v → h' q = h q := fun z => by
        unfold f_X4_goesOn_195
        have w3 := (rw1 (z := z) q3).2.2.1
        rw [hu_hu] at w3
        rw [w3, Option.bind_some, aC_some]
        exact ⟨_, rfl, hu_s, ⟨x, y, g, (hu_n (by omega)).trans s1, (hu_n (by omega)).trans s2, fun i hi => (s3 i hi).trans (hF i hi)⟩, fun q hq z1 _ _ => by rw [hu_n z1]; exact k2 q hq⟩
      by_cases h8 : t - f ≤ 8
      · rw [if_pos (nI_le h8 (by decide)), if_pos h8]; exact fin _
      · rw [if_neg (nI_ge (by omega) (by omega)), if_neg h8]; exact fin _
    · obtain ⟨hts, e⟩ := sk_step isL_no hl
      rw [if_neg (show ¬ bI true = 0 by decide), Option.bind_some, r1, Option.bind_some, nI_sb hf, e]
      have up : ∀ h3 : AH, h3 rr = some (rdE (nI si) (nI f) (nI t) so nu wd nh np mk (A 0)) → f_X4_goesOn_154 (f_X4_goesOn_107 (m + d) E) E rr sb h3 nx = f_X4_goesOn_107 (m + d) E rr sb (hu h3 rr (rdE (nI si) (nI f) (nI (t + 1)) so nu wd nh np mk (A 0))) nx := fun h3 q3 => by
        unfold f_X4_goesOn_154
        rw [(rd0 q3).2.2.1, Option.bind_some, nI_1, (rw1 (z := nI (t + 1)) q3).2.1, Option.bind_some]
      by_cases h8 : 8 ≤ t - f
      · rw [if_pos (nI_le h8 (by omega)), up h q]
        obtain ⟨h', e3, a1, a2, a3⟩ := y_107 (f := f) (sb := sb) (v := v) (mb := mb) H hs h0 h1 s0 v0 hr d (t + 1) m (hu h rr (rdE (nI si) (nI f) (nI (t + 1)) so nu wd nh np mk (A 0))) F (by omega) (by omega) (by omega) (T.hu h0 h1) hu_s (by rw [hu_n s0.2.2.1, show min 8 (t + 1 - f) = min 8 (t - f) by omega]; exact qs) (by rw [hu_n v0.2.2.1]; exact qv) (fun i hi => hF i (by omega))
        exact ⟨h', e3, a1, a2, fun q hq z1 z2 z3 => (a3 q hq z1 z2 z3).trans (hu_n z1)⟩
      · have g10 : gA h (A 0) 0 10 = some (A 12) := by simp [gA, rd, T.1, oE, oFs, vR]
        obtain ⟨k, k1, k2, k3⟩ := isL_n hl
        rw [byR_lt hts] at k3
        have etb : ta t = tb t := (H t (by omega)).eq (by rw [k3]; exact nI_lt (by omega) (by decide))
        obtain ⟨c1, c2⟩ := let_c k (by omega) k1
        rw [if_neg (nI_ge (by omega) (by decide)), r9, Option.bind_some, g10, Option.bind_some, Option.bind_some, aI_at T.2 (by omega) (by decide), Option.bind_some, sbo qs, gdT, ← etb, k3, c1, sb_app qs qv (by omega) (by decide) (by omega), Option.bind_some]
        dsimp only
        rw [aC00, c2, show nx + 0 = nx from rfl, up (hu (hu h sb (sB3 v (min 8 (t - f) + 1) mb)) v (.inl (2, 16, .inl (upd F (min 8 (t - f)) (nI k))))) (by rw [hu_n (Ne.symm v0.2.2.1), hu_n (Ne.symm s0.2.2.1)]; exact q)]
        obtain ⟨h', e3, a1, a2, a3⟩ := y_107 (f := f) (sb := sb) (v := v) (mb := mb) H hs h0 h1 s0 v0 hr d (t + 1) m (hu (hu (hu h sb (sB3 v (min 8 (t - f) + 1) mb)) v (.inl (2, 16, .inl (upd F (min 8 (t - f)) (nI k))))) rr (rdE (nI si) (nI f) (nI (t + 1)) so nu wd nh np mk (A 0))) (upd F (min 8 (t - f)) (nI k)) (by omega) (by omega) (by omega) (((T.hu s0.1 s0.2.1).hu v0.1 v0.2.1).hu h0 h1) hu_s (by rw [hu_n s0.2.2.1, hu_n (Ne.symm v0.2.2.2.1), hu_s, show min 8 (t + 1 - f) = min 8 (t - f) + 1 by omega]) (by rw [hu_n v0.2.2.1]; exact hu_s) (fun i hi => by
          by_cases hin : i = min 8 (t - f)
          · subst hin
            rw [upd_s, ← k3, show f + min 8 (t - f) = t by omega]
          · rw [upd_n hin]; exact hF i (by omega))
        exact ⟨h', e3, a1, a2, fun q hq z1 z2 z3 => by rw [a3 q hq z1 z2 z3, hu_n z1, hu_n z3, hu_n z2]⟩
end PTC2
