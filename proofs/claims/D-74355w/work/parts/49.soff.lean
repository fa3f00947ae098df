/-! THE COMPONENT's side: an offer is written down -/
section PSO
variable {h h1 : AH} {nx nx' : Nat} {M M' : Nat → Prop} {o r eL eO_ cL cO : Nat} {w W : Rw} {p x a b dn k : Nat} {zs : Nat → Nat} {n : Nat} {E : bE} {t : Bool}
theorem RelF_c {F : Nat → Nat → Int32} {wk rf : Int32} (Q : RelF F wk rf w) (Z : Rng w) (hW : ∀ i, i < 299 → W i = w i) : RelF F wk rf W := by
  have b1 := Z.gH.2
  have b2 := Z.gP.2
  have bL := Z.gL.2
  obtain ⟨q1, q2, q3, q4, q5, q6, q7⟩ := Q
  have eP : nP W = nP w := by unfold nP wN; rw [hW 231 (by decide)]
  have eH : nH W = nH w := by unfold nH wN; rw [hW 230 (by decide)]
  have eL : nL W = nL w := by unfold nL wN; rw [hW 233 (by decide)]
  have ep : ∀ q j, q < 8 → j < 18 → pF W q j = pF w q j := fun q j h1 h2 => hW _ (by omega)
  have eh : ∀ y j, y < 10 → j < 8 → hF W y j = hF w y j := fun y j h1 h2 => hW _ (by omega)
  refine ⟨fun j hj => by rw [q1 j hj]; exact (hW _ (by omega)).symm, fun q hq => ?_, fun q i hq hi => ?_, fun y hy => ?_, fun y hy => ?_, q6.trans (hW _ (by decide)).symm, q7.trans (hW _ (by decide)).symm⟩
  · rw [eP] at hq
    rw [ep q 4 (by omega) (by decide), ep q 5 (by omega) (by decide), ep q 6 (by omega) (by decide), ep q 9 (by omega) (by decide), ep q 10 (by omega) (by decide), ep q 11 (by omega) (by decide), ep q 1 (by omega) (by decide), ep q 8 (by omega) (by decide), ep q 7 (by omega) (by decide)]
    exact q2 q hq
  · rw [eP] at hq
    have e11 : pN W q 11 = pN w q 11 := by unfold pN; rw [ep q 11 (by omega) (by decide)]
    rw [e11] at hi
    have := (Z.p11 (p := q) (by omega)).2
    rw [ep q (12 + i) (by omega) (by omega)]
    exact q3 q i hq hi
  · rw [eH] at hy
    rw [eh y 7 (by omega) (by decide), eh y 6 (by omega) (by decide), eh y 3 (by omega) (by decide)]
    exact q4 y hy
  · rw [eH] at hy
    rw [eh y 5 (by omega) (by decide), eL]
    rcases q5 y hy with z | ⟨i, z1, z2, z3⟩
    · exact Or.inl z
    · exact Or.inr ⟨i, z1, z2, by rw [z3]; exact (hW _ (by omega)).symm⟩
/-- a row of ints on the heap, written -/
theorem sI_at {h : AH} {a t N i : Nat} {g : Nat → Int32} (q : h a = some (.inl (t, N, .inl g))) (hi : i < N) (hN : N < 2 ^ 31) (v : Int32) : sI h a t (nI i) v = some (hu h a (.inl (t, N, .inl (upd g i v)))) := by
  simp only [sI, arI, q, if_true, Option.bind_some]
  rw [gdn ⟨hi, hN⟩, nI_clamp (by omega)]
def of3 (p x : Nat) (t : Bool) : Nat → Int32 := upd (upd (upd (fun _ => 0) 0 (nI p)) 1 (nI x)) 2 (bI t)
/-- from the offer's new row on -/
theorem x_offer (X : RX h nx M o r eL eO_ cL cO w) (Z : Rng w) (hc : cO < 60) (hn : nO w < 30) : ∃ (h' : AH) (M' : Nat → Prop) (eO' cO' c d : Nat), f_J2_add E (hu h nx (.inl (0, 3, .inl (of3 p x t)))) (nx + 1) (r + 18) nx = some (1, h', c, d) ∧ RX h' (nx + 1 + c) M' o r eL eO' cL cO' (offd w p x t) ∧ Ext M M' nx ∧ (eO' = eO_ ∨ nx ≤ eO') ∧ cO ≤ cO' ∧ cO' < 60 ∧ c ≤ cO' - cO ∧ d ≤ 4 * (cO' - cO) ∧ ∀ q, q < nx → ¬ Own r eL eO_ q → h' q = h q := by
  have b3 := Z.gO.2
  have bL := Z.gL.2
  obtain ⟨H, F, wk, rf, sc, la, oa, R, Q, L, K, s0, il, io, hOwn, hno⟩ := X
  obtain ⟨r1, r2, r3, r4, r5, r6, r7, r8⟩ := id R
  have oLt : ∀ q, Own r eL eO_ q → q < nx := fun q hq => (hOwn q hq).2
  have l40 := oLt (r + 40) (Or.inl ⟨by omega, by omega⟩)
  have lE := oLt eO_ (Or.inr (Or.inr rfl))
  have lL := oLt eL (Or.inr (Or.inl rfl))
  have hok6 : eL < r ∨ r + 41 ≤ eL ∨ eL = r + 17 ∨ eL = r + 19 := r6
  have hok7 : eO_ < r ∨ r + 41 ≤ eO_ ∨ eO_ = r + 17 ∨ eO_ = r + 19 := r7
  have n8 : ∀ q, q ≠ nx → hu h nx (.inl (0, 3, .inl (of3 p x t))) q = h q := fun q hq => hu_n hq
  have LC : LstC (hu h nx (.inl (0, 3, .inl (of3 p x t)))) (r + 18) eO_ (nO w) oa cO := r4.kept (n8 _ (by omega)) (n8 _ (by omega))
  obtain ⟨h', e', cap', c, d, a1, a2, a3, a4, a5, a6, a7, a8⟩ := L_add (E := E) (x := nx) (nx := nx + 1) LC (by omega) hc (by rw [hu_s]; simp [stO]) (by omega) (by omega) (by omega) (by omega) (by omega) (fun j hj => by
    obtain ⟨g, g1, -⟩ := K.2 j hj
    rw [n8 _ (by have := (io j hj).1; omega), g1]
    exact ⟨by simp [stO], by have := (io j hj).1; omega⟩)
  have he' : (e' = eO_ ∧ c = 0) ∨ (e' = nx + 1 ∧ c = 1) := a4
  have keep : ∀ q, q < nx → q ≠ r + 18 → q ≠ eO_ → h' q = h q := fun q h1 h2 h3 => (a3 q h2 h3 (by omega)).trans (n8 q (by omega))
  have hE : Ext M (fun q => M q ∨ q = e') nx := ⟨fun q hq => Or.inl hq, fun q hq => by
    rcases hq with z | z
    · exact Or.inl z
    · subst z
      rcases he' with z | z
      · left; rw [z.1]; exact (hOwn _ (Or.inr (Or.inr rfl))).1
      · right; omega⟩
  have hbd : ∀ q, (M q ∨ q = e') → q < nx + 1 + c := fun q hq => by
    rcases hq with z | z
    · have := H.bd q z; omega
    · subst z
      rcases he' with z | z <;> omega
  have hOw : ∀ q, Own r eL e' q → (M q ∨ q = e') ∧ q < nx + 1 + c := fun q hq => by
    have hq : (r ≤ q ∧ q < r + 41) ∨ q = eL ∨ q = e' := hq
    rcases hq with z | z | z
    · have := hOwn q (Or.inl z); exact ⟨Or.inl this.1, by omega⟩
    · have := hOwn q (Or.inr (Or.inl z)); exact ⟨Or.inl this.1, by omega⟩
    · exact ⟨Or.inr z, hbd q (Or.inr z)⟩
  have hNO : nO (offd w p x t) = nO w + 1 := nO_offd Z hn
  have hNL : nL (offd w p x t) = nL w := ag_nL (offd_a Z)
  have hA := offd_a (p := p) (h := x) (t := t) Z
  have mr : ∀ i, i < 41 → M (r + i) := fun i hi => (hOwn _ (Or.inl ⟨by omega, by omega⟩)).1
  refine ⟨h', fun q => M q ∨ q = e', e', cap', c, d, a1, ⟨?_, F, wk, rf, sc, la, fun j => if j = nO w then nx else oa j, ?_, RelF_c Q Z (fun i hi => offd_o (Or.inl hi)), ?_, ?_, s0, ?_, ?_, hOw, ?_⟩, hE, (by rcases he' with z | z; (exact Or.inl z.1); (exact Or.inr (by omega))), a5, a8, a6, a7, fun q h1 h2 => keep q h1 (fun z => h2 (by rw [z]; exact Or.inl ⟨by omega, by omega⟩)) (fun z => h2 (Or.inr (Or.inr z)))⟩
  · refine (H.step (by omega) hE hbd (fun q hq hz => keep q hq (fun z => ?_) (fun z => ?_))).row (KS_ag hA).kt Z
    · rcases hz with y | y
      · exact y (by rw [z]; exact mr 18 (by decide))
      · exact hno (by rw [← y, z]; exact Or.inl ⟨by omega, by omega⟩)
    · rcases hz with y | y
      · exact y (by rw [z]; exact (hOwn _ (Or.inr (Or.inr rfl))).1)
      · exact hno (by rw [← y, z]; exact Or.inr (Or.inr rfl))
  · rw [hNL, hNO]
    refine ⟨by rw [keep r (by omega) (by omega) (by omega)]; exact r1, fun a ha => by rw [keep _ (by omega) (by omega) (by omega)]; exact r2 a ha, r3.kept (keep _ (by omega) (by omega) (by omega)) (keep _ lL (by omega) r8), a2, fun i h1 h2 => by rw [keep _ (by omega) (by omega) (by omega)]; exact r5 i h1 h2, r6, ?_, ?_⟩
    · show e' < r ∨ r + 41 ≤ e' ∨ e' = r + 17 ∨ e' = r + 19
      rcases he' with z | z <;> omega
    · rcases he' with z | z
      · rw [z.1]; exact r8
      · omega
  · rw [hNL]
    refine (L.kept (fun i hi => keep _ (il i hi).1 (fun z => (il i hi).2 (by rw [z]; exact mr 18 (by decide))) (fun z => (il i hi).2 (by rw [z]; exact (hOwn _ (Or.inr (Or.inr rfl))).1)))).row Z hNL (fun i j hi hj => ag_l hA hi hj) (fun q hq => ag_p hA hq (by decide)) (fun y hy => ag_h hA hy (by decide))
  · rw [hNO]
    refine ⟨hNO.symm, fun i hi => ?_⟩
    rw [hNO] at hi
    by_cases e : i = nO w
    · subst e
      refine ⟨of3 p x t, ?_, ?_, ?_, ?_⟩
      · simp only [if_true]
        rw [a3 nx (by omega) (by omega) (by omega)]; exact hu_s
      · unfold offd of3; rw [upd_n (by decide), upd_n (by decide), upd_s, upd_n (by omega), upd_n (by omega), upd_n (by omega), upd_s]
      · unfold offd of3; rw [upd_n (by decide), upd_s, upd_n (by omega), upd_n (by omega), upd_s]
      · unfold offd of3; rw [upd_s, upd_n (by omega), upd_s]
    · obtain ⟨g, g1, g2, g3, g4⟩ := K.2 i (by omega)
      have ho : ∀ k, k < 3 → offd w p x t (300 + 3 * i + k) = w (300 + 3 * i + k) := fun k hk => by
        unfold offd
        rw [upd_n (by omega), upd_n (by omega), upd_n (by omega), upd_n (by omega)]
      have hio := io i (by omega)
      refine ⟨g, ?_, g2.trans (ho 0 (by decide)).symm, g3.trans (ho 1 (by decide)).symm, g4.trans (ho 2 (by decide)).symm⟩
      simp only [if_neg e]
      rw [keep _ hio.1 (fun z => hio.2 (by rw [z]; exact mr 18 (by decide))) (fun z => hio.2 (by rw [z]; exact (hOwn _ (Or.inr (Or.inr rfl))).1))]
      exact g1
  · intro i hi
    rw [hNL] at hi
    exact (il i hi).ext (by omega) hE
  · intro i hi
    rw [hNO] at hi
    by_cases e : i = nO w
    · simp only [if_pos e]
      refine ⟨by omega, fun z => ?_⟩
      rcases z with z | z
      · have := H.bd _ z; omega
      · rcases he' with y | y <;> omega
    · simp only [if_neg e]
      exact (io i (by omega)).ext (by omega) hE
  · intro z
    have z : (r ≤ o ∧ o < r + 41) ∨ o = eL ∨ o = e' := z
    rcases z with z | z | z
    · exact hno (Or.inl z)
    · exact hno (Or.inr (Or.inl z))
    · rcases he' with y | y
      · exact hno (by rw [z, y.1]; exact Or.inr (Or.inr rfl))
      · have : o < nx := by
          obtain ⟨_, _, _, _, _, _, _, _, _, _, _, _, _, _, ho, _⟩ := H
          exact ho
        omega
end PSO
