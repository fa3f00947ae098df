/-! print: texts as lists; the reference's side -/
def TX (f : Nat → Int32) (T : List Int32) : Prop := ∀ i, i < T.length → f i = T.getD i 0
def apN (f : Nat → List Int32) : Nat → List Int32
  | 0 => []
  | k + 1 => apN f k ++ f k
/-- letters; a constant's; a number's digits -/
def wl (n : Nat) (g : Nat → Int32) : List Int32 := (List.range n).map g
def cl (k : Nat) : List Int32 := wl (cstL k) (cstG k)
def dg (v : Nat) : List Int32 := if v < 10 then [nI (48 + v)] else if v < 100 then [nI (48 + v / 10), nI (48 + v % 10)] else [nI (48 + v / 100), nI (48 + v / 10 % 10), nI (48 + v % 10)]
def nl (v : Nat) : List Int32 := nI 32 :: dg v
/-- a word's letters, out of its number -/
def ch5 (v : Int64) (j : Nat) : Int64 := (v >>> ((nI (5 * j)).toInt64 &&& 63)) &&& 31
def dec1 (v : Int64) (j : Nat) : List Int32 := if ch5 v j = 0 then [] else [(ch5 v j).toInt32 + nI 96]
def dec (v : Int64) : List Int32 := apN (fun i => dec1 v (8 - i)) 9
def told (w : Rw) (h : Nat) : Bool := decide (hF w h 6 = 0) && (decide (hF w h 2 = -1) || isIn_ w (hN_ w h 2))
def ruL (w : Rw) (k : Nat) : List Int32 := cl 8 ++ [nI 32] ++ cl k ++ nl (wN w (224 + k)) ++ [nI 59]
def hoL (w : Rw) (nm : Nat → Int64) (h : Nat) : List Int32 := if told w h = true then cl 6 ++ (nI 32 :: dec (nm h)) ++ nl (hN_ w h 0) ++ nl (hN_ w h 1) ++ [nI 59] else []
def wsL (w : Rw) (nm : Nat → Int64) (p i : Nat) : List Int32 := if told w (pN w p (12 + i)) = true then nI 32 :: dec (nm (pN w p (12 + i))) else []
def inL (w : Rw) (nm : Nat → Int64) (p : Nat) : List Int32 := if pF w p 4 = -1 then [] else if told w (pN w p 4) = true then [nI 32] ++ cl 9 ++ (nI 32 :: dec (nm (pN w p 4))) else []
def hsL (w : Rw) (nm : Nat → Int64) (p : Nat) : List Int32 := if isIn_ w p = true then cl 7 ++ (nI 32 :: dec (nm (10 + p))) ++ apN (fun k => nl (pN w p k)) 4 ++ inL w nm p ++ apN (wsL w nm p) (pN w p 11) ++ [nI 59] else []
def txt (w : Rw) (nm : Nat → Int64) : List Int32 := apN (ruL w) 6 ++ apN (hoL w nm) (nH w) ++ apN (hsL w nm) (nP w)
section PPN
variable {f g : Nat → Int32} {T L : List Int32} {n k c v i j p h : Nat} {w : Rw} {nm : Nat → Int64} {ou ou' : Nat → Int32} {x : Int64} {B : Nat → List Int32} {b th st : Int32}
theorem apN_len {m : Nat} : ∀ k, (∀ i, i < k → (B i).length ≤ m) → (apN B k).length ≤ k * m
  | 0, _ => by simp [apN]
  | k + 1, h => by
    have h1 := apN_len k (fun i hi => h i (by omega))
    have h2 := h k (by omega)
    show (apN B k ++ B k).length ≤ _
    rw [List.length_append, Nat.succ_mul]
    omega
theorem wl_len : (wl n g).length = n := by simp [wl]
theorem wl_c {g' : Nat → Int32} (h : ∀ i, i < n → g i = g' i) : wl n g = wl n g' := by
  unfold wl
  exact List.map_congr_left (fun i hi => h i (List.mem_range.mp hi))
theorem dg_len : (dg v).length ≤ 3 ∧ 1 ≤ (dg v).length := by
  unfold dg
  split
  · simp
  · split <;> simp
theorem dec1_len : (dec1 x j).length ≤ 1 := by
  unfold dec1
  split <;> simp
theorem dec_len : (dec x).length ≤ 9 := apN_len 9 (fun _ _ => dec1_len)
theorem cl_len : ∀ k, k < 21 → (cl k).length ≤ 6 := fun k hk => by
  unfold cl
  rw [wl_len]
  have : ∀ k, k < 21 → cstL k ≤ 6 := by decide
  exact this k hk
theorem nl_len : (nl v).length ≤ 4 := by
  have := (dg_len (v := v)).1
  unfold nl
  rw [List.length_cons]; omega
theorem ruL_len (hk : k < 6) : (ruL w k).length ≤ 18 := by
  have a1 := cl_len 8 (by decide)
  have a2 := cl_len k (by omega)
  have a3 := nl_len (v := wN w (224 + k))
  unfold ruL
  simp only [List.length_append, List.length_cons, List.length_nil]
  omega
theorem hoL_len : (hoL w nm h).length ≤ 25 := by
  unfold hoL
  split
  · have a1 := cl_len 6 (by decide)
    have a2 := dec_len (x := nm h)
    have a3 := nl_len (v := hN_ w h 0)
    have a4 := nl_len (v := hN_ w h 1)
    simp only [List.length_append, List.length_cons, List.length_nil]
    omega
  · simp
theorem wsL_len : (wsL w nm p i).length ≤ 10 := by
  unfold wsL
  split
  · have a2 := dec_len (x := nm (pN w p (12 + i)))
    simp only [List.length_cons]
    omega
  · simp
theorem inL_len : (inL w nm p).length ≤ 17 := by
  unfold inL
  split
  · simp
  · split
    · have a1 := cl_len 9 (by decide)
      have a2 := dec_len (x := nm (pN w p 4))
      simp only [List.length_append, List.length_cons, List.length_nil]
      omega
    · simp
theorem hsL_len (h6 : pN w p 11 ≤ 6) : (hsL w nm p).length ≤ 110 := by
  unfold hsL
  split
  · have a1 := cl_len 7 (by decide)
    have a2 := dec_len (x := nm (10 + p))
    have a3 := apN_len (B := fun k => nl (pN w p k)) (m := 4) 4 (fun _ _ => nl_len)
    have a4 := inL_len (w := w) (nm := nm) (p := p)
    have a5 := apN_len (B := wsL w nm p) (m := 10) (pN w p 11) (fun _ _ => wsL_len)
    simp only [List.length_append, List.length_cons, List.length_nil]
    omega
  · simp
theorem TX.a1 (H : TX f T) (x : Int32) : TX (upd f T.length x) (T ++ [x]) := by
  intro i hi
  rw [List.length_append] at hi
  by_cases h : i = T.length
  · subst h
    rw [upd_s]
    simp
  · have h2 : i < T.length := by simp at hi; omega
    rw [upd_n h, H i h2]
    simp [List.getD_eq_getElem?_getD, List.getElem?_append_left h2]
/-- printed so far -/
def RP (o : Option (Int32 × (Nat → Int32))) (T : List Int32) : Prop := ∃ ou', o = some (nI T.length, ou') ∧ TX ou' T
theorem RP.bind {α : Type} {o : Option (Int32 × (Nat → Int32))} {K : Int32 × (Nat → Int32) → Option α} {Q : Option α → Prop} (H : RP o T) (hk : ∀ ou', TX ou' T → Q (K (nI T.length, ou'))) : Q (o.bind K) := by
  obtain ⟨ou', e, t⟩ := H
  rw [e]; exact hk ou' t
theorem nar_c : ∀ c, c < 128 → vp_nar .byte (nI c).toInt8.toInt32 = nI c := by
  intro c hc
  rw [vp_nar_byte, Int8.toInt8_toInt32]
  have : ∀ c, c < 128 → (nI c).toInt8.toInt32 = nI c := by decide
  exact this c hc
theorem m_pr (H : TX ou T) (hc : c < 128) (hT : T.length < 1800) : RP (f_X3_prints (nI T.length) ou (nI c)) (T ++ [nI c]) := by
  refine ⟨upd ou T.length (nI c), ?_, H.a1 _⟩
  unfold f_X3_prints
  rw [gdn ⟨hT, by decide⟩, nI_1, nI_clamp (by omega), nar_c c hc, List.length_append]
  rfl
theorem ch5_c : ch5 x j = 0 ∨ ∃ c, 97 ≤ c ∧ c < 128 ∧ (ch5 x j).toInt32 + nI 96 = nI c := by
  unfold ch5
  generalize x >>> ((nI (5 * j)).toInt64 &&& 63) = y
  have e : (y &&& 31) = Int64.ofNat (y.toBitVec.toNat % 32) := by
    apply Int64.toBitVec_inj.mp
    apply BitVec.eq_of_toNat_eq
    show (y.toBitVec &&& 31#64).toNat = (BitVec.ofNat 64 (y.toBitVec.toNat % 32)).toNat
    rw [BitVec.toNat_and, show (31#64).toNat = 2 ^ 5 - 1 by decide, Nat.and_two_pow_sub_one_eq_mod, show (2 : Nat) ^ 5 = 32 from rfl, BitVec.toNat_ofNat, Nat.mod_eq_of_lt (show y.toBitVec.toNat % 32 < 2 ^ 64 by omega)]
  have hk : y.toBitVec.toNat % 32 < 32 := Nat.mod_lt _ (by decide)
  rw [e]
  generalize y.toBitVec.toNat % 32 = k at hk
  have : ∀ k, k < 32 → (Int64.ofNat k).toInt32 + nI 96 = nI (k + 96) := by decide +kernel
  by_cases h0 : k = 0
  · subst h0; exact Or.inl rfl
  · exact Or.inr ⟨k + 96, by omega, by omega, this k hk⟩
theorem m_word (H : TX ou T) (hT : T.length + 9 ≤ 1800) : RP (f_X3_printsWord (nI T.length) ou x) (T ++ dec x) := by
  have loop : ∀ (k m : Nat) (T : List Int32) (ou : Nat → Int32), k ≤ 9 → TX ou T → T.length + k ≤ 1800 → RP (f_X3_printsWord_3 (m + k + 1) x (nI (5 * k) - nI 5) (nI T.length) ou) (T ++ apN (fun i => dec1 x (k - 1 - i)) k) := by
    intro k
    induction k with
    | zero =>
      intro m T ou _ H hT
      rw [f_X3_printsWord_3, if_pos (by decide)]
      refine ⟨ou, ?_, ?_⟩ <;> rw [show T ++ apN (fun i => dec1 x (0 - 1 - i)) 0 = T from List.append_nil T]
      exact H
    | succ k ih =>
      intro m T ou hk H hT
      have e1 : nI (5 * (k + 1)) - nI 5 = nI (5 * k) := by rw [nI_sb (by omega)]; exact congrArg nI (by omega)
      have e2 : nI (5 * k) + -5 = nI (5 * k) - nI 5 := by
        rw [Int32.sub_eq_add_neg]; rfl
      have ea : ∀ (T : List Int32), T ++ apN (fun i => dec1 x (k + 1 - 1 - i)) (k + 1) = (T ++ dec1 x k) ++ apN (fun i => dec1 x (k - 1 - i)) k := fun T => by
        have : ∀ m, m ≤ k → apN (fun i => dec1 x (k + 1 - 1 - i)) (m + 1) = dec1 x k ++ apN (fun i => dec1 x (k - 1 - i)) m := by
          intro m
          induction m with
          | zero => intro _; show [] ++ dec1 x (k + 1 - 1 - 0) = dec1 x k ++ []; rw [List.nil_append, List.append_nil]; rfl
          | succ m ihm =>
            intro hm
            show apN (fun i => dec1 x (k + 1 - 1 - i)) (m + 1) ++ dec1 x (k + 1 - 1 - (m + 1)) = dec1 x k ++ (apN (fun i => dec1 x (k - 1 - i)) m ++ dec1 x (k - 1 - m))
            rw [ihm (by omega), List.append_assoc, show k + 1 - 1 - (m + 1) = k - 1 - m by omega]
        rw [this k (Nat.le_refl _), List.append_assoc]
      rw [show m + (k + 1) + 1 = m + k + 1 + 1 by omega, f_X3_printsWord_3, e1, if_neg (nI_pos (by omega)), ea]
      have ech : (x >>> ((nI (5 * k)).toInt64 &&& 63)) &&& 31 = ch5 x k := rfl
      rw [ech, e2]
      by_cases h0 : ch5 x k = 0
      · rw [if_pos ((lg_cmp_eq _ _).mpr h0)]
        have ed : dec1 x k = [] := if_pos h0
        rw [ed, List.append_nil]
        exact ih m T ou (by omega) H (by omega)
      · rw [if_neg (fun z => h0 ((lg_cmp_eq _ _).mp z))]
        obtain ⟨c, c1, c2, c3⟩ := (ch5_c (x := x) (j := k)).resolve_left h0
        have ed : dec1 x k = [nI c] := by unfold dec1; rw [if_neg h0, c3]
        rw [c3, ed]
        refine RP.bind (m_pr H c2 (by omega)) (Q := fun o => RP o _) (fun ou' H' => ?_)
        exact ih m _ ou' (by omega) H' (by rw [List.length_append]; show T.length + 1 + k ≤ 1800; omega)
  exact loop 9 9990 T ou (Nat.le_refl _) H hT
theorem dv_100 : ∀ v, v < 1000 → nI v / nI 100 = nI (v / 100) ∧ nI v / nI 10 = nI (v / 10) ∧ nI v - nI v / nI 10 * nI 10 = nI (v % 10) := by decide +kernel
theorem m_num (H : TX ou T) (hv : v < 1000) (hT : T.length + 4 ≤ 1800) : RP (f_X3_printsNumber (nI T.length) ou (nI v)) (T ++ nl v) := by
  obtain ⟨d1, d2, d3⟩ := dv_100 v hv
  obtain ⟨-, e2, e3⟩ := dv_100 (v / 10) (by omega)
  have n43 : ∀ (T : List Int32) (ou : Nat → Int32), TX ou T → T.length < 1800 → RP (f_X3_printsNumber_43 (nI v) (nI T.length) ou) (T ++ [nI (48 + v % 10)]) := fun T ou H hT => by
    unfold f_X3_printsNumber_43
    rw [gd_e (show nz32 (nI 10) = true by decide), d3, nI_add]
    exact RP.bind (m_pr H (by omega) hT) (Q := fun o => RP o _) (fun ou' H' => ⟨ou', rfl, H'⟩)
  have n23 : ∀ (T : List Int32) (ou : Nat → Int32), TX ou T → T.length + 1 < 1800 → RP (f_X3_printsNumber_23 (nI v) (nI T.length) ou) (T ++ ((if 9 < v then [nI (48 + v / 10 % 10)] else []) ++ [nI (48 + v % 10)])) := fun T ou H hT => by
    unfold f_X3_printsNumber_23
    by_cases h9 : 9 < v
    · rw [if_neg (nI_ge h9 (by omega)), if_pos h9, gd_e (show nz32 (nI 10) = true by decide), gd_e (show nz32 (nI 10) = true by decide), d2, e3, nI_add, ← List.append_assoc]
      exact RP.bind (m_pr H (by omega) (by omega)) (Q := fun o => RP o _) (fun ou' H' => n43 _ ou' H' (by rw [List.length_append]; show T.length + 1 < 1800; omega))
    · rw [if_pos (nI_le (by omega) (by decide)), if_neg h9]
      exact n43 T ou H (by omega)
  unfold f_X3_printsNumber
  refine RP.bind (m_pr H (by decide) (by omega)) (Q := fun o => RP o _) (fun ou' H' => ?_)
  have el : (T ++ [nI 32]).length = T.length + 1 := by rw [List.length_append]; rfl
  dsimp only
  by_cases h99 : 99 < v
  · rw [if_neg (nI_ge h99 (by omega)), gd_e (show nz32 (nI 100) = true by decide), d1, nI_add]
    have e : T ++ nl v = (T ++ [nI 32] ++ [nI (48 + v / 100)]) ++ ((if 9 < v then [nI (48 + v / 10 % 10)] else []) ++ [nI (48 + v % 10)]) := by
      unfold nl dg
      rw [if_neg (by omega), if_neg (by omega), if_pos (by omega)]
      simp
    rw [e]
    refine RP.bind (m_pr H' (by omega) (by omega)) (Q := fun o => RP o _) (fun ou2 H2 => ?_)
    exact n23 _ ou2 H2 (by rw [List.length_append, el]; show T.length + 1 + 1 + 1 < 1800; omega)
  · rw [if_pos (nI_le (by omega) (by decide))]
    have e : T ++ nl v = (T ++ [nI 32]) ++ ((if 9 < v then [nI (48 + v / 10 % 10)] else []) ++ [nI (48 + v % 10)]) := by
      unfold nl dg
      by_cases h9 : 9 < v
      · rw [if_neg (by omega), if_pos (by omega), if_pos h9, show v / 10 % 10 = v / 10 by omega]
        simp
      · rw [if_pos (by omega), if_neg h9, show v % 10 = v by omega]
        simp
    rw [e]
    exact n23 _ ou' H' (by rw [el]; omega)
end PPN
