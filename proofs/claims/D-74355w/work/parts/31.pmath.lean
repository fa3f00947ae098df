/-! THE PLAIN PART: what both sides compute, over the reference's row w -/
abbrev Rw : Type := Nat → Int32
theorem upd_s {f : Nat → Int32} {k : Nat} {x : Int32} : upd f k x k = x := if_pos rfl
theorem upd_n {f : Nat → Int32} {k j : Nat} {x : Int32} (h : j ≠ k) : upd f k x j = f j := if_neg h
def wN (w : Rw) (i : Nat) : Nat := (w i).toNatClampNeg
def nH (w : Rw) : Nat := wN w 230
def nP (w : Rw) : Nat := wN w 231
def nL (w : Rw) : Nat := wN w 233
def nO (w : Rw) : Nat := wN w 299
def hF (w : Rw) (h k : Nat) : Int32 := w (8 * h + k)
def pF (w : Rw) (p k : Nat) : Int32 := w (80 + 18 * p + k)
def lF (w : Rw) (i k : Nat) : Int32 := w (234 + 8 * i + k)
def hN_ (w : Rw) (h k : Nat) : Nat := (hF w h k).toNatClampNeg
def pN (w : Rw) (p k : Nat) : Nat := (pF w p k).toNatClampNeg
def lN_ (w : Rw) (i k : Nat) : Nat := (lF w i k).toNatClampNeg
def eO (o : Option Nat) : Int32 := match o with
  | some p => nI p
  | none => -1
def isFr (w : Rw) (h : Nat) : Bool := decide (hF w h 2 = -1) && decide (hF w h 3 = 0) && decide (hF w h 6 = 0)
def isIn_ (w : Rw) (p : Nat) : Bool := decide (pF w p 8 = 0)
def mayH (w : Rw) (p : Nat) : Bool := isIn_ w p && decide (pF w p 6 = 0)
/-- the bit at k -/
def bt (x : Int32) (k : Nat) : Bool := decide (((x >>> (nI k &&& 31)) &&& 1) = 1)
def mx32 (a b : Int32) : Int32 := if a < b then b else a
def wtI (w : Rw) (p : Nat) : Int32 := ((nI 1000) + ((nI 7) * (w 232))) - pF w p 3
def bnI (w : Rw) (p : Nat) : Int32 := mx32 1 (pF w p 0 - wtI w p / w 228)
/-- days waited; the band now -/
def wtd (w : Rw) (p : Nat) : Nat := 1000 + 7 * wN w 232 - pN w p 3
def bnd (w : Rw) (p : Nat) : Nat := max 1 (pN w p 0 - wtd w p / wN w 228)
def dFit (w : Rw) (p h : Nat) : Bool := !decide (hF w h 0 - pF w p 1 < 0) && !decide (1 < hF w h 0 - pF w p 1)
def iBd (w : Rw) (p h : Nat) : Bool := bt (pF w p 10) h
def wsh (w : Rw) (p h : Nat) : Option Nat := fdN (fun k => decide (pF w p (12 + k) = nI h)) 0 (pN w p 11)
def wTk (w : Rw) (p h : Nat) : Bool := decide (pF w p 11 = 0) || (wsh w p h).isSome
def cHv (w : Rw) (p h : Nat) : Bool := mayH w p && dFit w p h && wTk w p h
def pc (n : Nat) : Nat := cnN (fun i => n.testBit i) 10
def lcN (w : Rw) (d : Int32) : Nat := cnN (fun k => decide (hF w (lN_ w k 1) 1 = d)) (nL w)
def lcl (w : Rw) (h : Nat) : Bool := !decide (w 226 = 0) && decide (nI (lcN w (hF w h 1) + 1) - nI (lcN w (hF w h 1) + 1) / w 226 * w 226 = 0)
def lvb (w : Rw) (k : Nat) : Bool := !decide (lF w k 5 >>> (1 &&& 31) = 0)
def lvd (w : Rw) : Nat := cnN (lvb w) (nL w)
def qta (w : Rw) : Bool := decide (nI 100 * nI (lvd w) < w 227 * w 233)
def wt3 (w : Rw) (p h band : Nat) : Nat :=
  (((2 * (if lcl w h = true ∧ ¬ pF w p 2 = hF w h 1 then 1 else 0) + (if qta w = true ∧ pF w p 4 = -1 then 1 else 0)) * 5 + band) * 1000 + pN w p 3) * 8 + p
def wgt (w : Rw) (h p : Nat) : Nat := wt3 w p h (bnd w p)
/-- the least of those that are so, by a key; the first of equals -/
def amF (B : Nat → Bool) (key : Nat → Nat) (p : Nat) (best : Option Nat) : Option Nat :=
  if B p = true then (match best with
    | none => some p
    | some q => if key p < key q then some p else some q) else best
def am (B : Nat → Bool) (key : Nat → Nat) (n : Nat) : Option Nat := flN (amF B key) 0 n none
theorem am_0 {B : Nat → Bool} {key : Nat → Nat} : am B key 0 = none := rfl
theorem am_1 {B : Nat → Bool} {key : Nat → Nat} {n : Nat} : am B key (n + 1) = amF B key n (am B key n) := by
  unfold am; rw [flN_1]; simp
theorem am_none {B : Nat → Bool} {key : Nat → Nat} : ∀ {n : Nat}, am B key n = none ↔ ∀ p, p < n → B p = false
  | 0 => ⟨fun _ p h => absurd h (by omega), fun _ => rfl⟩
  | n + 1 => by
    rw [am_1]
    unfold amF
    by_cases hb : B n = true
    · rw [if_pos hb]
      refine ⟨fun h => ?_, fun h => by rw [h n (by omega)] at hb; cases hb⟩
      cases hm : am B key n with
      | none => rw [hm] at h; cases h
      | some r => rw [hm] at h; dsimp only at h; split at h <;> cases h
    · rw [if_neg hb, am_none]
      refine ⟨fun h p h1 => ?_, fun h p h1 => h p (by omega)⟩
      by_cases hp : p = n
      · subst hp; exact Bool.eq_false_iff.mpr hb
      · exact h p (by omega)
theorem am_some {B : Nat → Bool} {key : Nat → Nat} : ∀ {n q : Nat}, am B key n = some q → q < n ∧ B q = true ∧ ∀ p, p < n → B p = true → key q ≤ key p
  | 0, q, h => by cases h
  | n + 1, q, h => by
    rw [am_1] at h
    unfold amF at h
    by_cases hb : B n = true
    · rw [if_pos hb] at h
      cases hm : am B key n with
      | none =>
        rw [hm] at h
        cases h
        refine ⟨by omega, hb, fun p h1 h2 => ?_⟩
        by_cases hp : p = n
        · subst hp; exact Nat.le_refl _
        · exfalso
          have := am_none.mp hm p (by omega)
          rw [h2] at this; cases this
      | some r =>
        rw [hm] at h
        obtain ⟨a, b, c⟩ := am_some hm
        dsimp only at h
        by_cases hk : key n < key r
        · rw [if_pos hk] at h
          cases h
          refine ⟨by omega, hb, fun p h1 h2 => ?_⟩
          by_cases hp : p = n
          · subst hp; exact Nat.le_refl _
          · have := c p (by omega) h2; omega
        · rw [if_neg hk] at h
          cases h
          refine ⟨by omega, b, fun p h1 h2 => ?_⟩
          by_cases hp : p = n
          · subst hp; omega
          · exact c p (by omega) h2
    · rw [if_neg hb] at h
      obtain ⟨a, b, c⟩ := am_some h
      refine ⟨by omega, b, fun p h1 h2 => ?_⟩
      by_cases hp : p = n
      · subst hp; exact absurd h2 hb
      · exact c p (by omega) h2
