/-! THE COMPONENT's side: a register on the heap -/
def rFs (o r : Nat) (wk rf : Int32) (sc : Int32 × Int32 × Int32 × Int32) : List Value := [.ref (r + 1), .ref (r + 2), .ref (r + 3), .ref (r + 4), .ref (r + 5), .ref (r + 6), .ref (r + 7), .ref (r + 8), .ref (r + 9), .ref (r + 10), .ref (r + 11), .ref (r + 12), .ref (r + 13), .ref (r + 14), .ref (r + 15), .ref (r + 16), .ref (r + 18), .int wk, .int rf, .int sc.1, .int sc.2.1, .int sc.2.2.1, .ref (r + 40), .ref (r + 34), .ref (r + 20), .int sc.2.2.2, .ref o]
def ak (a : Nat) : Nat := if a < 12 then 0 else 3
def al (a : Nat) : Nat := if a = 0 then 6 else if a = 7 then 48 else if a = 8 ∨ a = 9 ∨ a = 11 ∨ a = 12 then 10 else 8
def rK (r i : Nat) : hE := if i = 20 then .inl (5, 6, .inr (.inr (.inr (.inr (fun i => if i < 6 then some (r + 21 + i) else none))))) else if i = 21 then .inr (.inr (0, [.ref r])) else if i = 22 then .inr (.inr (1, [.ref r])) else if i = 23 then .inr (.inr (2, [.ref r])) else if i = 24 then .inr (.inr (3, [.ref r])) else if i = 25 then .inr (.inr (4, [.ref r])) else if i = 26 then .inr (.inr (5, [.ref r])) else if i = 27 then .inl (6, 3, .inr (.inr (.inr (.inr (fun i => if i = 0 then some (r + 29) else if i = 1 then some (r + 31) else if i = 2 then some (r + 33) else none))))) else if i = 28 then .inr (.inr (6, [.ref r])) else if i = 29 then .inr (.inr (7, [.ref (r + 28)])) else if i = 30 then .inr (.inr (8, [.ref r])) else if i = 31 then .inr (.inr (7, [.ref (r + 30)])) else if i = 32 then .inr (.inr (9, [.ref r])) else if i = 33 then .inr (.inr (7, [.ref (r + 32)])) else if i = 34 then .inr (.inr (10, [.ref (r + 27)])) else if i = 35 then .inl (6, 3, .inr (.inr (.inr (.inr (fun i => if i = 0 then some (r + 37) else if i = 1 then some (r + 39) else if i = 2 then some (r + 34) else none))))) else if i = 36 then .inr (.inr (11, [.ref r])) else if i = 37 then .inr (.inr (12, [.ref (r + 36)])) else if i = 38 then .inr (.inr (13, [.ref r])) else if i = 39 then .inr (.inr (12, [.ref (r + 38)])) else .inr (.inr (10, [.ref (r + 35)]))
/-- what of a register never changes: its checks and orders -/
def RegK (h : AH) (r : Nat) : Prop := ∀ i, 20 ≤ i → i < 41 → h (r + i) = some (rK r i)
/-- a list of references -/
def LstC (h : AH) (a e n : Nat) (f : Nat → Nat) (cap : Nat) : Prop := ∃ (m : Int32) (g : Nat → Option Nat), h a = some (.inr (.inl (11, [.int m, .ref e, .int (nI n)]))) ∧ h e = some (.inl (4, cap, .inr (.inr (.inr (.inr g))))) ∧ n ≤ cap ∧ 2 ≤ cap ∧ cap < 100 ∧ (∀ i, i < n → g i = some (f i)) ∧ ∀ i, n ≤ i → i < cap → g i = none
def LstA (h : AH) (a e n : Nat) (f : Nat → Nat) : Prop := ∃ cap, LstC h a e n f cap
/-- where a list's row may lie -/
def okE (r e : Nat) : Prop := e < r ∨ r + 41 ≤ e ∨ e = r + 17 ∨ e = r + 19
def Own (r eL eO q : Nat) : Prop := (r ≤ q ∧ q < r + 41) ∨ q = eL ∨ q = eO
def RegH (h : AH) (o r eL eO : Nat) (F : Nat → Nat → Int32) (wk rf : Int32) (sc : Int32 × Int32 × Int32 × Int32) (nl : Nat) (la : Nat → Nat) (no : Nat) (oa : Nat → Nat) (cL cO : Nat) : Prop :=
  h r = some (.inr (.inl (1, rFs o r wk rf sc))) ∧ (∀ a, a < 15 → h (r + (a + 1)) = some (.inl (ak a, al a, .inl (F a)))) ∧ LstC h (r + 16) eL nl la cL ∧ LstC h (r + 18) eO no oa cO ∧ RegK h r ∧ okE r eL ∧ okE r eO ∧ eL ≠ eO
theorem LstC.kept {h h1 : AH} {a e n cap : Nat} {f : Nat → Nat} (H : LstC h a e n f cap) (h1a : h1 a = h a) (h1e : h1 e = h e) : LstC h1 a e n f cap := by
  obtain ⟨m, g, q1, q2, q3⟩ := H
  exact ⟨m, g, h1a.trans q1, h1e.trans q2, q3⟩
theorem LstA.kept {h h1 : AH} {a e n : Nat} {f : Nat → Nat} (H : LstA h a e n f) (h1a : h1 a = h a) (h1e : h1 e = h e) : LstA h1 a e n f := by
  obtain ⟨cap, q⟩ := H
  exact ⟨cap, q.kept h1a h1e⟩
section RG
variable {h : AH} {o r eL eO : Nat} {F : Nat → Nat → Int32} {wk rf : Int32} {sc : Int32 × Int32 × Int32 × Int32} {nl : Nat} {la : Nat → Nat} {no : Nat} {oa : Nat → Nat} {cL cO : Nat}
theorem RegH.o1 (R : RegH h o r eL eO F wk rf sc nl la no oa cL cO) : isO h r 1 = true := by simp [isO, R.1]

theorem RegH.g0 (R : RegH h o r eL eO F wk rf sc nl la no oa cL cO) : gA h r 1 0 = some (r + 1) := by simp [gA, rd, R.1, rFs, vR]
theorem RegH.g1 (R : RegH h o r eL eO F wk rf sc nl la no oa cL cO) : gA h r 1 1 = some (r + 2) := by simp [gA, rd, R.1, rFs, vR]
theorem RegH.g2 (R : RegH h o r eL eO F wk rf sc nl la no oa cL cO) : gA h r 1 2 = some (r + 3) := by simp [gA, rd, R.1, rFs, vR]
theorem RegH.g3 (R : RegH h o r eL eO F wk rf sc nl la no oa cL cO) : gA h r 1 3 = some (r + 4) := by simp [gA, rd, R.1, rFs, vR]
theorem RegH.g4 (R : RegH h o r eL eO F wk rf sc nl la no oa cL cO) : gA h r 1 4 = some (r + 5) := by simp [gA, rd, R.1, rFs, vR]
theorem RegH.g5 (R : RegH h o r eL eO F wk rf sc nl la no oa cL cO) : gA h r 1 5 = some (r + 6) := by simp [gA, rd, R.1, rFs, vR]
theorem RegH.g6 (R : RegH h o r eL eO F wk rf sc nl la no oa cL cO) : gA h r 1 6 = some (r + 7) := by simp [gA, rd, R.1, rFs, vR]
theorem RegH.g7 (R : RegH h o r eL eO F wk rf sc nl la no oa cL cO) : gA h r 1 7 = some (r + 8) := by simp [gA, rd, R.1, rFs, vR]
theorem RegH.g8 (R : RegH h o r eL eO F wk rf sc nl la no oa cL cO) : gA h r 1 8 = some (r + 9) := by simp [gA, rd, R.1, rFs, vR]
theorem RegH.g9 (R : RegH h o r eL eO F wk rf sc nl la no oa cL cO) : gA h r 1 9 = some (r + 10) := by simp [gA, rd, R.1, rFs, vR]
theorem RegH.g10 (R : RegH h o r eL eO F wk rf sc nl la no oa cL cO) : gA h r 1 10 = some (r + 11) := by simp [gA, rd, R.1, rFs, vR]
theorem RegH.g11 (R : RegH h o r eL eO F wk rf sc nl la no oa cL cO) : gA h r 1 11 = some (r + 12) := by simp [gA, rd, R.1, rFs, vR]
theorem RegH.g12 (R : RegH h o r eL eO F wk rf sc nl la no oa cL cO) : gA h r 1 12 = some (r + 13) := by simp [gA, rd, R.1, rFs, vR]
theorem RegH.g13 (R : RegH h o r eL eO F wk rf sc nl la no oa cL cO) : gA h r 1 13 = some (r + 14) := by simp [gA, rd, R.1, rFs, vR]
theorem RegH.g14 (R : RegH h o r eL eO F wk rf sc nl la no oa cL cO) : gA h r 1 14 = some (r + 15) := by simp [gA, rd, R.1, rFs, vR]
theorem RegH.g15 (R : RegH h o r eL eO F wk rf sc nl la no oa cL cO) : gA h r 1 15 = some (r + 16) := by simp [gA, rd, R.1, rFs, vR]
theorem RegH.g16 (R : RegH h o r eL eO F wk rf sc nl la no oa cL cO) : gA h r 1 16 = some (r + 18) := by simp [gA, rd, R.1, rFs, vR]
theorem RegH.g22 (R : RegH h o r eL eO F wk rf sc nl la no oa cL cO) : gA h r 1 22 = some (r + 40) := by simp [gA, rd, R.1, rFs, vR]
theorem RegH.g23 (R : RegH h o r eL eO F wk rf sc nl la no oa cL cO) : gA h r 1 23 = some (r + 34) := by simp [gA, rd, R.1, rFs, vR]
theorem RegH.g24 (R : RegH h o r eL eO F wk rf sc nl la no oa cL cO) : gA h r 1 24 = some (r + 20) := by simp [gA, rd, R.1, rFs, vR]
theorem RegH.g26 (R : RegH h o r eL eO F wk rf sc nl la no oa cL cO) : gA h r 1 26 = some (o) := by simp [gA, rd, R.1, rFs, vR]
theorem RegH.g17 (R : RegH h o r eL eO F wk rf sc nl la no oa cL cO) : gI h r 1 17 = some (wk) := by simp [gI, rd, R.1, rFs, vI]
theorem RegH.g18 (R : RegH h o r eL eO F wk rf sc nl la no oa cL cO) : gI h r 1 18 = some (rf) := by simp [gI, rd, R.1, rFs, vI]
theorem RegH.g19 (R : RegH h o r eL eO F wk rf sc nl la no oa cL cO) : gI h r 1 19 = some (sc.1) := by simp [gI, rd, R.1, rFs, vI]
theorem RegH.g20 (R : RegH h o r eL eO F wk rf sc nl la no oa cL cO) : gI h r 1 20 = some (sc.2.1) := by simp [gI, rd, R.1, rFs, vI]
theorem RegH.g21 (R : RegH h o r eL eO F wk rf sc nl la no oa cL cO) : gI h r 1 21 = some (sc.2.2.1) := by simp [gI, rd, R.1, rFs, vI]
theorem RegH.g25 (R : RegH h o r eL eO F wk rf sc nl la no oa cL cO) : gI h r 1 25 = some (sc.2.2.2) := by simp [gI, rd, R.1, rFs, vI]
theorem RegH.a0 (R : RegH h o r eL eO F wk rf sc nl la no oa cL cO) {j : Nat} (hj : j < 6) : aI h (r + 1) 0 (nI j) = some (F 0 j) := by
  have h0 := R.2.1 0 (by decide)
  rw [show ak 0 = 0 from rfl, show al 0 = 6 from rfl] at h0
  have h0 : h (r + 1) = some (.inl (0, 6, .inl (F 0))) := h0
  simp only [aI, arI, h0, if_true, Option.bind_some]
  rw [gdn ⟨hj, by decide⟩, nI_clamp (by omega)]
theorem RegH.a1 (R : RegH h o r eL eO F wk rf sc nl la no oa cL cO) {j : Nat} (hj : j < 8) : aI h (r + 2) 0 (nI j) = some (F 1 j) := by
  have h0 := R.2.1 1 (by decide)
  rw [show ak 1 = 0 from rfl, show al 1 = 8 from rfl] at h0
  have h0 : h (r + 2) = some (.inl (0, 8, .inl (F 1))) := h0
  simp only [aI, arI, h0, if_true, Option.bind_some]
  rw [gdn ⟨hj, by decide⟩, nI_clamp (by omega)]
theorem RegH.a2 (R : RegH h o r eL eO F wk rf sc nl la no oa cL cO) {j : Nat} (hj : j < 8) : aI h (r + 3) 0 (nI j) = some (F 2 j) := by
  have h0 := R.2.1 2 (by decide)
  rw [show ak 2 = 0 from rfl, show al 2 = 8 from rfl] at h0
  have h0 : h (r + 3) = some (.inl (0, 8, .inl (F 2))) := h0
  simp only [aI, arI, h0, if_true, Option.bind_some]
  rw [gdn ⟨hj, by decide⟩, nI_clamp (by omega)]
theorem RegH.a3 (R : RegH h o r eL eO F wk rf sc nl la no oa cL cO) {j : Nat} (hj : j < 8) : aI h (r + 4) 0 (nI j) = some (F 3 j) := by
  have h0 := R.2.1 3 (by decide)
  rw [show ak 3 = 0 from rfl, show al 3 = 8 from rfl] at h0
  have h0 : h (r + 4) = some (.inl (0, 8, .inl (F 3))) := h0
  simp only [aI, arI, h0, if_true, Option.bind_some]
  rw [gdn ⟨hj, by decide⟩, nI_clamp (by omega)]
theorem RegH.a4 (R : RegH h o r eL eO F wk rf sc nl la no oa cL cO) {j : Nat} (hj : j < 8) : aI h (r + 5) 0 (nI j) = some (F 4 j) := by
  have h0 := R.2.1 4 (by decide)
  rw [show ak 4 = 0 from rfl, show al 4 = 8 from rfl] at h0
  have h0 : h (r + 5) = some (.inl (0, 8, .inl (F 4))) := h0
  simp only [aI, arI, h0, if_true, Option.bind_some]
  rw [gdn ⟨hj, by decide⟩, nI_clamp (by omega)]
theorem RegH.a5 (R : RegH h o r eL eO F wk rf sc nl la no oa cL cO) {j : Nat} (hj : j < 8) : aI h (r + 6) 0 (nI j) = some (F 5 j) := by
  have h0 := R.2.1 5 (by decide)
  rw [show ak 5 = 0 from rfl, show al 5 = 8 from rfl] at h0
  have h0 : h (r + 6) = some (.inl (0, 8, .inl (F 5))) := h0
  simp only [aI, arI, h0, if_true, Option.bind_some]
  rw [gdn ⟨hj, by decide⟩, nI_clamp (by omega)]
theorem RegH.a6 (R : RegH h o r eL eO F wk rf sc nl la no oa cL cO) {j : Nat} (hj : j < 8) : aI h (r + 7) 0 (nI j) = some (F 6 j) := by
  have h0 := R.2.1 6 (by decide)
  rw [show ak 6 = 0 from rfl, show al 6 = 8 from rfl] at h0
  have h0 : h (r + 7) = some (.inl (0, 8, .inl (F 6))) := h0
  simp only [aI, arI, h0, if_true, Option.bind_some]
  rw [gdn ⟨hj, by decide⟩, nI_clamp (by omega)]
theorem RegH.a7 (R : RegH h o r eL eO F wk rf sc nl la no oa cL cO) {j : Nat} (hj : j < 48) : aI h (r + 8) 0 (nI j) = some (F 7 j) := by
  have h0 := R.2.1 7 (by decide)
  rw [show ak 7 = 0 from rfl, show al 7 = 48 from rfl] at h0
  have h0 : h (r + 8) = some (.inl (0, 48, .inl (F 7))) := h0
  simp only [aI, arI, h0, if_true, Option.bind_some]
  rw [gdn ⟨hj, by decide⟩, nI_clamp (by omega)]
theorem RegH.a8 (R : RegH h o r eL eO F wk rf sc nl la no oa cL cO) {j : Nat} (hj : j < 10) : aI h (r + 9) 0 (nI j) = some (F 8 j) := by
  have h0 := R.2.1 8 (by decide)
  rw [show ak 8 = 0 from rfl, show al 8 = 10 from rfl] at h0
  have h0 : h (r + 9) = some (.inl (0, 10, .inl (F 8))) := h0
  simp only [aI, arI, h0, if_true, Option.bind_some]
  rw [gdn ⟨hj, by decide⟩, nI_clamp (by omega)]
theorem RegH.a9 (R : RegH h o r eL eO F wk rf sc nl la no oa cL cO) {j : Nat} (hj : j < 10) : aI h (r + 10) 0 (nI j) = some (F 9 j) := by
  have h0 := R.2.1 9 (by decide)
  rw [show ak 9 = 0 from rfl, show al 9 = 10 from rfl] at h0
  have h0 : h (r + 10) = some (.inl (0, 10, .inl (F 9))) := h0
  simp only [aI, arI, h0, if_true, Option.bind_some]
  rw [gdn ⟨hj, by decide⟩, nI_clamp (by omega)]
theorem RegH.a10 (R : RegH h o r eL eO F wk rf sc nl la no oa cL cO) {j : Nat} (hj : j < 8) : aI h (r + 11) 0 (nI j) = some (F 10 j) := by
  have h0 := R.2.1 10 (by decide)
  rw [show ak 10 = 0 from rfl, show al 10 = 8 from rfl] at h0
  have h0 : h (r + 11) = some (.inl (0, 8, .inl (F 10))) := h0
  simp only [aI, arI, h0, if_true, Option.bind_some]
  rw [gdn ⟨hj, by decide⟩, nI_clamp (by omega)]
theorem RegH.a11 (R : RegH h o r eL eO F wk rf sc nl la no oa cL cO) {j : Nat} (hj : j < 10) : aI h (r + 12) 0 (nI j) = some (F 11 j) := by
  have h0 := R.2.1 11 (by decide)
  rw [show ak 11 = 0 from rfl, show al 11 = 10 from rfl] at h0
  have h0 : h (r + 12) = some (.inl (0, 10, .inl (F 11))) := h0
  simp only [aI, arI, h0, if_true, Option.bind_some]
  rw [gdn ⟨hj, by decide⟩, nI_clamp (by omega)]
theorem RegH.a12 (R : RegH h o r eL eO F wk rf sc nl la no oa cL cO) {j : Nat} (hj : j < 10) : aI h (r + 13) 3 (nI j) = some (F 12 j) := by
  have h0 := R.2.1 12 (by decide)
  rw [show ak 12 = 3 from rfl, show al 12 = 10 from rfl] at h0
  have h0 : h (r + 13) = some (.inl (3, 10, .inl (F 12))) := h0
  simp only [aI, arI, h0, if_true, Option.bind_some]
  rw [gdn ⟨hj, by decide⟩, nI_clamp (by omega)]
theorem RegH.a13 (R : RegH h o r eL eO F wk rf sc nl la no oa cL cO) {j : Nat} (hj : j < 8) : aI h (r + 14) 3 (nI j) = some (F 13 j) := by
  have h0 := R.2.1 13 (by decide)
  rw [show ak 13 = 3 from rfl, show al 13 = 8 from rfl] at h0
  have h0 : h (r + 14) = some (.inl (3, 8, .inl (F 13))) := h0
  simp only [aI, arI, h0, if_true, Option.bind_some]
  rw [gdn ⟨hj, by decide⟩, nI_clamp (by omega)]
theorem RegH.a14 (R : RegH h o r eL eO F wk rf sc nl la no oa cL cO) {j : Nat} (hj : j < 8) : aI h (r + 15) 3 (nI j) = some (F 14 j) := by
  have h0 := R.2.1 14 (by decide)
  rw [show ak 14 = 3 from rfl, show al 14 = 8 from rfl] at h0
  have h0 : h (r + 15) = some (.inl (3, 8, .inl (F 14))) := h0
  simp only [aI, arI, h0, if_true, Option.bind_some]
  rw [gdn ⟨hj, by decide⟩, nI_clamp (by omega)]
end RG
