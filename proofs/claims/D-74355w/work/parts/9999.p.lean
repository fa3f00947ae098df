/-! both worlds and the law's long -/
def WB3 (G : hG) (A : Nat → Prop) (H0 : Heap) (h : AH) (nx o : Nat) (ad : Nat → Nat) (jx : Nat) (ws : va_W) (H : Heap) (locs : List Loc) : Prop :=
  WB2 G A H0 h nx o ad ws H locs ∧ (∃ f : Nat → Int64, hAt G jx (.inl (1, 1, .inr (.inl f))) H) ∧ h jx = none ∧ jx < nx ∧ A jx ∧ ¬ mA o ad jx
section WB3S
variable {p : Program} {l : Launch} {e : Env} {R : Room} {s : State} {m : MethodId} {args : Array Value} {below : List Frame} {meth : Method} {c : Code} {H H0 : Heap} {locs : List Loc} {cells slots mc ms : Nat} {Q : State → Prop} {pc : Nat} {ls : Array Slot} {rest st0 : List Value} {G : hG} {A : Nat → Prop} {h h' : AH} {nx o jx : Nat} {ad : Nat → Nat} {ws ws' : va_W} {v : Value} {P : Prop} {aa : Array Value}
theorem WB3.lt (hL : WB3 G A H0 h nx o ad jx ws H locs) : jx < H.size := by rw [hL.1.1.2.1]; exact hL.2.2.2.1
theorem w3_w (hr : va_Run p l e R s m args below meth c H locs cells slots mc ms (F0 m pc ls st0) rest (bQ G (some v) P h' (nx + mc) (AA h nx) aa) (AA h nx)) (hL : WB3 G A s.heap h nx o ad jx ws H locs)
    (kk : ∀ (H1 : Heap) (locs1 : List Loc), P → WB3 G A s.heap h' (nx + mc) o ad jx ws H1 locs1 → W p l e R s m args below meth c H1 locs1 (cells + mc) (slots + ms) Q (F0 m (pc + 3) ls (v :: rest))) : W p l e R s m args below meth c H locs cells slots Q (F0 m pc ls st0) := by
  intro T hT X
  obtain ⟨vv, st₀, t, T', Lo, h0, X', hLo, e1, e2, ⟨hv, hp, hq, hz, hd, hF⟩, st⟩ := hr T hT X
  cases hv
  have hlt := hL.lt
  obtain ⟨hL, ⟨f, hj⟩, j1, j2, j3, j4⟩ := hL
  have hB := bB_call hL.1 h0 e1 hLo hq hz hd hF
  have hk := hF.2
  rw [h0, ← e1] at hk
  have na : ¬ AA h nx jx := fun q => by
    rcases q with ⟨y, hy⟩ | q
    · rw [j1] at hy; cases hy
    · omega
  have j1' : h' jx = none := by
    cases hx : h' jx with
    | none => rfl
    | some y => exact absurd (hd jx y hx) na
  obtain ⟨t2, a1, b1⟩ := kk T'.heap (locs ++ Lo) hp ⟨hL.comp hd hk hB, ⟨f, hj.kept (hk jx hlt na)⟩, j1', by omega, j3, j4⟩ T' rfl X'
  exact ⟨t2, st t2 a1, b1⟩
theorem w3_m (hr : va_Run p l e R s m args below meth c H locs cells slots 0 0 (F0 m pc ls st0) rest (gQ G.1 hCl (some v) P ws' (mA o ad) aa) (mA o ad)) (hL : WB3 G A s.heap h nx o ad jx ws H locs) (hn : nx = s.heap.size + cells) (hw : ∀ (k : Nat) (q : Nat × va_E), ws'[k]? = some q → mA o ad q.1)
    (kk : ∀ (H1 : Heap) (locs1 : List Loc), P → WB3 G A s.heap h nx o ad jx ws' H1 locs1 → W p l e R s m args below meth c H1 locs1 cells slots Q (F0 m (pc + 3) ls (v :: rest))) : W p l e R s m args below meth c H locs cells slots Q (F0 m pc ls st0) := by
  intro T hT X
  obtain ⟨vv, st₀, t, T', Lo, h0, X', hLo, e1, e2, ⟨hv, hp, hP, hF⟩, st⟩ := hr T hT X
  cases hv
  have hlt := hL.lt
  obtain ⟨hL, ⟨f, hj⟩, j1, j2, j3, j4⟩ := hL
  obtain ⟨hk0, hk⟩ := hF
  rw [h0, ← e1] at hk
  rw [h0] at hk0
  have hle : T'.heap.size ≤ s.heap.size + (cells + 0) := X'.heapSize
  have hz0 := hL.1.2.1
  have hz : T'.heap.size = nx := by rw [e1] at hle ⊢; omega
  obtain ⟨t2, a1, b1⟩ := kk T'.heap (locs ++ Lo) hp ⟨hL.model hz hk (by rw [e1]; exact hP) hw hLo, ⟨f, hj.kept (hk jx hlt j4)⟩, j1, j2, j3, j4⟩ T' rfl X'
  exact ⟨t2, st t2 a1, b1⟩
end WB3S
