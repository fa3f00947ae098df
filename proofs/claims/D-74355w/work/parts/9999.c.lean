/-! both worlds beside each other -/
def WB2 (G : hG) (A : Nat → Prop) (H0 : Heap) (h : AH) (nx o : Nat) (ad : Nat → Nat) (ws : va_W) (H : Heap) (locs : List Loc) : Prop :=
  BI G A H0 h nx H locs ∧ va_P G.1 hCl ws H ∧ (∀ a : Nat, mA o ad a → h a = none ∧ a < nx ∧ A a) ∧ ∀ (k : Nat) (q : Nat × va_E), ws[k]? = some q → mA o ad q.1
section WB2S
variable {p : Program} {l : Launch} {e : Env} {R : Room} {s : State} {m : MethodId} {args : Array Value} {below : List Frame} {meth : Method} {c : Code} {H H0 : Heap} {locs : List Loc} {cells slots mc ms : Nat} {Q : State → Prop} {pc : Nat} {ls : Array Slot} {rest st0 : List Value} {G : hG} {A : Nat → Prop} {h h' : AH} {nx o : Nat} {ad : Nat → Nat} {ws ws' : va_W} {v : Value} {P : Prop} {aa : Array Value}
theorem WB2.comp (hL : WB2 G A H0 h nx o ad ws H locs) {H1 : Heap} {locs1 : List Loc} {mc : Nat} (hd : ∀ (q : Nat) (e : hE), h' q = some e → AA h nx q) (hk : ∀ q : Nat, q < H.size → ¬ AA h nx q → H1[q]? = H[q]?) (hB : BI G A H0 h' (nx + mc) H1 locs1) : WB2 G A H0 h' (nx + mc) o ad ws H1 locs1 := by
  obtain ⟨h1, h2, h3, h4⟩ := hL
  have na : ∀ a : Nat, mA o ad a → ¬ AA h nx a := fun a ha q => by
    obtain ⟨k1, k2, -⟩ := h3 a ha
    rcases q with ⟨x, hx⟩ | q
    · rw [k1] at hx; cases hx
    · omega
  refine ⟨hB, fun k q hq => ?_, fun a ha => ?_, h4⟩
  · have ha := h4 k q hq
    exact (h2 k q hq).kept (hk q.1 (h2 k q hq).lt (na _ ha))
  · obtain ⟨k1, k2, k3⟩ := h3 a ha
    refine ⟨?_, by omega, k3⟩
    cases hx : h' a with
    | none => rfl
    | some x => exact absurd (hd a x hx) (na a ha)
theorem WB2.model (hL : WB2 G A H0 h nx o ad ws H locs) {H1 : Heap} {Lo : List Loc} (hz : H1.size = nx) (hk : ∀ q : Nat, q < H.size → ¬ mA o ad q → H1[q]? = H[q]?) (hP : va_P G.1 hCl ws' H1) (hw : ∀ (k : Nat) (q : Nat × va_E), ws'[k]? = some q → mA o ad q.1) (hLo : ∀ z ∈ Lo, mA o ad z.base) : WB2 G A H0 h nx o ad ws' H1 (locs ++ Lo) := by
  obtain ⟨h1, h2, h3, h4⟩ := hL
  refine ⟨⟨fun q x hx => ?_, hz, h1.2.2.1, ⟨by rw [hz, ← h1.2.1]; exact h1.2.2.2.1.1, fun q g1 g2 => ?_, fun z hz => ?_⟩, h1.2.2.2.2⟩, hP, h3, hw⟩
  · have hl := (h1.1 q x hx).lt
    refine (h1.1 q x hx).kept (hk q hl (fun ha => ?_))
    rw [(h3 q ha).1] at hx
    cases hx
  · have hl : q < H.size := Nat.lt_of_lt_of_le g1 h1.2.2.2.1.1
    rw [hk q hl (fun ha => g2 (h3 q ha).2.2)]
    exact h1.2.2.2.1.2.1 q g1 g2
  · rcases List.mem_append.mp hz with g | g
    · exact h1.2.2.2.1.2.2 z g
    · exact (h3 _ (hLo z g)).2.2
theorem wb_w (hr : va_Run p l e R s m args below meth c H locs cells slots mc ms (F0 m pc ls st0) rest (bQ G (some v) P h' (nx + mc) (AA h nx) aa) (AA h nx)) (hL : WB2 G A s.heap h nx o ad ws H locs)
    (kk : ∀ (H1 : Heap) (locs1 : List Loc), P → WB2 G A s.heap h' (nx + mc) o ad ws H1 locs1 → W p l e R s m args below meth c H1 locs1 (cells + mc) (slots + ms) Q (F0 m (pc + 3) ls (v :: rest))) : W p l e R s m args below meth c H locs cells slots Q (F0 m pc ls st0) := by
  intro T hT X
  obtain ⟨vv, st₀, t, T', Lo, h0, X', hLo, e1, e2, ⟨hv, hp, hq, hz, hd, hF⟩, st⟩ := hr T hT X
  cases hv
  have hB := bB_call hL.1 h0 e1 hLo hq hz hd hF
  have hk := hF.2
  rw [h0, ← e1] at hk
  obtain ⟨t2, a1, b1⟩ := kk T'.heap (locs ++ Lo) hp (hL.comp hd hk hB) T' rfl X'
  exact ⟨t2, st t2 a1, b1⟩
/-- a call of a method without an answer -/
theorem wb_v (hr : va_Run p l e R s m args below meth c H locs cells slots mc ms (F0 m pc ls st0) rest (bQ G none P h' (nx + mc) (AA h nx) aa) (AA h nx)) (hL : WB2 G A s.heap h nx o ad ws H locs)
    (kk : ∀ (H1 : Heap) (locs1 : List Loc), P → WB2 G A s.heap h' (nx + mc) o ad ws H1 locs1 → W p l e R s m args below meth c H1 locs1 (cells + mc) (slots + ms) Q (F0 m (pc + 3) ls rest)) : W p l e R s m args below meth c H locs cells slots Q (F0 m pc ls st0) := by
  intro T hT X
  obtain ⟨vv, st₀, t, T', Lo, h0, X', hLo, e1, e2, ⟨hv, hp, hq, hz, hd, hF⟩, st⟩ := hr T hT X
  cases hv
  have hB := bB_call hL.1 h0 e1 hLo hq hz hd hF
  have hk := hF.2
  rw [h0, ← e1] at hk
  obtain ⟨t2, a1, b1⟩ := kk T'.heap (locs ++ Lo) hp (hL.comp hd hk hB) T' rfl X'
  exact ⟨t2, st t2 a1, b1⟩
/-- a call of the reference -/
theorem wb_m (hr : va_Run p l e R s m args below meth c H locs cells slots 0 0 (F0 m pc ls st0) rest (gQ G.1 hCl (some v) P ws' (mA o ad) aa) (mA o ad)) (hL : WB2 G A s.heap h nx o ad ws H locs) (hn : nx = s.heap.size + cells) (hw : ∀ (k : Nat) (q : Nat × va_E), ws'[k]? = some q → mA o ad q.1)
    (kk : ∀ (H1 : Heap) (locs1 : List Loc), P → WB2 G A s.heap h nx o ad ws' H1 locs1 → W p l e R s m args below meth c H1 locs1 cells slots Q (F0 m (pc + 3) ls (v :: rest))) : W p l e R s m args below meth c H locs cells slots Q (F0 m pc ls st0) := by
  intro T hT X
  obtain ⟨vv, st₀, t, T', Lo, h0, X', hLo, e1, e2, ⟨hv, hp, hP, hF⟩, st⟩ := hr T hT X
  cases hv
  obtain ⟨hk0, hk⟩ := hF
  rw [h0, ← e1] at hk
  rw [h0] at hk0
  have hle : T'.heap.size ≤ s.heap.size + (cells + 0) := X'.heapSize
  have hz0 := hL.1.2.1
  have hz : T'.heap.size = nx := by rw [e1] at hle ⊢; omega
  obtain ⟨t2, a1, b1⟩ := kk T'.heap (locs ++ Lo) hp (hL.model hz hk (by rw [e1]; exact hP) hw hLo) T' rfl X'
  exact ⟨t2, st t2 a1, b1⟩
end WB2S
