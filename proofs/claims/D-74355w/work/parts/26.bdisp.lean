/-! what a call through an interface does, by the lambda's site -/
def lL0 (E : bE) (h : AH) (nx : Nat) (vs : List Value) (a : Int32) : Option (Int32 × AH × Nat × Nat) := match vs with
  | [.ref b0] => gd (isO h b0 1) ((f_X2_lambda_new_0 E h b0 a).bind fun v => some (v, h, 0, 0))
  | _ => none
def lL1 (E : bE) (h : AH) (nx : Nat) (vs : List Value) (a : Int32) : Option (Int32 × AH × Nat × Nat) := match vs with
  | [.ref b0] => gd (isO h b0 1) ((f_X2_lambda_new_1 E h b0 a).bind fun v => some (v, h, 0, 0))
  | _ => none
def lL2 (E : bE) (h : AH) (nx : Nat) (vs : List Value) (a : Int32) : Option (Int32 × AH × Nat × Nat) := match vs with
  | [.ref b0] => gd (isO h b0 1) ((f_X2_lambda_new_2 E h b0 a).bind fun v => some (v, h, 0, 0))
  | _ => none
def lL3 (E : bE) (h : AH) (nx : Nat) (vs : List Value) (a : Int32) : Option (Int32 × AH × Nat × Nat) := match vs with
  | [.ref b0] => gd (isO h b0 1) ((f_X2_lambda_new_3 E h b0 a).bind fun v => some (v, h, 0, 0))
  | _ => none
def lL4 (E : bE) (h : AH) (nx : Nat) (vs : List Value) (a : Int32) : Option (Int32 × AH × Nat × Nat) := match vs with
  | [.ref b0] => gd (isO h b0 1) ((f_X2_lambda_new_4 E h b0 a).bind fun v => some (v, h, 0, 0))
  | _ => none
def lL5 (E : bE) (h : AH) (nx : Nat) (vs : List Value) (a : Int32) : Option (Int32 × AH × Nat × Nat) := match vs with
  | [.ref b0] => gd (isO h b0 1) ((f_X2_lambda_new_5 E h b0 a).bind fun v => some (v, h, 0, 0))
  | _ => none
def lL6 (E : bE) (h : AH) (nx : Nat) (vs : List Value) (a : Int32) : Option (Int32 × AH × Nat × Nat) := match vs with
  | [.ref b0] => gd (isO h b0 1) ((f_X2_bandThought E h b0 a).bind fun v => some (v, h, 0, 0))
  | _ => none
def lL7 (E : bE) (h : AH) (nx : Nat) (vs : List Value) (a : Int32) (a2 : Int32) : Option (Int32 × AH × Nat × Nat) := match vs with
  | [.ref b0] => (f_X1_lambda_rising_1 E h nx b0 a a2)
  | _ => none
def lL8 (E : bE) (h : AH) (nx : Nat) (vs : List Value) (a : Int32) : Option (Int32 × AH × Nat × Nat) := match vs with
  | [.ref b0] => gd (isO h b0 1) ((f_X2_dayOf E h b0 a).bind fun v => some (v, h, 0, 0))
  | _ => none
def lL9 (E : bE) (h : AH) (nx : Nat) (vs : List Value) (a : Int32) : Option (Int32 × AH × Nat × Nat) := match vs with
  | [.ref b0] => gd (isO h b0 1) ((f_X2_numberOf E h b0 a).bind fun v => some (v, h, 0, 0))
  | _ => none
def lL10 (E : bE) (h : AH) (nx : Nat) (vs : List Value) (a : Int32) (a2 : Int32) : Option (Int32 × AH × Nat × Nat) := match vs with
  | [.ref b0] => (f_X1_lambda_inTurn_0 E h nx b0 a a2)
  | _ => none
def lL11 (E : bE) (h : AH) (nx : Nat) (vs : List Value) (a : Int32) : Option (Int32 × AH × Nat × Nat) := match vs with
  | [.ref b0] => gd (isO h b0 1) ((f_X2_isTied E h b0 a).bind fun v => some (v, h, 0, 0))
  | _ => none
def lL12 (E : bE) (h : AH) (nx : Nat) (vs : List Value) (a : Int32) (a2 : Int32) : Option (Int32 × AH × Nat × Nat) := match vs with
  | [.ref b0] => (f_X1_lambda_sooner_2 E h nx b0 a a2)
  | _ => none
def lL13 (E : bE) (h : AH) (nx : Nat) (vs : List Value) (a : Int32) : Option (Int32 × AH × Nat × Nat) := match vs with
  | [.ref b0] => gd (isO h b0 1) ((f_X2_isMoving E h b0 a).bind fun v => some (v, h, 0, 0))
  | _ => none
def lL14 (E : bE) (h : AH) (nx : Nat) (vs : List Value) (a : Int32) : Option (Int32 × AH × Nat × Nat) := match vs with
  | [.ref b0] => gd (isO h b0 0) ((f_X1_lambda_many_7 E h b0 a).bind fun v => some (v, h, 0, 0))
  | _ => none
def lL15 (E : bE) (h : AH) (nx : Nat) (vs : List Value) (a : Int32) : Option (Int32 × AH × Nat × Nat) := match vs with
  | [.ref b0] => ((f_X1_lambda_freeHomes_3 E h b0 a).bind fun v => some (v, h, 0, 0))
  | _ => none
def lL16 (E : bE) (h : AH) (nx : Nat) (vs : List Value) (a : Int32) : Option (Int32 × AH × Nat × Nat) := match vs with
  | [.ref b0] => ((f_X1_lambda_inQueue_4 E h b0 a).bind fun v => some (v, h, 0, 0))
  | _ => none
def lL17 (E : bE) (h : AH) (nx : Nat) (vs : List Value) (a : Int32) : Option (Int32 × AH × Nat × Nat) := match vs with
  | [.ref b0, .int b1] => gd (isO h b0 0) ((f_X1_lambda_home_8 E h b0 b1 a).bind fun v => some (v, h, 0, 0))
  | _ => none
def lL18 (E : bE) (h : AH) (nx : Nat) (vs : List Value) (a : Int32) : Option (Int32 × AH × Nat × Nat) := match vs with
  | [.ref b0, .int b1] => gd (isO h b0 0) ((f_X1_lambda_home_9 E h b0 b1 a).bind fun v => some (v, h, 0, 0))
  | _ => none
def lL19 (E : bE) (h : AH) (nx : Nat) (vs : List Value) (a : Int32) : Option (Int32 × AH × Nat × Nat) := match vs with
  | [.ref b0, .int b1, .ref b2] => gd (isO h b0 0) ((f_X1_lambda_order_10 E h b0 b1 b2 a).bind fun v => some (v, h, 0, 0))
  | _ => none
def lL20 (E : bE) (h : AH) (nx : Nat) (vs : List Value) (a : Int32) (a2 : Int32) : Option (Int32 × AH × Nat × Nat) := match vs with
  | [.ref b0, .int b1] => gd (isO h b0 1) (f_X2_lambda_firstFor_6 E h nx b0 b1 a a2)
  | _ => none
def lL21 (E : bE) (h : AH) (nx : Nat) (vs : List Value) (a : Int32) : Option (Int32 × AH × Nat × Nat) := match vs with
  | [.ref b0, .int b1, .int b2] => gd (isO h b0 0) (f_X1_lambda_ahead_11 E h nx b0 b1 b2 a)
  | _ => none
def lL22 (E : bE) (h : AH) (nx : Nat) (vs : List Value) (a : Int32) : Option (Int32 × AH × Nat × Nat) := match vs with
  | [.ref b0] => ((f_X1_lambda_greatestChain_6 E h b0 a).bind fun v => some (v, h, 0, 0))
  | _ => none
def lL23 (E : bE) (h : AH) (nx : Nat) (vs : List Value) (a : Int32) : Option (Int32 × AH × Nat × Nat) := match vs with
  | [.ref b0] => ((f_X1_lambda_tally_12 E h b0 a).bind fun v => some (v, h, 0, 0))
  | _ => none
def lL24 (E : bE) (h : AH) (nx : Nat) (vs : List Value) (a : Int32) : Option (Int32 × AH × Nat × Nat) := match vs with
  | [.ref b0] => ((f_X1_lambda_tally_13 E h b0 a).bind fun v => some (v, h, 0, 0))
  | _ => none
def lL25 (E : bE) (h : AH) (nx : Nat) (vs : List Value) (a : Int32) : Option (Int32 × AH × Nat × Nat) := match vs with
  | [.ref b0] => ((f_X1_lambda_passedBy_5 E h b0 a).bind fun v => some (v, h, 0, 0))
  | _ => none
def lL26 (E : bE) (h : AH) (nx : Nat) (vs : List Value) (a : Int32) : Option (Int32 × AH × Nat × Nat) := match vs with
  | [.ref b0, .int b1] => gd (isO h b0 0) ((f_X1_lambda_lack_14 E h b0 b1 a).bind fun v => some (v, h, 0, 0))
  | _ => none
def lL27 (E : bE) (h : AH) (nx : Nat) (vs : List Value) (a : Int32) : Option (Int32 × AH × Nat × Nat) := match vs with
  | [.ref b0, .int b1] => gd (isO h b0 0) ((f_X1_lambda_lack_15 E h b0 b1 a).bind fun v => some (v, h, 0, 0))
  | _ => none
def lL28 (E : bE) (h : AH) (nx : Nat) (vs : List Value) (a : Int32) : Option (Int32 × AH × Nat × Nat) := match vs with
  | [.ref b0, .int b1] => gd (isO h b0 0) (f_X1_lambda_tip_17 E h nx b0 b1 a)
  | _ => none
def lL29 (E : bE) (h : AH) (nx : Nat) (vs : List Value) (a : Int32) : Option (Int32 × AH × Nat × Nat) := match vs with
  | [.ref b0, .int b1] => gd (isO h b0 0) (f_X1_lambda_tip_18 E h nx b0 b1 a)
  | _ => none
def lL30 (E : bE) (h : AH) (nx : Nat) (vs : List Value) (a : Int32) : Option (Int32 × AH × Nat × Nat) := match vs with
  | [.ref b0, .int b1, .int b2] => gd (isO h b0 0) (f_X1_lambda_aheadOf_16 E h nx b0 b1 b2 a)
  | _ => none
def lL31 (E : bE) (h : AH) (nx : Nat) (vs : List Value) (a : Int32) : Option (Int32 × AH × Nat × Nat) := match vs with
  | [.ref b0, .int b1] => gd (isO h b0 0) ((f_X1_lambda_tip_19 E h b0 b1 a).bind fun v => some (v, h, 0, 0))
  | _ => none
def lL32 (E : bE) (h : AH) (nx : Nat) (vs : List Value) (a : Int32) : Option (Int32 × AH × Nat × Nat) := match vs with
  | [.ref b0, .int b1] => gd (isO h b0 0) ((f_X1_lambda_top_20 E h b0 b1 a).bind fun v => some (v, h, 0, 0))
  | _ => none
def lL33 (E : bE) (h : AH) (nx : Nat) (vs : List Value) (a : Int32) : Option (Int32 × AH × Nat × Nat) := match vs with
  | [.ref b0, .int b1] => gd (isO h b0 0) ((f_X1_lambda_lot_21 E h b0 b1 a).bind fun v => some (v, h, 0, 0))
  | _ => none
def lL34 (E : bE) (h : AH) (nx : Nat) (vs : List Value) (a : Int32) : Option (Int32 × AH × Nat × Nat) := match vs with
  | [.ref b0, .int b1, .int b2] => gd (isO h b0 0) ((f_X1_lambda_fits_22 E h b0 b1 b2 a).bind fun v => some (v, h, 0, 0))
  | _ => none
def lL35 (E : bE) (h : AH) (nx : Nat) (vs : List Value) (a : Int32) : Option (Int32 × AH × Nat × Nat) := match vs with
  | [.ref b0] => gd (isO h b0 0) (f_X1_lambda_ward_26 E h nx b0 a)
  | _ => none
def lL36 (E : bE) (h : AH) (nx : Nat) (vs : List Value) (a : Int32) : Option (Int32 × AH × Nat × Nat) := match vs with
  | [.ref b0, .int b1] => gd (isO h b0 0) ((f_X1_lambda_ward_25 E h b0 b1 a).bind fun v => some (v, h, 0, 0))
  | _ => none
def lL37 (E : bE) (h : AH) (nx : Nat) (vs : List Value) (a : Int32) : Option (Int32 × AH × Nat × Nat) := match vs with
  | [.ref b0] => gd (isO h b0 0) (f_X1_lambda_ward_27 E h nx b0 a)
  | _ => none
def lL38 (E : bE) (h : AH) (nx : Nat) (vs : List Value) (a : Int32) : Option (Int32 × AH × Nat × Nat) := match vs with
  | [.ref b0, .int b1] => gd (isO h b0 0) ((f_X1_lambda_muchOf_23 E h b0 b1 a).bind fun v => some (v, h, 0, 0))
  | _ => none
def lL39 (E : bE) (h : AH) (nx : Nat) (vs : List Value) (a : Int32) : Option (Int32 × AH × Nat × Nat) := match vs with
  | [.ref b0, .int b1] => gd (isO h b0 0) ((f_X1_lambda_muchOf_24 E h b0 b1 a).bind fun v => some (v, h, 0, 0))
  | _ => none
def lL40 (E : bE) (h : AH) (nx : Nat) (vs : List Value) (a : Int32) : Option (Int32 × AH × Nat × Nat) := match vs with
  | [.ref b0, .ref b1] => gd (isO h b0 0) ((f_X1_lambda_queue_28 E h b0 b1 a).bind fun v => some (v, h, 0, 0))
  | _ => none
def lL41 (E : bE) (h : AH) (nx : Nat) (vs : List Value) (a : Int32) : Option (Int32 × AH × Nat × Nat) := match vs with
  | [.ref b0, .ref b1] => gd (isO h b0 0) ((f_X1_lambda_trades_29 E h b0 b1 a).bind fun v => some (v, h, 0, 0))
  | _ => none
def dISk (E : bE) (h : AH) (nx k : Nat) (vs : List Value) (a : Int32) : Option (Int32 × AH × Nat × Nat) :=
  if k = 0 then lL0 E h nx vs a else if k = 1 then lL1 E h nx vs a else if k = 2 then lL2 E h nx vs a else if k = 3 then lL3 E h nx vs a else if k = 4 then lL4 E h nx vs a else if k = 5 then lL5 E h nx vs a else if k = 11 then lL11 E h nx vs a else if k = 13 then lL13 E h nx vs a else if k = 15 then lL15 E h nx vs a else if k = 16 then lL16 E h nx vs a else if k = 17 then lL17 E h nx vs a else if k = 18 then lL18 E h nx vs a else if k = 19 then lL19 E h nx vs a else if k = 21 then lL21 E h nx vs a else if k = 23 then lL23 E h nx vs a else if k = 24 then lL24 E h nx vs a else if k = 26 then lL26 E h nx vs a else if k = 27 then lL27 E h nx vs a else if k = 28 then lL28 E h nx vs a else if k = 30 then lL30 E h nx vs a else if k = 32 then lL32 E h nx vs a else if k = 35 then lL35 E h nx vs a else if k = 36 then lL36 E h nx vs a else if k = 38 then lL38 E h nx vs a else if k = 39 then lL39 E h nx vs a else if k = 40 then lL40 E h nx vs a else if k = 41 then lL41 E h nx vs a else  none
def dIS (E : bE) : tIS := fun h nx q a => match h q with
  | some (.inr (.inr z)) => dISk E h nx z.1 z.2 a
  | _ => none
def dBYk (E : bE) (h : AH) (nx k : Nat) (vs : List Value) (a a2 : Int32) : Option (Int32 × AH × Nat × Nat) :=
  if k = 7 then lL7 E h nx vs a a2 else if k = 10 then lL10 E h nx vs a a2 else if k = 12 then lL12 E h nx vs a a2 else if k = 20 then lL20 E h nx vs a a2 else  none
def dBY (E : bE) : tBY := fun h nx q a a2 => match h q with
  | some (.inr (.inr z)) => dBYk E h nx z.1 z.2 a a2
  | _ => none
def dOFk (E : bE) (h : AH) (nx k : Nat) (vs : List Value) (a : Int32) : Option (Int32 × AH × Nat × Nat) :=
  if k = 6 then lL6 E h nx vs a else if k = 8 then lL8 E h nx vs a else if k = 9 then lL9 E h nx vs a else if k = 14 then lL14 E h nx vs a else if k = 22 then lL22 E h nx vs a else if k = 25 then lL25 E h nx vs a else if k = 29 then lL29 E h nx vs a else if k = 31 then lL31 E h nx vs a else if k = 33 then lL33 E h nx vs a else if k = 34 then lL34 E h nx vs a else if k = 37 then lL37 E h nx vs a else  none
def dOF (E : bE) : tIS := fun h nx q a => match h q with
  | some (.inr (.inr z)) => dOFk E h nx z.1 z.2 a
  | _ => none
/-- the environment by the depth of calls through interfaces -/
def dE (zs : Nat → Nat) : Nat → bE
  | 0 => (zs, fun _ _ _ _ => none, fun _ _ _ _ _ => none, fun _ _ _ _ => none)
  | n + 1 => (zs, dIS (dE zs n), dBY (dE zs n), dOF (dE zs n))
theorem dE_1 {zs : Nat → Nat} : ∀ n, (dE zs n).1 = zs
  | 0 => rfl
  | _ + 1 => rfl
def okS1 (l : Launch) (G : hG) (zs : Nat → Nat) (j : Nat) (F : AH → Nat → List Value → Int32 → Option (Int32 × AH × Nat × Nat)) (x : MethodName) (P : Int32 → Prop) (fE lE : Nat) : Prop := ∀ (p : Program) (e : Env) (R : Room) (s : State) (m : MethodId) (args : Array Value) (below : List Frame) (meth : Method) (c : Code) (cc : ByteArray) (nL : Nat) (own : String) (H : Heap) (locs : List Loc) (cells slots : Nat) (Q : State → Prop) (pc : Nat) (ls : Array Slot) (rest : List Value) (A : Nat → Prop) (h : AH) (nx idx cnt q : Nat) (a : Int32) (vs : List Value) (out : Int32 × AH × Nat × Nat),
  CallFix p m c cc nL s args lw_all own → SK G zs hSites A s → BI G A s.heap h nx H locs → (Cond.methodLink own idx x).before args s = true → h q = some (.inr (.inr (j, vs))) → F h nx vs a = some out → ls.size = nL → (fE + 1 ≤ R.frames ∧ 8 + (2 + 11) + lE ≤ R.locals) → (rest.map fun v => v.category).sum ≤ 8 → (cells + out.2.2.1 ≤ R.cells ∧ slots + out.2.2.2 ≤ R.slots) → decode cc pc = .ok (.invokeinterface idx cnt, 5) →
  (∀ (H1 : Heap) (locs1 : List Loc), P out.1 → BI G A s.heap out.2.1 (nx + out.2.2.1) H1 locs1 → W p l e R s m args below meth c H1 locs1 (cells + out.2.2.1) (slots + out.2.2.2) Q (F0 m (pc + 5) ls (.int out.1 :: rest))) → W p l e R s m args below meth c H locs cells slots Q (F0 m pc ls (.int a :: .ref q :: rest))
def okS2 (l : Launch) (G : hG) (zs : Nat → Nat) (j : Nat) (F : AH → Nat → List Value → Int32 → Int32 → Option (Int32 × AH × Nat × Nat)) (x : MethodName) (fE lE : Nat) : Prop := ∀ (p : Program) (e : Env) (R : Room) (s : State) (m : MethodId) (args : Array Value) (below : List Frame) (meth : Method) (c : Code) (cc : ByteArray) (nL : Nat) (own : String) (H : Heap) (locs : List Loc) (cells slots : Nat) (Q : State → Prop) (pc : Nat) (ls : Array Slot) (rest : List Value) (A : Nat → Prop) (h : AH) (nx idx cnt q : Nat) (a a2 : Int32) (vs : List Value) (out : Int32 × AH × Nat × Nat),
  CallFix p m c cc nL s args lw_all own → SK G zs hSites A s → BI G A s.heap h nx H locs → (Cond.methodLink own idx x).before args s = true → h q = some (.inr (.inr (j, vs))) → F h nx vs a a2 = some out → ls.size = nL → (fE + 1 ≤ R.frames ∧ 8 + (3 + 11) + lE ≤ R.locals) → (rest.map fun v => v.category).sum ≤ 8 → (cells + out.2.2.1 ≤ R.cells ∧ slots + out.2.2.2 ≤ R.slots) → decode cc pc = .ok (.invokeinterface idx cnt, 5) →
  (∀ (H1 : Heap) (locs1 : List Loc), True → BI G A s.heap out.2.1 (nx + out.2.2.1) H1 locs1 → W p l e R s m args below meth c H1 locs1 (cells + out.2.2.1) (slots + out.2.2.2) Q (F0 m (pc + 5) ls (.int out.1 :: rest))) → W p l e R s m args below meth c H locs cells slots Q (F0 m pc ls (.int a2 :: .int a :: .ref q :: rest))
section FLD
variable {cc : ByteArray} {fi : Nat → Nat} {n : Nat}
theorem fL1 (a0 : decode cc 0 = .ok (.aload_n 0, 1)) (b0 : decode cc 1 = .ok (.getfield (fi 0), 3)) : ∀ j, j < 1 → decode cc (4 * j) = .ok (.aload_n 0, 1) ∧ decode cc (4 * j + 1) = .ok (.getfield (fi j), 3)
  | 0, _ => ⟨a0, b0⟩
  | j + 1, h => absurd h (by omega)
theorem fL2 (a0 : decode cc 0 = .ok (.aload_n 0, 1)) (b0 : decode cc 1 = .ok (.getfield (fi 0), 3)) (a1 : decode cc 4 = .ok (.aload_n 0, 1)) (b1 : decode cc 5 = .ok (.getfield (fi 1), 3)) : ∀ j, j < 2 → decode cc (4 * j) = .ok (.aload_n 0, 1) ∧ decode cc (4 * j + 1) = .ok (.getfield (fi j), 3)
  | 0, _ => ⟨a0, b0⟩
  | 1, _ => ⟨a1, b1⟩
  | j + 2, h => absurd h (by omega)
theorem fL3 (a0 : decode cc 0 = .ok (.aload_n 0, 1)) (b0 : decode cc 1 = .ok (.getfield (fi 0), 3)) (a1 : decode cc 4 = .ok (.aload_n 0, 1)) (b1 : decode cc 5 = .ok (.getfield (fi 1), 3)) (a2 : decode cc 8 = .ok (.aload_n 0, 1)) (b2 : decode cc 9 = .ok (.getfield (fi 2), 3)) : ∀ j, j < 3 → decode cc (4 * j) = .ok (.aload_n 0, 1) ∧ decode cc (4 * j + 1) = .ok (.getfield (fi j), 3)
  | 0, _ => ⟨a0, b0⟩
  | 1, _ => ⟨a1, b1⟩
  | 2, _ => ⟨a2, b2⟩
  | j + 3, h => absurd h (by omega)
theorem fA1 (a0 : decode cc n = .ok (.iload_n 1, 1)) : ∀ i, i < 1 → ∃ k4 : Fin 4, (k4 : Nat) = i + 1 ∧ decode cc (n + i) = .ok (.iload_n k4, 1)
  | 0, _ => ⟨1, rfl, a0⟩
  | j + 1, h => absurd h (by omega)
theorem fA2 (a0 : decode cc n = .ok (.iload_n 1, 1)) (a1 : decode cc (n + 1) = .ok (.iload_n 2, 1)) : ∀ i, i < 2 → ∃ k4 : Fin 4, (k4 : Nat) = i + 1 ∧ decode cc (n + i) = .ok (.iload_n k4, 1)
  | 0, _ => ⟨1, rfl, a0⟩
  | 1, _ => ⟨2, rfl, a1⟩
  | j + 2, h => absurd h (by omega)
end FLD
