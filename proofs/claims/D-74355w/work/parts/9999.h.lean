/-! the law's relation between the two objects -/
/-- the reference's components -/
def MOr : Type := Int32 × Int32 × Int32 × Int32 × Int32 × Int32 × Int32 × Int32 × Int32 × Int32 × Int32 × Int32 × Int32 × Int32 × Int64 × Int32 × Int32 × Int32 × Int32 × (Nat → Int32) × (Nat → Int32) × (Nat → Int32) × (Nat → Int32) × (Nat → Int32) × (Nat → Int64) × (Nat → Int64) × (Nat → Int32) × (Nat → Int32) × (Nat → Int32) × (Nat → Int32) × (Nat → Int32) × (Nat → Int32) × (Nat → Int32)
def MOr.th (m : MOr) : Int32 := m.1
def MOr.tp (m : MOr) : Int32 := m.2.1
def MOr.st (m : MOr) : Int32 := m.2.2.1
def MOr.fk (m : MOr) : Int32 := m.2.2.2.1
def MOr.fp (m : MOr) : Int32 := m.2.2.2.2.1
def MOr.ac (m : MOr) : Int32 := m.2.2.2.2.2.1
def MOr.si (m : MOr) : Int32 := m.2.2.2.2.2.2.1
def MOr.fr (m : MOr) : Int32 := m.2.2.2.2.2.2.2.1
def MOr.tt (m : MOr) : Int32 := m.2.2.2.2.2.2.2.2.1
def MOr.kd (m : MOr) : Int32 := m.2.2.2.2.2.2.2.2.2.1
def MOr.nu (m : MOr) : Int32 := m.2.2.2.2.2.2.2.2.2.2.1
def MOr.fa (m : MOr) : Int32 := m.2.2.2.2.2.2.2.2.2.2.2.1
def MOr.pl (m : MOr) : Int32 := m.2.2.2.2.2.2.2.2.2.2.2.2.1
def MOr.fo (m : MOr) : Int32 := m.2.2.2.2.2.2.2.2.2.2.2.2.2.1
def MOr.wd (m : MOr) : Int64 := m.2.2.2.2.2.2.2.2.2.2.2.2.2.2.1
def MOr.ci (m : MOr) : Int32 := m.2.2.2.2.2.2.2.2.2.2.2.2.2.2.2.1
def MOr.gr (m : MOr) : Int32 := m.2.2.2.2.2.2.2.2.2.2.2.2.2.2.2.2.1
def MOr.lm (m : MOr) : Int32 := m.2.2.2.2.2.2.2.2.2.2.2.2.2.2.2.2.2.1
def MOr.om (m : MOr) : Int32 := m.2.2.2.2.2.2.2.2.2.2.2.2.2.2.2.2.2.2.1
def MOr.nw (m : MOr) : Nat → Int32 := m.2.2.2.2.2.2.2.2.2.2.2.2.2.2.2.2.2.2.2.1
def MOr.rd (m : MOr) : Nat → Int32 := m.2.2.2.2.2.2.2.2.2.2.2.2.2.2.2.2.2.2.2.2.1
def MOr.aa (m : MOr) : Nat → Int32 := m.2.2.2.2.2.2.2.2.2.2.2.2.2.2.2.2.2.2.2.2.2.1
def MOr.kp (m : MOr) : Nat → Int32 := m.2.2.2.2.2.2.2.2.2.2.2.2.2.2.2.2.2.2.2.2.2.2.1
def MOr.ta (m : MOr) : Nat → Int32 := m.2.2.2.2.2.2.2.2.2.2.2.2.2.2.2.2.2.2.2.2.2.2.2.1
def MOr.nm (m : MOr) : Nat → Int64 := m.2.2.2.2.2.2.2.2.2.2.2.2.2.2.2.2.2.2.2.2.2.2.2.2.1
def MOr.rn (m : MOr) : Nat → Int64 := m.2.2.2.2.2.2.2.2.2.2.2.2.2.2.2.2.2.2.2.2.2.2.2.2.2.1
def MOr.gv (m : MOr) : Nat → Int32 := m.2.2.2.2.2.2.2.2.2.2.2.2.2.2.2.2.2.2.2.2.2.2.2.2.2.2.1
def MOr.gt (m : MOr) : Nat → Int32 := m.2.2.2.2.2.2.2.2.2.2.2.2.2.2.2.2.2.2.2.2.2.2.2.2.2.2.2.1
def MOr.rw (m : MOr) : Nat → Int32 := m.2.2.2.2.2.2.2.2.2.2.2.2.2.2.2.2.2.2.2.2.2.2.2.2.2.2.2.2.1
def MOr.rh (m : MOr) : Nat → Int32 := m.2.2.2.2.2.2.2.2.2.2.2.2.2.2.2.2.2.2.2.2.2.2.2.2.2.2.2.2.2.1
def MOr.lg (m : MOr) : Nat → Int32 := m.2.2.2.2.2.2.2.2.2.2.2.2.2.2.2.2.2.2.2.2.2.2.2.2.2.2.2.2.2.2.1
def MOr.lh (m : MOr) : Nat → Int32 := m.2.2.2.2.2.2.2.2.2.2.2.2.2.2.2.2.2.2.2.2.2.2.2.2.2.2.2.2.2.2.2.1
def MOr.ou (m : MOr) : Nat → Int32 := m.2.2.2.2.2.2.2.2.2.2.2.2.2.2.2.2.2.2.2.2.2.2.2.2.2.2.2.2.2.2.2.2
def mkM (th : Int32) (tp : Int32) (st : Int32) (fk : Int32) (fp : Int32) (ac : Int32) (si : Int32) (fr : Int32) (tt : Int32) (kd : Int32) (nu : Int32) (fa : Int32) (pl : Int32) (fo : Int32) (wd : Int64) (ci : Int32) (gr : Int32) (lm : Int32) (om : Int32) (nw : Nat → Int32) (rd : Nat → Int32) (aa : Nat → Int32) (kp : Nat → Int32) (ta : Nat → Int32) (nm : Nat → Int64) (rn : Nat → Int64) (gv : Nat → Int32) (gt : Nat → Int32) (rw : Nat → Int32) (rh : Nat → Int32) (lg : Nat → Int32) (lh : Nat → Int32) (ou : Nat → Int32) : MOr := (th, tp, st, fk, fp, ac, si, fr, tt, kd, nu, fa, pl, fo, wd, ci, gr, lm, om, nw, rd, aa, kp, ta, nm, rn, gv, gt, rw, rh, lg, lh, ou)
def MOr.W (m : MOr) (G : hG) (o : Nat) (ad : Nat → Nat) : va_W := mW 2 (G.2.1 0) (G.2.1 1) (G.2.1 2) o ad m.th m.tp m.st m.fk m.fp m.ac m.si m.fr m.tt m.kd m.nu m.fa m.pl m.fo m.wd m.ci m.gr m.lm m.om m.nw m.rd m.aa m.kp m.ta m.nm m.rn m.gv m.gt m.rw m.rh m.lg m.lh m.ou
/-- what is on the heap before the law begins -/
def STt (zs : Nat → Nat) (h0 : AH) (nx0 : Nat) : Prop :=
  (∀ k, k < 21 → ∃ b, StrH h0 (zs (20 + k)) b (cstL k) (cstG k) ∧ zs (20 + k) < nx0 ∧ b < nx0) ∧ ((∃ f : Nat → Int32, h0 (zs 2) = some (.inl (0, 6, .inl f)) ∧ ∀ k, k < 6 → f k = plR k) ∧ zs 2 < nx0) ∧
  ((∃ f : Nat → Int32, h0 (zs 0) = some (.inl (0, 6, .inl f)) ∧ ∀ k, k < 6 → f k = loR k) ∧ zs 0 < nx0) ∧ ((∃ f : Nat → Int32, h0 (zs 1) = some (.inl (0, 6, .inl f)) ∧ ∀ k, k < 6 → f k = hiR k) ∧ zs 1 < nx0) ∧ DGs zs h0 ∧ zs 5 < nx0 ∧ zs 6 < nx0
def TPr (h0 : AH) (nx0 : Nat) (zs : Nat → Nat) (x : Nat) (h : AH) (nx : Nat) (m : MOr) (j : Nat) (A : Nat → Nat) (I : Nat → Int32) (M : Nat → Prop) (n : Nat) (P : Nat → Rw) (B : Nat → Nat → Nat) (eP cP eB : Nat) (C : Nat → hE) (T : List Int32) (tb : Nat → Int32) (tp mh mp : Nat) : Prop :=
  (A 0 = x) ∧ (Sys A I M m.nw n P B eP cP eB C m.st h nx) ∧ (KPR m.kp n P) ∧ (m.ac = nI n) ∧ (Inv m.nw) ∧ (∀ i, i < n → Inv (P i) ∧ wN (P i) 232 ≤ j) ∧ (wN m.nw 232 ≤ j) ∧ (Tps m.ta tb) ∧ (C 0 = tE tb) ∧ (I 2 = nI tp) ∧ (m.tp = nI tp) ∧ (tp ≤ 900) ∧ (I 0 = m.fk) ∧ (I 1 = m.fp) ∧ (OC C eB T) ∧ (m.om = nI T.length) ∧ (T.length ≤ 1800) ∧ (TX m.ou T) ∧ (A 12 ≠ A 13 ∧ A 12 ≠ eB) ∧ (KN zs A M h nx) ∧ (NmS A M h nx mh mp m.nm) ∧ (STt zs h0 nx0) ∧ (nx0 ≤ nx) ∧ (∀ q, q < nx0 → ¬ M q ∧ h q = h0 q)
theorem TPr.a0 {h0 : AH} {nx0 : Nat} {zs : Nat → Nat} {x : Nat} {h : AH} {nx : Nat} {m : MOr} {j : Nat} {A : Nat → Nat} {I : Nat → Int32} {M : Nat → Prop} {n : Nat} {P : Nat → Rw} {B : Nat → Nat → Nat} {eP cP eB : Nat} {C : Nat → hE} {T : List Int32} {tb : Nat → Int32} {tp mh mp : Nat} (X : TPr h0 nx0 zs x h nx m j A I M n P B eP cP eB C T tb tp mh mp) : A 0 = x := X.1
theorem TPr.sys {h0 : AH} {nx0 : Nat} {zs : Nat → Nat} {x : Nat} {h : AH} {nx : Nat} {m : MOr} {j : Nat} {A : Nat → Nat} {I : Nat → Int32} {M : Nat → Prop} {n : Nat} {P : Nat → Rw} {B : Nat → Nat → Nat} {eP cP eB : Nat} {C : Nat → hE} {T : List Int32} {tb : Nat → Int32} {tp mh mp : Nat} (X : TPr h0 nx0 zs x h nx m j A I M n P B eP cP eB C T tb tp mh mp) : Sys A I M m.nw n P B eP cP eB C m.st h nx := X.2.1
theorem TPr.kp {h0 : AH} {nx0 : Nat} {zs : Nat → Nat} {x : Nat} {h : AH} {nx : Nat} {m : MOr} {j : Nat} {A : Nat → Nat} {I : Nat → Int32} {M : Nat → Prop} {n : Nat} {P : Nat → Rw} {B : Nat → Nat → Nat} {eP cP eB : Nat} {C : Nat → hE} {T : List Int32} {tb : Nat → Int32} {tp mh mp : Nat} (X : TPr h0 nx0 zs x h nx m j A I M n P B eP cP eB C T tb tp mh mp) : KPR m.kp n P := X.2.2.1
theorem TPr.ac {h0 : AH} {nx0 : Nat} {zs : Nat → Nat} {x : Nat} {h : AH} {nx : Nat} {m : MOr} {j : Nat} {A : Nat → Nat} {I : Nat → Int32} {M : Nat → Prop} {n : Nat} {P : Nat → Rw} {B : Nat → Nat → Nat} {eP cP eB : Nat} {C : Nat → hE} {T : List Int32} {tb : Nat → Int32} {tp mh mp : Nat} (X : TPr h0 nx0 zs x h nx m j A I M n P B eP cP eB C T tb tp mh mp) : m.ac = nI n := X.2.2.2.1
theorem TPr.inv {h0 : AH} {nx0 : Nat} {zs : Nat → Nat} {x : Nat} {h : AH} {nx : Nat} {m : MOr} {j : Nat} {A : Nat → Nat} {I : Nat → Int32} {M : Nat → Prop} {n : Nat} {P : Nat → Rw} {B : Nat → Nat → Nat} {eP cP eB : Nat} {C : Nat → hE} {T : List Int32} {tb : Nat → Int32} {tp mh mp : Nat} (X : TPr h0 nx0 zs x h nx m j A I M n P B eP cP eB C T tb tp mh mp) : Inv m.nw := X.2.2.2.2.1
theorem TPr.invP {h0 : AH} {nx0 : Nat} {zs : Nat → Nat} {x : Nat} {h : AH} {nx : Nat} {m : MOr} {j : Nat} {A : Nat → Nat} {I : Nat → Int32} {M : Nat → Prop} {n : Nat} {P : Nat → Rw} {B : Nat → Nat → Nat} {eP cP eB : Nat} {C : Nat → hE} {T : List Int32} {tb : Nat → Int32} {tp mh mp : Nat} (X : TPr h0 nx0 zs x h nx m j A I M n P B eP cP eB C T tb tp mh mp) : ∀ i, i < n → Inv (P i) ∧ wN (P i) 232 ≤ j := X.2.2.2.2.2.1
theorem TPr.wk {h0 : AH} {nx0 : Nat} {zs : Nat → Nat} {x : Nat} {h : AH} {nx : Nat} {m : MOr} {j : Nat} {A : Nat → Nat} {I : Nat → Int32} {M : Nat → Prop} {n : Nat} {P : Nat → Rw} {B : Nat → Nat → Nat} {eP cP eB : Nat} {C : Nat → hE} {T : List Int32} {tb : Nat → Int32} {tp mh mp : Nat} (X : TPr h0 nx0 zs x h nx m j A I M n P B eP cP eB C T tb tp mh mp) : wN m.nw 232 ≤ j := X.2.2.2.2.2.2.1
theorem TPr.tape {h0 : AH} {nx0 : Nat} {zs : Nat → Nat} {x : Nat} {h : AH} {nx : Nat} {m : MOr} {j : Nat} {A : Nat → Nat} {I : Nat → Int32} {M : Nat → Prop} {n : Nat} {P : Nat → Rw} {B : Nat → Nat → Nat} {eP cP eB : Nat} {C : Nat → hE} {T : List Int32} {tb : Nat → Int32} {tp mh mp : Nat} (X : TPr h0 nx0 zs x h nx m j A I M n P B eP cP eB C T tb tp mh mp) : Tps m.ta tb := X.2.2.2.2.2.2.2.1
theorem TPr.c0 {h0 : AH} {nx0 : Nat} {zs : Nat → Nat} {x : Nat} {h : AH} {nx : Nat} {m : MOr} {j : Nat} {A : Nat → Nat} {I : Nat → Int32} {M : Nat → Prop} {n : Nat} {P : Nat → Rw} {B : Nat → Nat → Nat} {eP cP eB : Nat} {C : Nat → hE} {T : List Int32} {tb : Nat → Int32} {tp mh mp : Nat} (X : TPr h0 nx0 zs x h nx m j A I M n P B eP cP eB C T tb tp mh mp) : C 0 = tE tb := X.2.2.2.2.2.2.2.2.1
theorem TPr.i2 {h0 : AH} {nx0 : Nat} {zs : Nat → Nat} {x : Nat} {h : AH} {nx : Nat} {m : MOr} {j : Nat} {A : Nat → Nat} {I : Nat → Int32} {M : Nat → Prop} {n : Nat} {P : Nat → Rw} {B : Nat → Nat → Nat} {eP cP eB : Nat} {C : Nat → hE} {T : List Int32} {tb : Nat → Int32} {tp mh mp : Nat} (X : TPr h0 nx0 zs x h nx m j A I M n P B eP cP eB C T tb tp mh mp) : I 2 = nI tp := X.2.2.2.2.2.2.2.2.2.1
theorem TPr.mtp {h0 : AH} {nx0 : Nat} {zs : Nat → Nat} {x : Nat} {h : AH} {nx : Nat} {m : MOr} {j : Nat} {A : Nat → Nat} {I : Nat → Int32} {M : Nat → Prop} {n : Nat} {P : Nat → Rw} {B : Nat → Nat → Nat} {eP cP eB : Nat} {C : Nat → hE} {T : List Int32} {tb : Nat → Int32} {tp mh mp : Nat} (X : TPr h0 nx0 zs x h nx m j A I M n P B eP cP eB C T tb tp mh mp) : m.tp = nI tp := X.2.2.2.2.2.2.2.2.2.2.1
theorem TPr.tp9 {h0 : AH} {nx0 : Nat} {zs : Nat → Nat} {x : Nat} {h : AH} {nx : Nat} {m : MOr} {j : Nat} {A : Nat → Nat} {I : Nat → Int32} {M : Nat → Prop} {n : Nat} {P : Nat → Rw} {B : Nat → Nat → Nat} {eP cP eB : Nat} {C : Nat → hE} {T : List Int32} {tb : Nat → Int32} {tp mh mp : Nat} (X : TPr h0 nx0 zs x h nx m j A I M n P B eP cP eB C T tb tp mh mp) : tp ≤ 900 := X.2.2.2.2.2.2.2.2.2.2.2.1
theorem TPr.i0 {h0 : AH} {nx0 : Nat} {zs : Nat → Nat} {x : Nat} {h : AH} {nx : Nat} {m : MOr} {j : Nat} {A : Nat → Nat} {I : Nat → Int32} {M : Nat → Prop} {n : Nat} {P : Nat → Rw} {B : Nat → Nat → Nat} {eP cP eB : Nat} {C : Nat → hE} {T : List Int32} {tb : Nat → Int32} {tp mh mp : Nat} (X : TPr h0 nx0 zs x h nx m j A I M n P B eP cP eB C T tb tp mh mp) : I 0 = m.fk := X.2.2.2.2.2.2.2.2.2.2.2.2.1
theorem TPr.i1 {h0 : AH} {nx0 : Nat} {zs : Nat → Nat} {x : Nat} {h : AH} {nx : Nat} {m : MOr} {j : Nat} {A : Nat → Nat} {I : Nat → Int32} {M : Nat → Prop} {n : Nat} {P : Nat → Rw} {B : Nat → Nat → Nat} {eP cP eB : Nat} {C : Nat → hE} {T : List Int32} {tb : Nat → Int32} {tp mh mp : Nat} (X : TPr h0 nx0 zs x h nx m j A I M n P B eP cP eB C T tb tp mh mp) : I 1 = m.fp := X.2.2.2.2.2.2.2.2.2.2.2.2.2.1
theorem TPr.oc {h0 : AH} {nx0 : Nat} {zs : Nat → Nat} {x : Nat} {h : AH} {nx : Nat} {m : MOr} {j : Nat} {A : Nat → Nat} {I : Nat → Int32} {M : Nat → Prop} {n : Nat} {P : Nat → Rw} {B : Nat → Nat → Nat} {eP cP eB : Nat} {C : Nat → hE} {T : List Int32} {tb : Nat → Int32} {tp mh mp : Nat} (X : TPr h0 nx0 zs x h nx m j A I M n P B eP cP eB C T tb tp mh mp) : OC C eB T := X.2.2.2.2.2.2.2.2.2.2.2.2.2.2.1
theorem TPr.om {h0 : AH} {nx0 : Nat} {zs : Nat → Nat} {x : Nat} {h : AH} {nx : Nat} {m : MOr} {j : Nat} {A : Nat → Nat} {I : Nat → Int32} {M : Nat → Prop} {n : Nat} {P : Nat → Rw} {B : Nat → Nat → Nat} {eP cP eB : Nat} {C : Nat → hE} {T : List Int32} {tb : Nat → Int32} {tp mh mp : Nat} (X : TPr h0 nx0 zs x h nx m j A I M n P B eP cP eB C T tb tp mh mp) : m.om = nI T.length := X.2.2.2.2.2.2.2.2.2.2.2.2.2.2.2.1
theorem TPr.tl {h0 : AH} {nx0 : Nat} {zs : Nat → Nat} {x : Nat} {h : AH} {nx : Nat} {m : MOr} {j : Nat} {A : Nat → Nat} {I : Nat → Int32} {M : Nat → Prop} {n : Nat} {P : Nat → Rw} {B : Nat → Nat → Nat} {eP cP eB : Nat} {C : Nat → hE} {T : List Int32} {tb : Nat → Int32} {tp mh mp : Nat} (X : TPr h0 nx0 zs x h nx m j A I M n P B eP cP eB C T tb tp mh mp) : T.length ≤ 1800 := X.2.2.2.2.2.2.2.2.2.2.2.2.2.2.2.2.1
theorem TPr.ou {h0 : AH} {nx0 : Nat} {zs : Nat → Nat} {x : Nat} {h : AH} {nx : Nat} {m : MOr} {j : Nat} {A : Nat → Nat} {I : Nat → Int32} {M : Nat → Prop} {n : Nat} {P : Nat → Rw} {B : Nat → Nat → Nat} {eP cP eB : Nat} {C : Nat → hE} {T : List Int32} {tb : Nat → Int32} {tp mh mp : Nat} (X : TPr h0 nx0 zs x h nx m j A I M n P B eP cP eB C T tb tp mh mp) : TX m.ou T := X.2.2.2.2.2.2.2.2.2.2.2.2.2.2.2.2.2.1
theorem TPr.hd {h0 : AH} {nx0 : Nat} {zs : Nat → Nat} {x : Nat} {h : AH} {nx : Nat} {m : MOr} {j : Nat} {A : Nat → Nat} {I : Nat → Int32} {M : Nat → Prop} {n : Nat} {P : Nat → Rw} {B : Nat → Nat → Nat} {eP cP eB : Nat} {C : Nat → hE} {T : List Int32} {tb : Nat → Int32} {tp mh mp : Nat} (X : TPr h0 nx0 zs x h nx m j A I M n P B eP cP eB C T tb tp mh mp) : A 12 ≠ A 13 ∧ A 12 ≠ eB := X.2.2.2.2.2.2.2.2.2.2.2.2.2.2.2.2.2.2.1
theorem TPr.kn {h0 : AH} {nx0 : Nat} {zs : Nat → Nat} {x : Nat} {h : AH} {nx : Nat} {m : MOr} {j : Nat} {A : Nat → Nat} {I : Nat → Int32} {M : Nat → Prop} {n : Nat} {P : Nat → Rw} {B : Nat → Nat → Nat} {eP cP eB : Nat} {C : Nat → hE} {T : List Int32} {tb : Nat → Int32} {tp mh mp : Nat} (X : TPr h0 nx0 zs x h nx m j A I M n P B eP cP eB C T tb tp mh mp) : KN zs A M h nx := X.2.2.2.2.2.2.2.2.2.2.2.2.2.2.2.2.2.2.2.1
theorem TPr.nms {h0 : AH} {nx0 : Nat} {zs : Nat → Nat} {x : Nat} {h : AH} {nx : Nat} {m : MOr} {j : Nat} {A : Nat → Nat} {I : Nat → Int32} {M : Nat → Prop} {n : Nat} {P : Nat → Rw} {B : Nat → Nat → Nat} {eP cP eB : Nat} {C : Nat → hE} {T : List Int32} {tb : Nat → Int32} {tp mh mp : Nat} (X : TPr h0 nx0 zs x h nx m j A I M n P B eP cP eB C T tb tp mh mp) : NmS A M h nx mh mp m.nm := X.2.2.2.2.2.2.2.2.2.2.2.2.2.2.2.2.2.2.2.2.1
theorem TPr.st0 {h0 : AH} {nx0 : Nat} {zs : Nat → Nat} {x : Nat} {h : AH} {nx : Nat} {m : MOr} {j : Nat} {A : Nat → Nat} {I : Nat → Int32} {M : Nat → Prop} {n : Nat} {P : Nat → Rw} {B : Nat → Nat → Nat} {eP cP eB : Nat} {C : Nat → hE} {T : List Int32} {tb : Nat → Int32} {tp mh mp : Nat} (X : TPr h0 nx0 zs x h nx m j A I M n P B eP cP eB C T tb tp mh mp) : STt zs h0 nx0 := X.2.2.2.2.2.2.2.2.2.2.2.2.2.2.2.2.2.2.2.2.2.1
theorem TPr.oldn {h0 : AH} {nx0 : Nat} {zs : Nat → Nat} {x : Nat} {h : AH} {nx : Nat} {m : MOr} {j : Nat} {A : Nat → Nat} {I : Nat → Int32} {M : Nat → Prop} {n : Nat} {P : Nat → Rw} {B : Nat → Nat → Nat} {eP cP eB : Nat} {C : Nat → hE} {T : List Int32} {tb : Nat → Int32} {tp mh mp : Nat} (X : TPr h0 nx0 zs x h nx m j A I M n P B eP cP eB C T tb tp mh mp) : nx0 ≤ nx := X.2.2.2.2.2.2.2.2.2.2.2.2.2.2.2.2.2.2.2.2.2.2.1
theorem TPr.old {h0 : AH} {nx0 : Nat} {zs : Nat → Nat} {x : Nat} {h : AH} {nx : Nat} {m : MOr} {j : Nat} {A : Nat → Nat} {I : Nat → Int32} {M : Nat → Prop} {n : Nat} {P : Nat → Rw} {B : Nat → Nat → Nat} {eP cP eB : Nat} {C : Nat → hE} {T : List Int32} {tb : Nat → Int32} {tp mh mp : Nat} (X : TPr h0 nx0 zs x h nx m j A I M n P B eP cP eB C T tb tp mh mp) : ∀ q, q < nx0 → ¬ M q ∧ h q = h0 q := X.2.2.2.2.2.2.2.2.2.2.2.2.2.2.2.2.2.2.2.2.2.2.2
theorem TPr.of {h0 : AH} {nx0 : Nat} {zs : Nat → Nat} {x : Nat} {h : AH} {nx : Nat} {m : MOr} {j : Nat} {A : Nat → Nat} {I : Nat → Int32} {M : Nat → Prop} {n : Nat} {P : Nat → Rw} {B : Nat → Nat → Nat} {eP cP eB : Nat} {C : Nat → hE} {T : List Int32} {tb : Nat → Int32} {tp mh mp : Nat} (a0 : A 0 = x) (sys : Sys A I M m.nw n P B eP cP eB C m.st h nx) (kp : KPR m.kp n P) (ac : m.ac = nI n) (inv : Inv m.nw) (invP : ∀ i, i < n → Inv (P i) ∧ wN (P i) 232 ≤ j) (wk : wN m.nw 232 ≤ j) (tape : Tps m.ta tb) (c0 : C 0 = tE tb) (i2 : I 2 = nI tp) (mtp : m.tp = nI tp) (tp9 : tp ≤ 900) (i0 : I 0 = m.fk) (i1 : I 1 = m.fp) (oc : OC C eB T) (om : m.om = nI T.length) (tl : T.length ≤ 1800) (ou : TX m.ou T) (hd : A 12 ≠ A 13 ∧ A 12 ≠ eB) (kn : KN zs A M h nx) (nms : NmS A M h nx mh mp m.nm) (st0 : STt zs h0 nx0) (oldn : nx0 ≤ nx) (old : ∀ q, q < nx0 → ¬ M q ∧ h q = h0 q) : TPr h0 nx0 zs x h nx m j A I M n P B eP cP eB C T tb tp mh mp := ⟨a0, sys, kp, ac, inv, invP, wk, tape, c0, i2, mtp, tp9, i0, i1, oc, om, tl, ou, hd, kn, nms, st0, oldn, old⟩
theorem TPr.ofk {h0 : AH} {nx0 : Nat} {zs : Nat → Nat} {x : Nat} {h : AH} {nx : Nat} {m_th : Int32} {m_tp : Int32} {m_st : Int32} {m_fk : Int32} {m_fp : Int32} {m_ac : Int32} {m_si : Int32} {m_fr : Int32} {m_tt : Int32} {m_kd : Int32} {m_nu : Int32} {m_fa : Int32} {m_pl : Int32} {m_fo : Int32} {m_wd : Int64} {m_ci : Int32} {m_gr : Int32} {m_lm : Int32} {m_om : Int32} {m_nw : Nat → Int32} {m_rd : Nat → Int32} {m_aa : Nat → Int32} {m_kp : Nat → Int32} {m_ta : Nat → Int32} {m_nm : Nat → Int64} {m_rn : Nat → Int64} {m_gv : Nat → Int32} {m_gt : Nat → Int32} {m_rw : Nat → Int32} {m_rh : Nat → Int32} {m_lg : Nat → Int32} {m_lh : Nat → Int32} {m_ou : Nat → Int32} {j : Nat} {A : Nat → Nat} {I : Nat → Int32} {M : Nat → Prop} {n : Nat} {P : Nat → Rw} {B : Nat → Nat → Nat} {eP cP eB : Nat} {C : Nat → hE} {T : List Int32} {tb : Nat → Int32} {tp mh mp : Nat} (a0 : A 0 = x) (sys : Sys A I M m_nw n P B eP cP eB C m_st h nx) (kp : KPR m_kp n P) (ac : m_ac = nI n) (inv : Inv m_nw) (invP : ∀ i, i < n → Inv (P i) ∧ wN (P i) 232 ≤ j) (wk : wN m_nw 232 ≤ j) (tape : Tps m_ta tb) (c0 : C 0 = tE tb) (i2 : I 2 = nI tp) (mtp : m_tp = nI tp) (tp9 : tp ≤ 900) (i0 : I 0 = m_fk) (i1 : I 1 = m_fp) (oc : OC C eB T) (om : m_om = nI T.length) (tl : T.length ≤ 1800) (ou : TX m_ou T) (hd : A 12 ≠ A 13 ∧ A 12 ≠ eB) (kn : KN zs A M h nx) (nms : NmS A M h nx mh mp m_nm) (st0 : STt zs h0 nx0) (oldn : nx0 ≤ nx) (old : ∀ q, q < nx0 → ¬ M q ∧ h q = h0 q) : TPr h0 nx0 zs x h nx (mkM m_th m_tp m_st m_fk m_fp m_ac m_si m_fr m_tt m_kd m_nu m_fa m_pl m_fo m_wd m_ci m_gr m_lm m_om m_nw m_rd m_aa m_kp m_ta m_nm m_rn m_gv m_gt m_rw m_rh m_lg m_lh m_ou) j A I M n P B eP cP eB C T tb tp mh mp := ⟨a0, sys, kp, ac, inv, invP, wk, tape, c0, i2, mtp, tp9, i0, i1, oc, om, tl, ou, hd, kn, nms, st0, oldn, old⟩
/-- the two objects agree, after j calls -/
def TOPr (h0 : AH) (nx0 : Nat) (zs : Nat → Nat) (x : Nat) (h : AH) (nx : Nat) (m : MOr) (j : Nat) : Prop := ∃ A I M n P B eP cP eB C T tb tp mh mp, TPr h0 nx0 zs x h nx m j A I M n P B eP cP eB C T tb tp mh mp
/-- a call's answer v, and the relation behind it -/
def Ans (h0 : AH) (nx0 : Nat) (zs : Nat → Nat) (x : Nat) (nx : Nat) (j : Nat) (f : Option (Int32 × AH × Nat × Nat)) (v : Int32) (m' : MOr) : Prop := ∃ h' c d, f = some (v, h', c, d) ∧ c ≤ 15998 ∧ d ≤ 94215 ∧ TOPr h0 nx0 zs x h' (nx + c) m' j
section TPS
variable {h0 h h' : AH} {nx0 nx nx' x jx j j' n n' eP cP eB eP' cP' eB' tp tp' mh mp c d : Nat} {zs : Nat → Nat} {m m' : MOr} {A A' : Nat → Nat} {I I' : Nat → Int32} {M M' : Nat → Prop} {P P' : Nat → Rw} {B B' : Nat → Nat → Nat} {C C' : Nat → hE} {T T' : List Int32} {tb tb' : Nat → Int32} {w' : Rw} {f : Option (Int32 × AH × Nat × Nat)} {v st' : Int32}
theorem TPr.pz (X : TPr h0 nx0 zs x h nx m j A I M n P B eP cP eB C T tb tp mh mp) : PZ zs M h nx := by
  obtain ⟨-, ⟨⟨f, g1, g2⟩, g3⟩, -⟩ := X.st0
  obtain ⟨o1, o2⟩ := X.old _ g3
  exact ⟨⟨f, o2.trans g1, g2⟩, Nat.lt_of_lt_of_le g3 X.oldn, o1⟩
theorem TPr.zst (X : TPr h0 nx0 zs x h nx m j A I M n P B eP cP eB C T tb tp mh mp) : ZS zs M h nx := by
  obtain ⟨-, -, ⟨⟨f, g1, g2⟩, g3⟩, ⟨⟨f', g4, g5⟩, g6⟩, -⟩ := X.st0
  obtain ⟨o1, o2⟩ := X.old _ g3
  obtain ⟨o3, o4⟩ := X.old _ g6
  refine ⟨⟨f, o2.trans g1, g2⟩, ⟨f', o4.trans g4, g5⟩, fun k hk => ?_⟩
  rcases (show k = 0 ∨ k = 1 by omega) with rfl | rfl
  · exact ⟨Nat.lt_of_lt_of_le g3 X.oldn, o1⟩
  · exact ⟨Nat.lt_of_lt_of_le g6 X.oldn, o3⟩
theorem TPr.dgs (X : TPr h0 nx0 zs x h nx m j A I M n P B eP cP eB C T tb tp mh mp) : DGs zs h ∧ NI nx M (zs 5) ∧ NI nx M (zs 6) := by
  obtain ⟨-, -, -, -, ⟨⟨f, g1, g2⟩, f', g4, g5⟩, g3, g6⟩ := X.st0
  obtain ⟨o1, o2⟩ := X.old _ g3
  obtain ⟨o3, o4⟩ := X.old _ g6
  exact ⟨⟨⟨f, o2.trans g1, g2⟩, f', o4.trans g4, g5⟩, ⟨Nat.lt_of_lt_of_le g3 X.oldn, o1⟩, Nat.lt_of_lt_of_le g6 X.oldn, o3⟩
/-- behind a step: what the statics, the names and the long's cell say -/
theorem TPr.keep (X : TPr h0 nx0 zs x h nx m j A I M n P B eP cP eB C T tb tp mh mp) (H : MS M h nx M' h' nx') (hA : ∀ k, k = 0 ∨ 6 ≤ k → A' k = A k) : KN zs A' M' h' nx' ∧ NmS A' M' h' nx' mh mp m.nm ∧ nx0 ≤ nx' ∧ (∀ q, q < nx0 → ¬ M' q ∧ h' q = h0 q) := by
  refine ⟨X.kn.ms H (hA 10 (by omega)) (hA 11 (by omega)), X.nms.ms H (hA 6 (by omega)) (hA 7 (by omega)), Nat.le_trans X.oldn H.1, fun q hq => ?_⟩
  obtain ⟨o1, o2⟩ := X.old q hq
  have hq2 : NI nx M q := ⟨Nat.lt_of_lt_of_le hq X.oldn, o1⟩
  exact ⟨(H.i hq2).2, (H.k hq2).trans o2⟩
/-- a step that leaves tape, names and text -/
theorem TPr.sa (X : TPr h0 nx0 zs x h nx m j A I M n P B eP cP eB C T tb tp mh mp) (Q : SA A I M eB h nx f v st' w' n' P' C) (e1 : m'.st = st') (e2 : RE w' m'.nw) (e3 : KPR m'.kp n' P') (e4 : m'.ac = nI n') (e5 : Inv w') (e6 : wN w' 232 ≤ j') (e7 : ∀ i, i < n' → Inv (P' i) ∧ wN (P' i) 232 ≤ j')
    (e8 : m'.ta = m.ta ∧ m'.tp = m.tp ∧ m'.fk = m.fk ∧ m'.fp = m.fp ∧ m'.om = m.om ∧ m'.ou = m.ou ∧ m'.nm = m.nm) : Ans h0 nx0 zs x nx j' f v m' := by
  obtain ⟨h', c, d, A', M', B', eP', cP', q1, q2, q3, q4, q5, q6⟩ := Q
  obtain ⟨k1, k2, k3, k4⟩ := X.keep q3 q4
  obtain ⟨z1, z2, z3, z4, z5, z6, z7⟩ := e8
  refine ⟨h', c, d, q1, q5, q6, A', I, M', n', P', B', eP', cP', eB, C, T, tb, tp, mh, mp, ?_⟩
  exact (TPr.of (a0 := (q4 0 (Or.inl rfl)).trans X.a0) (sys := by rw [e1]; exact q2.of_re e5.1.1 e2) (kp := e3) (ac := e4) (inv := Inv_re e2 e5) (invP := e7) (wk := by rw [e2.wn (by decide)]; exact e6) (tape := by rw [z1]; exact X.tape) (c0 := X.c0) (i2 := X.i2) (mtp := by rw [z2]; exact X.mtp) (tp9 := X.tp9) (i0 := by rw [z3]; exact X.i0) (i1 := by rw [z4]; exact X.i1) (oc := X.oc) (om := by rw [z5]; exact X.om) (tl := X.tl) (ou := by rw [z6]; exact X.ou) (hd := by rw [q4 12 (by omega), q4 13 (by omega)]; exact X.hd) (kn := k1) (nms := by rw [z7]; exact k2) (st0 := X.st0) (oldn := k3) (old := k4))
end TPS
