/-! SPEC 7: rings, what was seen, deeds, draws, what is rued -/
def hdTw (T : Tw) (pl : Nat → Int32) (set day : Int32) : Nat → Int32
  | 0 => 0
  | k + 1 => if (hasB set (T.2.2.2 0 k).toNatClampNeg && holdsB T k (pl (T.2.2.2 0 k).toNatClampNeg) day) = true then hdTw T pl set day k ||| oneV (T.2.2.2 1 k).toNatClampNeg else hdTw T pl set day k
def rgI (T : Tw) (pl : Nat → Int32) (day : Int32) (one : Nat) : Nat → Int32 → Nat → Option Nat
  | 0, _, _ => none
  | f + 1, now, n => if hasB (hdTw T pl now day T.1) one = true then some n else rgI T pl day one f (hdTw T pl now day T.1) (n + 1)
def rgB (T : Tw) (pl : Nat → Int32) (day : Int32) (nP : Nat) : Nat → Int32
  | 0 => -2
  | k + 1 => match rgI T pl day k nP (oneV k) 1 with
    | none => rgB T pl day nP k
    | some n => if rgB T pl day nP k < 0 then nI n else if rgB T pl day nP k ≤ nI n then rgB T pl day nP k else nI n
def areShB (ss : Int32) : Bool := !decide (ss < 0) && inB (ss / 10) 0 5 && inB (ss - ss / 10 * 10) 0 5
def jdF (g : MSt) (T : Tw) (one t s1 s2 all n2 : Nat) : Nat → Nat → Nat → Int32
  | 0, _, _ => -2
  | f + 1, k, pl => if 31 ≤ k then -2 else if n2 ≤ k then -2 else if (decide (all < k) || (!decide (elV g s2 k = 99) && !decide (elV g s2 k = nI pl))) = true then nI k else if (decide (k < all) && !heldB T one (nI pl) (nI (dayN t k))) = true then jdF g T one t s1 s2 all n2 f (k + 1) (stepN pl (elN g s1 k)) else jdF g T one t s1 s2 all n2 f (k + 1) pl
def r_judge (g : MSt) (nM t : Nat) (ss q : Int32) : Int32 :=
  if (areShB ss && inB q 0 (g.1 1 - 1)) = true then
    (if 0 ≤ flt g (ss / 10).toNatClampNeg then (if 0 ≤ flt g (ss - ss / 10 * 10).toNatClampNeg then
      jdF g (mT g nM) q.toNatClampNeg t (ss / 10).toNatClampNeg (ss - ss / 10 * 10).toNatClampNeg (stepsN g (ss / 10).toNatClampNeg (g.2.1 64 (ss / 10).toNatClampNeg).toNatClampNeg) (g.2.1 64 (ss - ss / 10 * 10).toNatClampNeg).toNatClampNeg 32 0 (g.2.1 2 q.toNatClampNeg).toNatClampNeg
      else flt g (ss - ss / 10 * 10).toNatClampNeg) else flt g (ss / 10).toNatClampNeg) else -1
def fltS (is set : Int32) : Int32 := if is = 99 then set else set &&& (if inB is 0 24 = true then (1 : Int32) <<< (is &&& 31) else 0)
def cbF (g : MSt) (T : Tw) (one t s n : Nat) : Nat → Nat → Int32 → Bool
  | 0, _, _ => true
  | f + 1, k, set => if 31 ≤ k then true else if n ≤ k then true else if fltS (elV g s k) set = 0 then false else cbF g T one t s n f (k + 1) (dfV T one (fltS (elV g s k) set) (nI (dayN t k)) 25)
def cbB (g : MSt) (T : Tw) (t s : Nat) (one : Nat) : Bool := cbF g T one t s (g.2.1 64 s).toNatClampNeg 32 0 ((1 : Int32) <<< (g.2.1 2 one &&& 31))
def r_can (g : MSt) (nM t : Nat) (s q : Int32) : Int32 := if (inB s 0 5 && inB q 0 (g.1 1 - 1)) = true then (if 0 ≤ flt g s.toNatClampNeg then bI (cbB g (mT g nM) t s.toNatClampNeg q.toNatClampNeg) else flt g s.toNatClampNeg) else -1
def r_who (g : MSt) (nP nM t : Nat) (s : Int32) : Int32 := if inB s 0 5 = true then (if 0 ≤ flt g s.toNatClampNeg then bitsB (cbB g (mT g nM) t s.toNatClampNeg) nP else flt g s.toNatClampNeg) else -1
def stpB (g : MSt) (q w : Int32) : Bool := inB q 0 (g.1 1 - 1) && inB w 0 4
def r_step (g : MSt) (nM : Nat) (q w : Int32) : Int32 := if stpB g q w = true then (if heldB (mT g nM) q.toNatClampNeg (g.2.1 2 q.toNatClampNeg) (g.1 14) = true then g.2.1 2 q.toNatClampNeg else nI (stepN (g.2.1 2 q.toNatClampNeg).toNatClampNeg w.toNatClampNeg)) else -1
def n_step (g : MSt) (nM : Nat) (q w : Int32) : MSt := if stpB g q w = true then (if heldB (mT g nM) q.toNatClampNeg (g.2.1 2 q.toNatClampNeg) (g.1 14) = true then msA g 15 (va_up (g.2.1 15) 2 (g.2.1 15 2 + 1)) else msA (msA g 2 (va_up (g.2.1 2) q.toNatClampNeg (nI (stepN (g.2.1 2 q.toNatClampNeg).toNatClampNeg w.toNatClampNeg)))) 15 (va_up (g.2.1 15) 1 (g.2.1 15 1 + 1))) else g
def pulB (g : MSt) (nM : Nat) (m : Nat) : Bool := holdsB (mT g nM) m (g.2.1 2 (g.2.1 5 m).toNatClampNeg) (g.1 14) && !decide (g.2.1 3 (g.2.1 5 m).toNatClampNeg = 0)
def r_pull (g : MSt) (nM : Nat) (m : Int32) : Int32 := if inB m 0 (g.1 4 - 1) = true then (if pulB g nM m.toNatClampNeg = true then g.2.1 3 (g.2.1 5 m.toNatClampNeg).toNatClampNeg - 1 else -5) else -1
def n_pull (g : MSt) (nM : Nat) (m : Int32) : MSt := if inB m 0 (g.1 4 - 1) = true then (if pulB g nM m.toNatClampNeg = true then msA (msA (msA g 12 (va_up (g.2.1 12) m.toNatClampNeg 1)) 3 (va_up (g.2.1 3) (g.2.1 5 m.toNatClampNeg).toNatClampNeg (g.2.1 3 (g.2.1 5 m.toNatClampNeg).toNatClampNeg - 1))) 15 (va_up (g.2.1 15) 3 (g.2.1 15 3 + 1)) else g) else g
def drX (z : Int32) : Int32 := (z.toUInt32 >>> ((8 : Int32).toUInt32 &&& Int32.toUInt32 31)).toInt32
def drN (z : Int32) : Int32 := z * 1103515245 + 12345
def drW (z : Int32) : Nat := (drX z - drX z / 5 * 5).toNatClampNeg
theorem drW_ok (z : Int32) : drX z - drX z / 5 * 5 = nI (drW z) ∧ drW z < 5 := by
  have h1 : (drX z).toBitVec.toNat = z.toBitVec.toNat / 2 ^ 8 := pk_ushr z 8 8 (by decide)
  have h2 : z.toBitVec.toNat < 2 ^ 32 := z.toBitVec.isLt
  have h3 : drX z = nI (z.toBitVec.toNat / 2 ^ 8) := by
    apply Int32.toBitVec_inj.mp
    apply BitVec.eq_of_toNat_eq
    rw [h1, pk_tn (by omega)]
  have h4 : drX z - drX z / 5 * 5 = nI (z.toBitVec.toNat / 2 ^ 8 % 5) := by
    rw [h3]
    exact pk_rem (d := 5) (by omega) (by omega) (by omega)
  have h5 : drW z = z.toBitVec.toNat / 2 ^ 8 % 5 := by
    unfold drW
    rw [h4]
    exact nN_nI (by omega)
  rw [h4, h5]
  exact ⟨rfl, Nat.mod_lt _ (by omega)⟩
/-- one draw: the seed, days held, where -/
def drI (T : Tw) (one t : Nat) (z0 h0 : Int32) (q0 : Nat) : Nat → Int32 × Int32 × Nat
  | 0 => (z0, h0, q0)
  | k + 1 => if heldB T one (nI (drI T one t z0 h0 q0 k).2.2) (nI (dayN t k)) = true then (drN (drI T one t z0 h0 q0 k).1, (drI T one t z0 h0 q0 k).2.1 + 1, (drI T one t z0 h0 q0 k).2.2) else (drN (drI T one t z0 h0 q0 k).1, (drI T one t z0 h0 q0 k).2.1, stepN (drI T one t z0 h0 q0 k).2.2 (drW (drN (drI T one t z0 h0 q0 k).1)))
def drO (T : Tw) (one t : Nat) (seed : Int32) (q0 m : Nat) (place : Int32) : Nat → Int32 × Int32 × Int32
  | 0 => (seed, 0, 0)
  | n + 1 => ((drI T one t (drO T one t seed q0 m place n).1 (drO T one t seed q0 m place n).2.1 q0 m).1, (drI T one t (drO T one t seed q0 m place n).1 (drO T one t seed q0 m place n).2.1 q0 m).2.1, if nI (drI T one t (drO T one t seed q0 m place n).1 (drO T one t seed q0 m place n).2.1 q0 m).2.2 = place then (drO T one t seed q0 m place n).2.2 + 1 else (drO T one t seed q0 m place n).2.2)
theorem drI_lt (T : Tw) (one t : Nat) (z0 h0 : Int32) {q0 : Nat} (h : q0 < 25) : ∀ k, (drI T one t z0 h0 q0 k).2.2 < 25
  | 0 => h
  | k + 1 => by
    have ih := drI_lt T one t z0 h0 h k
    unfold drI
    split
    · exact ih
    · exact stepN_lt ih
theorem drI_t {T : Tw} {one t : Nat} {z0 h0 : Int32} {q0 k : Nat} (h : heldB T one (nI (drI T one t z0 h0 q0 k).2.2) (nI (dayN t k)) = true) : drI T one t z0 h0 q0 (k + 1) = (drN (drI T one t z0 h0 q0 k).1, (drI T one t z0 h0 q0 k).2.1 + 1, (drI T one t z0 h0 q0 k).2.2) := by
  rw [drI, if_pos h]
theorem drI_f {T : Tw} {one t : Nat} {z0 h0 : Int32} {q0 k : Nat} (h : heldB T one (nI (drI T one t z0 h0 q0 k).2.2) (nI (dayN t k)) = false) : drI T one t z0 h0 q0 (k + 1) = (drN (drI T one t z0 h0 q0 k).1, (drI T one t z0 h0 q0 k).2.1, stepN (drI T one t z0 h0 q0 k).2.2 (drW (drN (drI T one t z0 h0 q0 k).1))) := by
  rw [drI, if_neg (by rw [h]; decide)]
def drwB (g : MSt) (nm q place : Int32) : Bool := !decide (nm < 0) && inB (nm / 100) 1 30 && inB (nm - nm / 100 * 100) 1 40 && inB q 0 (g.1 1 - 1) && (decide (place = -1) || inB place 0 24)
def r_drawn (g : MSt) (nM t : Nat) (seed nm q place : Int32) : Int32 := if drwB g nm q place = true then (let r := drO (mT g nM) q.toNatClampNeg t seed (g.2.1 2 q.toNatClampNeg).toNatClampNeg (nm - nm / 100 * 100).toNatClampNeg place (nm / 100).toNatClampNeg; if 0 ≤ place then r.2.2 else r.2.1) else -1
def rkI (T : Tw) (one : Nat) (set day k0 : Int32) : Nat → Int32
  | 0 => k0
  | q + 1 => if hasB set q = true then rkI T one set day k0 q ||| keptV T one (nI q) day else rkI T one set day k0 q
def rdO (T : Tw) (one t : Nat) (s0 : Int32) : Nat → Int32 × Int32
  | 0 => (0, s0)
  | k + 1 => (rkI T one (rdO T one t s0 k).2 (nI (dayN t k)) (rdO T one t s0 k).1 25, dfV T one (rdO T one t s0 k).2 (nI (dayN t k)) 25)
def rudB (F : FT) (one : Nat) (kept : Int32) (p : Nat) : Bool := decide (F 0 p = nI one) && decide (F 7 p = 0) && !hasB kept p
def r_rued (g : MSt) (nM t : Nat) (q x : Int32) : Int32 := if (inB q 0 (g.1 1 - 1) && inB x 0 8) = true then bitsB (rudB (mF g) q.toNatClampNeg (rdO (mT g nM) q.toNatClampNeg t ((1 : Int32) <<< (g.2.1 2 q.toNatClampNeg &&& 31)) (x.toNatClampNeg + 1)).1) nM else -1
theorem ms3 (g : MSt) {a b : Nat} (hab : a ≠ b) (x y y2 : Int32) : msS (msS (msS g a x) b y) b y2 = msS (msS g a x) b y2 := mss1 _ b y y2
theorem drN_d (z : Int32) : z * 1103515245 + 12345 = drN z := rfl
theorem drX_d (z : Int32) : (z.toUInt32 >>> ((8 : Int32).toUInt32 &&& Int32.toUInt32 31)).toInt32 = drX z := rfl
theorem drO_1 {T : Tw} {one t : Nat} {seed : Int32} {q0 m : Nat} {place : Int32} {n : Nat} : (drO T one t seed q0 m place (n + 1)).1 = (drI T one t (drO T one t seed q0 m place n).1 (drO T one t seed q0 m place n).2.1 q0 m).1 := by rw [drO]
theorem drO_2 {T : Tw} {one t : Nat} {seed : Int32} {q0 m : Nat} {place : Int32} {n : Nat} : (drO T one t seed q0 m place (n + 1)).2.1 = (drI T one t (drO T one t seed q0 m place n).1 (drO T one t seed q0 m place n).2.1 q0 m).2.1 := by rw [drO]
theorem drO_t {T : Tw} {one t : Nat} {seed : Int32} {q0 m : Nat} {place : Int32} {n : Nat} (h : nI (drI T one t (drO T one t seed q0 m place n).1 (drO T one t seed q0 m place n).2.1 q0 m).2.2 = place) : (drO T one t seed q0 m place (n + 1)).2.2 = (drO T one t seed q0 m place n).2.2 + 1 := by rw [drO]; simp only [if_pos h]
theorem drO_f {T : Tw} {one t : Nat} {seed : Int32} {q0 m : Nat} {place : Int32} {n : Nat} (h : ¬ nI (drI T one t (drO T one t seed q0 m place n).1 (drO T one t seed q0 m place n).2.1 q0 m).2.2 = place) : (drO T one t seed q0 m place (n + 1)).2.2 = (drO T one t seed q0 m place n).2.2 := by rw [drO]; simp only [if_neg h]
theorem drI_01 {T : Tw} {one t : Nat} {z0 h0 : Int32} {q0 : Nat} : z0 = (drI T one t z0 h0 q0 0).1 := by rw [drI]
theorem drI_02 {T : Tw} {one t : Nat} {z0 h0 : Int32} {q0 : Nat} : h0 = (drI T one t z0 h0 q0 0).2.1 := by rw [drI]
theorem drI_03 {T : Tw} {one t : Nat} {z0 h0 : Int32} {q0 : Nat} : nI q0 = nI (drI T one t z0 h0 q0 0).2.2 := by rw [drI]
theorem drO_01 {T : Tw} {one t : Nat} {seed : Int32} {q0 m : Nat} {place : Int32} : seed = (drO T one t seed q0 m place 0).1 := by rw [drO]
theorem drO_02 {T : Tw} {one t : Nat} {seed : Int32} {q0 m : Nat} {place : Int32} : nI 0 = (drO T one t seed q0 m place 0).2.1 := by rw [drO, nI_0]
theorem drO_03 {T : Tw} {one t : Nat} {seed : Int32} {q0 m : Nat} {place : Int32} : nI 0 = (drO T one t seed q0 m place 0).2.2 := by rw [drO, nI_0]
