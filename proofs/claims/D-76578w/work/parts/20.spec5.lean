/-! SPEC 5: who is held, routes, words -/
theorem mT_F (g : MSt) (nM : Nat) : (mT g nM).2.2.2 = mF g := rfl
theorem mT_1 (g : MSt) (nM : Nat) : (mT g nM).1 = nM := rfl
theorem mT_2 (g : MSt) (nM : Nat) : (mT g nM).2.1 = g.1 13 := rfl
theorem mT_3 (g : MSt) (nM : Nat) : (mT g nM).2.2.1 = mLaw g := rfl
def hdstV (T : Tw) (q : Nat) (place day : Int32) : Nat → Int32
  | 0 => 0
  | k + 1 => if (decide (T.2.2.2 0 k = nI q) && decide (T.2.2.2 2 k = place) && onB T.2.2.2 k day && !decide (hardV T.1 T.2.2.1 T.2.2.2 k day ≤ hdstV T q place day k)) = true then hardV T.1 T.2.2.1 T.2.2.2 k day else hdstV T q place day k
def r_hard (g : MSt) (nM : Nat) (m : Int32) : Int32 := if inB m 0 (g.1 4 - 1) = true then hardV nM (mLaw g) (mF g) m.toNatClampNeg (g.1 14) else -1
def r_held (g : MSt) (nM : Nat) (q what : Int32) : Int32 := if (inB q 0 (g.1 1 - 1) && inB what 0 1) = true then (if what = 0 then nI (heldN (mT g nM) q.toNatClampNeg (g.2.1 2 q.toNatClampNeg) (g.1 14) nM) else hdstV (mT g nM) q.toNatClampNeg (g.2.1 2 q.toNatClampNeg) (g.1 14) nM) else -1
/-- what is to be answered, if a shelf holds no row of bytes -/
def flt (g : MSt) (s : Nat) : Int32 := if g.2.1 63 s = -1 then -11 else if g.2.1 63 s = -2 then 0 else -12
/-- the k-th of a row of small numbers -/
def elV (g : MSt) (s k : Nat) : Int32 := (g.2.2.2 65 (60 * s + k)).toInt32
def stepsF (g : MSt) (s n : Nat) : Nat → Nat → Nat
  | 0, k => k
  | f + 1, k => if 30 ≤ k then k else if n ≤ k then k else if inB (elV g s k) 0 4 = true then stepsF g s n f (k + 1) else k
def stepsN (g : MSt) (s n : Nat) : Nat := stepsF g s n 31 0
theorem factsV_eq {g : MSt} {nM p bb : Nat} {day : Int32} {fa : Nat → Int32} {left : Int32} (hl : left = leftV (mF g) p day) (hb : (g.2.1 5 p).toNatClampNeg = bb) : ∀ k, k < 6 → (va_up (va_up (va_up (va_up (va_up (va_up fa 0 (g.2.1 8 p)) 1 left) 2 (g.2.1 3 bb)) 3 (nI (cntB (othB (mF g) p day) nM))) 4 (g.2.1 11 p)) 5 day) k = factsV (mF g) nM p day k := by
  intro k hk
  have : k = 0 ∨ k = 1 ∨ k = 2 ∨ k = 3 ∨ k = 4 ∨ k = 5 := by omega
  subst hb
  rcases this with rfl | rfl | rfl | rfl | rfl | rfl
  · rfl
  · exact hl
  · rfl
  · rfl
  · rfl
  · rfl
