/-! SPEC 10: promises from a shelf -/
def prM (at_ : Int32) (i : Nat) : Int64 := at_.toInt64 + lN (5 * i)
theorem prM_of {at_ : Int32} {i : Nat} (hi : i ≤ 100) (h : ¬ prM at_ i < 0) : ∃ m, m < 2 ^ 32 ∧ prM at_ i = lN m := by
  have e : (prM at_ i).toInt = at_.toInt + (5 * i : Nat) := by
    rw [prM, Int64.toInt_add, Int32.toInt_toInt64, lN_toInt (by omega)]
    have h1 := Int32.le_toInt at_
    have h2 := Int32.toInt_lt at_
    exact Int.bmod_eq_of_le (by omega) (by omega)
  obtain ⟨k, hk, he⟩ := pk_lOf h
  have h3 := congrArg Int64.toInt he
  rw [e, pk_lT hk] at h3
  have h2 := Int32.toInt_lt at_
  exact ⟨k, by omega, he⟩
def prX (s : Nat) (at_ : Int32) (i : Nat) : Nat := 60 * s + (prM at_ i).toInt32.toNatClampNeg
def prE (g : MSt) (s : Nat) (at_ : Int32) (i j : Nat) : Int32 := (g.2.2.2 65 (prX s at_ i + j)).toInt32
def prOk (g : MSt) (s : Nat) (at_ : Int32) (i : Nat) : Bool := twoB g (prE g s at_ i 0) (prE g s at_ i 1) && inB (prE g s at_ i 2) 0 24 && inB (prE g s at_ i 3) 0 9 && inB (prE g s at_ i 4) 0 99
def prC (g : MSt) (s : Nat) (at_ : Int32) (sz nM i : Nat) : Bool := !decide (prM at_ i < 0) && !decide (lN sz ≤ prM at_ i + 4) && !decide (nI nM = 12) && prOk g s at_ i
def prF (s : Nat) (at_ : Int32) (sz : Nat) : Nat → MSt → Nat → Nat → MSt × Nat
  | 0, g, _, i => (g, i)
  | f + 1, g, nM, i => if prC g s at_ sz nM i = true then prF s at_ sz f (addPS g nM (prE g s at_ i 0) (prE g s at_ i 1) (prE g s at_ i 2) (prE g s at_ i 3) (prE g s at_ i 4)) (nM + 1) (i + 1) else (g, i)
def prmV (g : MSt) (s n : Int32) : Int32 := if (inB s 0 5 && inB n 1 12) = true then (if g.2.1 63 s.toNatClampNeg = -1 then 0 else if g.2.1 63 s.toNatClampNeg = -2 then 1 else -12) else -1
def r_promises (g : MSt) (nM : Nat) (s at_ n : Int32) : Int32 := if prmV g s n = 1 then nI (prF s.toNatClampNeg at_ (g.2.1 64 s.toNatClampNeg).toNatClampNeg n.toNatClampNeg g nM 0).2 else prmV g s n
def n_promises (g : MSt) (nM : Nat) (s at_ n : Int32) : MSt := if prmV g s n = 1 then (prF s.toNatClampNeg at_ (g.2.1 64 s.toNatClampNeg).toNatClampNeg n.toNatClampNeg g nM 0).1 else g
