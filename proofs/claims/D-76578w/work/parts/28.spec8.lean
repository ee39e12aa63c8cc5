/-! SPEC 8: by turns, rounds, odds, the best route -/
def lfS (F : FT) (c : Int32) : Nat → Nat → Option Nat
  | 0, _ => none
  | f + 1, p => if (decide (F 1 p = c) && decide (F 6 p = 0)) = true then some p else lfS F c f (p + 1)
theorem lfS_lt (F : FT) (c : Int32) : ∀ f p q, lfS F c f p = some q → q < p + f ∧ F 6 q = 0
  | 0, p, q, h => by cases h
  | f + 1, p, q, h => by
    unfold lfS at h
    split at h
    · rename_i hc
      cases h
      simp only [Bool.and_eq_true, decide_eq_true_eq] at hc
      exact ⟨by omega, hc.2⟩
    · obtain ⟨h1, h2⟩ := lfS_lt F c f (p + 1) q h
      exact ⟨by omega, h2⟩
def mnF (v : Nat → Int32) (b : Int32) : Nat → Int32
  | 0 => b
  | w + 1 => if mnF v b w ≤ v w then mnF v b w else v w
/-- by turns: what is left to go at the end, l turns to come, the man's (true) or the child's -/
def plV (man : Nat) (child : Int32) (goal t : Nat) : Nat → Bool → Tw → Nat → Nat → Int32
  | 0, _, _, pl, _ => nI (farN pl goal)
  | l + 1, true, T, pl, dk => mnF (fun w => plV man child goal t l false T (if heldB T man (nI pl) (nI (dayN t dk)) = true then pl else stepN pl w) (dk + 1)) (plV man child goal t l false T (if heldB T man (nI pl) (nI (dayN t dk)) = true then pl else stepN pl 4) (dk + 1)) 4
  | l + 1, false, T, pl, dk => match lfS T.2.2.2 child T.1 0 with
    | none => plV man child goal t l true T pl dk
    | some p => if plV man child goal t l true (tS T 6 (va_up (T.2.2.2 6) p 1)) pl dk ≤ plV man child goal t l true T pl dk then plV man child goal t l true T pl dk else plV man child goal t l true (tS T 6 (va_up (T.2.2.2 6) p 1)) pl dk
def stpV (man : Nat) (child : Int32) (goal t l : Nat) (T : Tw) (pl dk w : Nat) : Int32 := plV man child goal t l false T (if heldB T man (nI pl) (nI (dayN t dk)) = true then pl else stepN pl w) (dk + 1)
theorem plV_m (man : Nat) (child : Int32) (goal t l : Nat) (T : Tw) (pl dk : Nat) : plV man child goal t (l + 1) true T pl dk = mnF (stpV man child goal t l T pl dk) (stpV man child goal t l T pl dk 4) 4 := rfl
theorem plV_0 (man : Nat) (child : Int32) (goal t : Nat) (b : Bool) (T : Tw) (pl dk : Nat) : plV man child goal t 0 b T pl dk = nI (farN pl goal) := by cases b <;> rfl
theorem plV_n {man : Nat} {child : Int32} {goal t l : Nat} {T : Tw} {pl dk : Nat} (h : lfS T.2.2.2 child T.1 0 = none) : plV man child goal t (l + 1) false T pl dk = plV man child goal t l true T pl dk := by
  rw [plV, h]
theorem plV_s {man : Nat} {child : Int32} {goal t l : Nat} {T : Tw} {pl dk p : Nat} (h : lfS T.2.2.2 child T.1 0 = some p) : plV man child goal t (l + 1) false T pl dk = if plV man child goal t l true (tS T 6 (va_up (T.2.2.2 6) p 1)) pl dk ≤ plV man child goal t l true T pl dk then plV man child goal t l true T pl dk else plV man child goal t l true (tS T 6 (va_up (T.2.2.2 6) p 1)) pl dk := by
  rw [plV, h]
def turB (g : MSt) (ab place n what : Int32) : Bool := !decide (ab < 0) && twoB g (ab / 10) (ab - ab / 10 * 10) && inB place 0 24 && inB n 1 5 && inB what 0 1
def wayF (v : Nat → Int32) (is : Int32) : Nat → Nat → Nat
  | 0, w => w
  | f + 1, w => if v w = is then w else wayF v is f (w + 1)
def r_byTurns (g : MSt) (nM t : Nat) (ab place n what : Int32) : Int32 := if turB g ab place n what = true then
    (let man := (ab / 10).toNatClampNeg; let ch := ab - ab / 10 * 10; let go := place.toNatClampNeg; let l := n.toNatClampNeg - 1; let q := (g.2.1 2 man).toNatClampNeg
     let v := stpV man ch go t l (mT g nM) q 0; let is := mnF v (v 4) 4
     if what = 0 then is else if v 4 = is then 4 else nI (wayF v is 4 0)) else -1
theorem mnF_in (v : Nat → Int32) (b : Int32) : ∀ n, mnF v b n = b ∨ ∃ w, w < n ∧ v w = mnF v b n
  | 0 => Or.inl rfl
  | n + 1 => by
    unfold mnF
    split
    · rcases mnF_in v b n with h | ⟨w, h1, h2⟩
      · exact Or.inl h
      · exact Or.inr ⟨w, by omega, h2⟩
    · exact Or.inr ⟨n, by omega, rfl⟩
