/-! SPEC 14: what the bodies do -/
def ranL (g : MSt) (r : Nat) : List Int32 → MSt
  | [] => g
  | b :: bs => ranL (ranS g r b) (r + 1) bs
theorem ranL_app : ∀ (as bs : List Int32) (g : MSt) (r : Nat), ranL (ranL g r as) (r + as.length) bs = ranL g r (as ++ bs)
  | [], bs, g, r => rfl
  | a :: as, bs, g, r => by
    show ranL (ranL (ranS g r a) (r + 1) as) (r + (as.length + 1)) bs = ranL (ranS g r a) (r + 1) (as ++ bs)
    rw [show r + (as.length + 1) = r + 1 + as.length by omega]
    exact ranL_app as bs _ _
theorem ranS_61 {g : MSt} {r : Nat} {b : Int32} : (ranS g r b).1 61 = nI (r + 1) := by
  show va_up g.1 61 (nI (r + 1)) 61 = _
  exact va_upS _ _ _
theorem ranS_60 {g : MSt} {r : Nat} {b : Int32} : (ranS g r b).2.1 60 = g.2.1 60 := by
  show va_up g.2.1 62 (if r < 24 then va_up (g.2.1 62) r b else g.2.1 62) 60 = _
  exact va_upN (by decide)
theorem ranL_61 : ∀ (as : List Int32) (g : MSt) (r : Nat), g.1 61 = nI r → (ranL g r as).1 61 = nI (r + as.length)
  | [], _, _, h => h
  | a :: as, g, r, h => by
    show (ranL (ranS g r a) (r + 1) as).1 61 = nI (r + (as.length + 1))
    rw [show r + (as.length + 1) = r + 1 + as.length by omega]
    exact ranL_61 as _ _ ranS_61
theorem ranL_60 : ∀ (as : List Int32) (g : MSt) (r : Nat), (ranL g r as).2.1 60 = g.2.1 60
  | [], _, _ => rfl
  | a :: as, g, r => (ranL_60 as (ranS g r a) (r + 1)).trans ranS_60
def hoV (κ x b : Int32) : Int32 := if undB κ 1 = true then x + b + 3 else if κ = 7 then (x + b) * 2 - 1 else if κ = 6 then (x + b) * 2 else x + b
def hoL (κ : Int32) : List Int32 := if undB κ 1 = true then [20, 1] else if κ = 7 then [81, 70, 1] else if κ = 6 then [70, 1] else [1]
def ppV (κ x b : Int32) : Int32 := hoV κ x b * 2
def ppL (κ : Int32) : List Int32 := 10 :: hoL κ
def lpV (κ x b : Int32) : Int32 := -ppV κ x b
def lpL (κ : Int32) : List Int32 := 30 :: ppL κ
def hfV (x b : Int32) : Int32 := (x ^^^ b) * 3
def frV (κ x b : Int32) : Int32 := if κ = 5 then hfV x b - hoV κ 2 b else if κ = 3 then hfV x b else x ^^^ b
def frL (κ : Int32) : List Int32 := if κ = 5 then 60 :: ([40, 11] ++ hoL κ) else if κ = 3 then [40, 11] else [11]
def puV (κ x b : Int32) : Int32 := if undB κ 3 = true then lpV κ (x + 1) b else if κ = 7 then ppV κ x b + frV κ 2 b else if κ = 2 then lpV κ x b else ppV κ x b
def puL (κ : Int32) : List Int32 := if undB κ 3 = true then 41 :: lpL κ else if κ = 7 then 80 :: (ppL κ ++ frL κ) else if κ = 2 then lpL κ else ppL κ
def ptV (κ x b : Int32) : Int32 := puV κ x b - frV κ 1 b
def ptL (κ : Int32) : List Int32 := 2 :: (puL κ ++ frL κ)
def teV (κ x b : Int32) : Int32 := if κ = 4 then ptV κ x b ^^^ 5 else if κ = 5 then ptV κ x b + 1 else ptV κ x b
def teL (κ : Int32) : List Int32 := if κ = 4 then 50 :: ptL κ else if κ = 5 then 61 :: ptL κ else ptL κ
def actV (κ w x b : Int32) : Int32 := if w = 0 then hoV κ x b else if w = 1 then puV κ x b else if w = 2 then frV κ x b else teV κ x b
def actL (κ w : Int32) : List Int32 := if w = 0 then hoL κ else if w = 1 then puL κ else if w = 2 then frL κ else teL κ
theorem hoL_le (κ : Int32) : (hoL κ).length ≤ 3 := by
  unfold hoL
  split
  · decide
  · split
    · decide
    · split <;> decide
theorem frL_le (κ : Int32) : (frL κ).length ≤ 6 := by
  have := hoL_le κ
  unfold frL
  split
  · simp only [List.length_cons, List.length_append, List.length_nil]; omega
  · split <;> decide
theorem puL_le (κ : Int32) : (puL κ).length ≤ 12 := by
  have := hoL_le κ
  have := frL_le κ
  unfold puL lpL ppL
  split
  · simp only [List.length_cons]; omega
  · split
    · simp only [List.length_cons, List.length_append]; omega
    · split <;> (simp only [List.length_cons]; omega)
theorem actL_le (κ w : Int32) : (actL κ w).length ≤ 30 := by
  have := hoL_le κ
  have := frL_le κ
  have := puL_le κ
  unfold actL teL ptL
  split
  · omega
  · split
    · omega
    · split
      · omega
      · split
        · simp only [List.length_cons, List.length_append]; omega
        · split <;> (simp only [List.length_cons, List.length_append]; omega)
def actB (g : MSt) (b w : Int32) : Bool := inB b 0 (g.1 59 - 1) && inB w 0 3
def r_act (g : MSt) (b w x : Int32) : Int32 := if actB g b w = true then actV (g.2.1 60 b.toNatClampNeg) w x b else 0
def n_act (g : MSt) (b w : Int32) : MSt := if actB g b w = true then ranL (msS g 61 0) 0 (actL (g.2.1 60 b.toNatClampNeg) w) else msS g 61 0
