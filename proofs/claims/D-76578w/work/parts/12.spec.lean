/-! SPEC 1: plain functions that both sides compute -/
def inB (v lo hi : Int32) : Bool := !decide (v < lo) && !decide (hi < v)
theorem inB_iff {v lo hi : Int32} : inB v lo hi = true ↔ lo ≤ v ∧ v ≤ hi := by simp [inB, Int32.not_lt]
theorem inB_nI {n : Nat} (h : n < 2 ^ 31) {lo hi : Nat} (hl : lo < 2 ^ 31) (hh : hi < 2 ^ 31) : inB (nI n) (nI lo) (nI hi) = (decide (lo ≤ n) && decide (n ≤ hi)) := by
  rw [Bool.eq_iff_iff, inB_iff, nI_leI hl h, nI_leI h hh]
  simp
def hasB (set : Int32) (k : Nat) : Bool := decide (((set >>> (nI k &&& 31)) &&& 1) = 1)
def cntB (f : Nat → Bool) : Nat → Nat
  | 0 => 0
  | k + 1 => cntB f k + (if f k then 1 else 0)
def bitsB (f : Nat → Bool) : Nat → Int32
  | 0 => 0
  | k + 1 => if f k then bitsB f k ||| ((1 : Int32) <<< (nI k &&& 31)) else bitsB f k
def sumB (f : Nat → Bool) (w : Nat → Int32) : Nat → Int32
  | 0 => 0
  | k + 1 => if f k then sumB f w k + w k else sumB f w k
theorem cntB_le (f : Nat → Bool) : ∀ k, cntB f k ≤ k
  | 0 => Nat.le_refl _
  | k + 1 => by
    have h := cntB_le f k
    show cntB f k + (if f k then 1 else 0) ≤ k + 1
    split <;> omega
theorem cntB_t {f : Nat → Bool} {k : Nat} (h : f k = true) : cntB f (k + 1) = cntB f k + 1 := by simp [cntB, h]
theorem cntB_f {f : Nat → Bool} {k : Nat} (h : f k = false) : cntB f (k + 1) = cntB f k := by simp [cntB, h]
theorem cntB_mono (f : Nat → Bool) : ∀ {a b : Nat}, a ≤ b → cntB f a ≤ cntB f b := by
  intro a b h
  induction b with
  | zero => rw [Nat.le_zero.mp h]; exact Nat.le_refl _
  | succ b ih =>
    rcases Nat.lt_or_ge a (b + 1) with q | q
    · exact Nat.le_trans (ih (Nat.le_of_lt_succ q)) (Nat.le_add_right _ _)
    · rw [Nat.le_antisymm h q]; exact Nat.le_refl _
theorem cntB_congr {f f2 : Nat → Bool} : ∀ {k : Nat}, (∀ j, j < k → f j = f2 j) → cntB f k = cntB f2 k
  | 0, _ => rfl
  | k + 1, h => by simp [cntB, cntB_congr (k := k) (fun j hj => h j (by omega)), h k (by omega)]
theorem cntB_0 {f : Nat → Bool} : ∀ {k : Nat}, (∀ j, j < k → f j = false) → cntB f k = 0
  | 0, _ => rfl
  | k + 1, h => by simp [cntB, cntB_0 (k := k) (fun j hj => h j (by omega)), h k (by omega)]
theorem cntB_pos {f : Nat → Bool} {k : Nat} : 0 < cntB f k ↔ ∃ j, j < k ∧ f j = true := by
  induction k with
  | zero => simp [cntB]
  | succ k ih =>
    cases hf : f k with
    | true => rw [cntB_t hf]; exact ⟨fun _ => ⟨k, by omega, hf⟩, fun _ => by omega⟩
    | false =>
      rw [cntB_f hf, ih]
      constructor
      · rintro ⟨j, h1, h2⟩
        exact ⟨j, by omega, h2⟩
      · rintro ⟨j, h1, h2⟩
        refine ⟨j, ?_, h2⟩
        rcases Nat.lt_or_ge j k with q | q
        · exact q
        · have e : j = k := by omega
          subst e
          rw [hf] at h2
          cases h2
theorem bitsB_t {f : Nat → Bool} {k : Nat} (h : f k = true) : bitsB f (k + 1) = bitsB f k ||| ((1 : Int32) <<< (nI k &&& 31)) := by simp [bitsB, h]
theorem bitsB_f {f : Nat → Bool} {k : Nat} (h : f k = false) : bitsB f (k + 1) = bitsB f k := by simp [bitsB, h]
theorem bitsB_congr {f f2 : Nat → Bool} : ∀ {k : Nat}, (∀ j, j < k → f j = f2 j) → bitsB f k = bitsB f2 k
  | 0, _ => rfl
  | k + 1, h => by simp [bitsB, bitsB_congr (k := k) (fun j hj => h j (by omega)), h k (by omega)]
theorem sumB_t {f : Nat → Bool} {w : Nat → Int32} {k : Nat} (h : f k = true) : sumB f w (k + 1) = sumB f w k + w k := by simp [sumB, h]
theorem sumB_f {f : Nat → Bool} {w : Nat → Int32} {k : Nat} (h : f k = false) : sumB f w (k + 1) = sumB f w k := by simp [sumB, h]
theorem and_pred {s : Nat} (h : ¬ s = 0) : s &&& (s - 1) < s := by
  have := Nat.and_le_right (n := s) (m := s - 1)
  omega
def onesN (s : Nat) : Nat := if h : s = 0 then 0 else onesN (s &&& (s - 1)) + 1
termination_by s
decreasing_by exact and_pred h
theorem onesN_0 : onesN 0 = 0 := by rw [onesN]; simp
theorem onesN_s {s : Nat} (h : ¬ s = 0) : onesN s = onesN (s &&& (s - 1)) + 1 := by rw [onesN, dif_neg h]
theorem onesN_le (s : Nat) : onesN s ≤ s := by
  induction s using Nat.strongRecOn with
  | _ s ih =>
    by_cases h : s = 0
    · subst h; rw [onesN_0]; exact Nat.le_refl _
    · rw [onesN_s h]
      have h1 := ih _ (and_pred h)
      have h2 := and_pred h
      omega
theorem nI_and (a b : Nat) : nI a &&& nI b = nI (a &&& b) := by
  apply Int32.toBitVec_inj.mp
  show BitVec.ofNat 32 a &&& BitVec.ofNat 32 b = BitVec.ofNat 32 (a &&& b)
  exact (BitVec.ofNat_and).symm
theorem nI_andp {s : Nat} (h : ¬ s = 0) : nI s &&& (nI s - 1) = nI (s &&& (s - 1)) := by
  have e : nI s - 1 = nI (s - 1) := by
    have := nI_pred (s - 1)
    rw [show s - 1 + 1 = s by omega] at this
    exact this
  rw [e, nI_and]
/-- the grid, five by five -/
def stepN (q w : Nat) : Nat := if w = 0 then (if q < 5 then q else q - 5) else if w = 1 then (if q % 5 = 4 then q else q + 1) else if w = 2 then (if 20 ≤ q then q else q + 5) else if w = 3 then (if q % 5 = 0 then q else q - 1) else q
theorem stepN_lt {q w : Nat} (h : q < 25) : stepN q w < 25 := by
  unfold stepN
  split
  · split <;> omega
  · split
    · split <;> omega
    · split
      · split <;> omega
      · split
        · split <;> omega
        · exact h
def dN (a b : Nat) : Nat := if a < b then b - a else a - b
def farN (a b : Nat) : Nat := dN (a % 5) (b % 5) + dN (a / 5) (b / 5)
def dayN (t k : Nat) : Nat := if 99 < t + k then 99 else t + k
theorem dayN_hi {t k : Nat} (h : ¬ nI (t + k) ≤ 99) (ht : t ≤ 99) (hk : k ≤ 99) : (99 : Int32) = nI (dayN t k) := by
  have h2 : ¬ nI (t + k) ≤ nI 99 := h
  rw [nI_leI (by omega) (by omega)] at h2
  rw [dayN, if_pos (by omega)]
  rfl
theorem dayN_lo {t k : Nat} (h : nI (t + k) ≤ 99) (ht : t ≤ 99) (hk : k ≤ 99) : nI (t + k) = nI (dayN t k) := by
  have h2 : nI (t + k) ≤ nI 99 := h
  rw [nI_leI (by omega) (by omega)] at h2
  rw [dayN, if_neg (by omega)]
theorem dayN_le {t k : Nat} : dayN t k ≤ 99 := by
  unfold dayN
  split <;> omega
/-! the town: rows of numbers by, to, at, weight, from, till, forgot, gone (of a promise), boots (of one) -/
abbrev Cod : Type := List (Int32 × Int32)
abbrev LawO : Type := Option (List (Cod × Cod))
abbrev FT : Type := Nat → Nat → Int32
def onB (F : FT) (p : Nat) (day : Int32) : Bool := decide (F 7 p = 0) && inB day (F 4 p) (F 5 p)
def othB (F : FT) (p : Nat) (day : Int32) (e : Nat) : Bool := !decide (nI e = nI p) && decide (F 0 e = F 0 p) && decide (F 2 e = F 2 p) && onB F e day
def twoV (w a b : Int32) : Int32 :=
  if w = 43 then a + b else if w = 45 then a - b else if w = 42 then a * b
  else if w = 47 then (if b = 0 then 0 else a / b) else if w = 37 then (if b = 0 then 0 else a - a / b * b)
  else if w = 60 then bI (decide (a < b)) else if w = 61 then bI (decide (a = b)) else if w = 62 then bI (decide (b < a))
  else if w = 38 then bI (!decide (a = 0) && !decide (b = 0)) else bI (!decide (a = 0) || !decide (b = 0))
def stV (w v : Int32) (fa : Nat → Int32) (st : List Int32) : List Int32 :=
  if w = 1 then v :: st else if w = 2 then fa v.toNatClampNeg :: st
  else if w = 3 then (match st with | a :: r => (if a = 0 then 1 else 0) :: r | [] => [])
  else if w = 4 then (match st with | a :: r => (-a) :: r | [] => [])
  else (match st with | b :: a :: r => twoV w a b :: r | r => r)
def runV (fa : Nat → Int32) : Cod → List Int32 → List Int32
  | [], st => st
  | (w, v) :: cs, st => runV fa cs (stV w v fa st)
def valV (fa : Nat → Int32) (c : Cod) : Int32 := (runV fa c []).headD 0
def givesV (fa : Nat → Int32) : List (Cod × Cod) → Int32
  | [] => 0
  | (t, c) :: ls => if t = [] ∨ ¬ valV fa t = 0 then valV fa c else givesV fa ls
def clampV (v : Int32) : Int32 := if 0 ≤ v then (if v ≤ 9 then v else 9) else 0
def leftV (F : FT) (p : Nat) (day : Int32) : Int32 := if F 5 p ≤ day then 0 else F 5 p - day
def factsV (F : FT) (nM p : Nat) (day : Int32) : Nat → Int32 := fun k => match k with
  | 0 => F 3 p
  | 1 => leftV F p day
  | 2 => F 8 (F 0 p).toNatClampNeg
  | 3 => nI (cntB (othB F p day) nM)
  | 4 => F 6 p
  | 5 => day
  | _ => 0
def hardV (nM : Nat) (law : LawO) (F : FT) (p : Nat) (day : Int32) : Int32 := clampV (match law with
  | none => F 3 p / 2 + (if 3 ≤ leftV F p day then 0 else 1) - 3 * F 6 p
  | some ls => givesV (factsV F nM p day) ls)
/-- a town: how many promises, from where on it holds, the law, the rows -/
abbrev Tw : Type := Nat × Int32 × LawO × FT
def holdsB (T : Tw) (p : Nat) (place day : Int32) : Bool := decide (T.2.2.2 2 p = place) && onB T.2.2.2 p day && !decide (hardV T.1 T.2.2.1 T.2.2.2 p day < T.2.1)
def heldN (T : Tw) (q : Nat) (place day : Int32) (k : Nat) : Nat := cntB (fun p => decide (T.2.2.2 0 p = nI q) && holdsB T p place day) k
def heldB (T : Tw) (q : Nat) (place day : Int32) : Bool := decide (0 < heldN T q place day T.1)
def keptV (T : Tw) (q : Nat) (place day : Int32) : Int32 := bitsB (fun p => decide (T.2.2.2 0 p = nI q) && decide (T.2.2.2 2 p = place) && onB T.2.2.2 p day) T.1
def wgtV (T : Tw) (bits : Int32) : Int32 := sumB (fun p => hasB bits p) (T.2.2.2 3) T.1
def mF (g : MSt) : FT := fun j => match j with
  | 0 => g.2.1 5
  | 1 => g.2.1 6
  | 2 => g.2.1 7
  | 3 => g.2.1 8
  | 4 => g.2.1 9
  | 5 => g.2.1 10
  | 6 => g.2.1 11
  | 7 => g.2.1 12
  | 8 => g.2.1 3
  | _ => fun _ => 0
theorem bI_n0 {b : Bool} (h : ¬ bI b = 0) : b = true := by cases b <;> simp_all [bI]
theorem bI_z {b : Bool} (h : bI b = 0) : b = false := bI_e0.mp h
def twoB (g : MSt) (a b : Int32) : Bool := inB a 0 (g.1 1 - 1) && inB b 0 (g.1 1 - 1) && !decide (a = b)
