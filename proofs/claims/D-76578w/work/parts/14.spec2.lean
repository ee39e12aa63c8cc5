/-! SPEC 2: changes, people, promises -/
theorem nN_nI {n : Nat} (h : n < 2 ^ 31) : (nI n).toNatClampNeg = n := nI_clamp h
theorem inB_ex {v x : Int32} {n : Nat} (h : inB v 0 (x - 1) = true) (hx : x = nI n) (hn : n ≤ 1000) : ∃ j, j < n ∧ v = nI j := by
  rw [inB_iff] at h
  subst hx
  rcases Nat.eq_zero_or_pos n with h0 | h0
  · subst h0
    have h2 := Int32.le_trans h.1 h.2
    exact absurd h2 (by decide)
  · have e : nI n - 1 = nI (n - 1) := by
      have := nI_pred (n - 1)
      rw [show n - 1 + 1 = n by omega] at this
      exact this
    rw [e] at h
    obtain ⟨j, hj, rfl⟩ := nI_of (x := v) (by rw [Int32.not_lt]; exact h.1)
    have h3 := h.2
    rw [nI_leI (by omega) (by omega)] at h3
    exact ⟨j, by omega, rfl⟩
theorem inB_exc {v c : Int32} {n : Nat} (h : inB v 0 c = true) (hc : c = nI n) (hn : n ≤ 1000) : ∃ j, j < n + 1 ∧ v = nI j := by
  rw [inB_iff] at h
  subst hc
  obtain ⟨j, hj, rfl⟩ := nI_of (x := v) (by rw [Int32.not_lt]; exact h.1)
  have h3 := h.2
  rw [nI_leI (by omega) (by omega)] at h3
  exact ⟨j, by omega, rfl⟩
theorem inB_of {j n : Nat} {x : Int32} (hx : x = nI n) (hj : j < n) (hn : n ≤ 1000) : inB (nI j) 0 (x - 1) = true := by
  subst hx
  have e : nI n - 1 = nI (n - 1) := by
    have := nI_pred (n - 1)
    rw [show n - 1 + 1 = n by omega] at this
    exact this
  rw [e, inB_iff]
  exact ⟨nI_pos' (by omega), nI_le (by omega) (by omega)⟩
theorem inB_ofc {j n : Nat} {x : Int32} (hx : x = nI n) (hj : j ≤ n) (hn : n ≤ 1000) : inB (nI j) 0 x = true := by
  subst hx
  rw [inB_iff]
  exact ⟨nI_pos' (by omega), nI_le (by omega) (by omega)⟩
def valueV (g : MSt) (w j : Nat) : Int32 :=
  if w = 0 then g.2.1 2 j else if w = 1 then g.2.1 3 j else if w = 2 then g.2.1 7 j else if w = 3 then g.2.1 8 j else if w = 4 then g.2.1 9 j else if w = 5 then g.2.1 10 j else if w = 6 then g.2.1 11 j else if w = 7 then g.2.1 12 j else if w = 8 then g.1 13 else g.1 14
def laysS (g : MSt) (w j : Nat) (v : Int32) : MSt :=
  if w = 0 then msA g 2 (va_up (g.2.1 2) j v) else if w = 1 then msA g 3 (va_up (g.2.1 3) j v) else if w = 2 then msA g 7 (va_up (g.2.1 7) j v) else if w = 3 then msA g 8 (va_up (g.2.1 8) j v) else if w = 4 then msA g 9 (va_up (g.2.1 9) j v) else if w = 5 then msA g 10 (va_up (g.2.1 10) j v) else if w = 6 then msA g 11 (va_up (g.2.1 11) j v) else if w = 7 then msA g 12 (va_up (g.2.1 12) j v) else if w = 8 then msS g 13 v else msS g 14 v
/-- how many places there are of each kind -/
def wLen (w : Nat) : Nat := if w < 2 then 6 else if w < 8 then 12 else 1
theorem wLen_2 {w : Nat} (h : w < 2) : wLen w = 6 := by simp [wLen, h]
/-- a place that is: what, whose -/
def plOK (nP nM w j : Nat) : Prop := w < 10 ∧ (w < 2 → j < nP) ∧ (2 ≤ w → w < 8 → j < nM) ∧ (8 ≤ w → j = 0)
theorem plOK.len {nP nM w j : Nat} (h : plOK nP nM w j) (hP : nP ≤ 6) (hM : nM ≤ 12) : j < wLen w := by
  obtain ⟨h1, h2, h3, h4⟩ := h
  unfold wLen
  split
  · have := h2 (by omega); omega
  · split
    · have := h3 (by omega) (by omega); omega
    · have := h4 (by omega); omega
def isPlB (g : MSt) (n what : Int32) : Bool := if inB what 0 1 = true then inB n 0 (g.1 1 - 1) else if inB what 2 7 = true then inB n 0 (g.1 4 - 1) else inB what 8 9 && decide (n = 0)
theorem inB_exl {v c d : Int32} {l n : Nat} (h : inB v d c = true) (hd : d = nI l) (hc : c = nI n) (hl : l ≤ 1000) (hn : n ≤ 1000) : ∃ j, l ≤ j ∧ j ≤ n ∧ v = nI j := by
  rw [inB_iff] at h
  subst hc
  subst hd
  have h0 : (0 : Int32) ≤ v := Int32.le_trans (nI_pos' (by omega)) h.1
  obtain ⟨j, hj, rfl⟩ := nI_of (x := v) (by rw [Int32.not_lt]; exact h0)
  have h3 := h.2
  have h4 := h.1
  rw [nI_leI (by omega) (by omega)] at h3 h4
  exact ⟨j, h4, h3, rfl⟩
theorem isPlB_ex {g : MSt} {n what : Int32} {nP nM : Nat} (h : isPlB g n what = true) (hP : g.1 1 = nI nP) (hM : g.1 4 = nI nM) (h1 : nP ≤ 6) (h2 : nM ≤ 12) : ∃ w j, what = nI w ∧ n = nI j ∧ plOK nP nM w j := by
  unfold isPlB at h
  split at h
  · rename_i hw
    obtain ⟨w, hw1, rfl⟩ := inB_exc (n := 1) hw rfl (by omega)
    obtain ⟨j, hj, rfl⟩ := inB_ex h hP (by omega)
    exact ⟨w, j, rfl, rfl, by omega, fun _ => hj, fun _ _ => by omega, fun _ => by omega⟩
  · split at h
    · rename_i hw
      obtain ⟨w, hw1, hw2, rfl⟩ := inB_exl (l := 2) (n := 7) hw rfl rfl (by omega) (by omega)
      obtain ⟨j, hj, rfl⟩ := inB_ex h hM (by omega)
      exact ⟨w, j, rfl, rfl, by omega, fun _ => by omega, fun _ _ => hj, fun _ => by omega⟩
    · rw [Bool.and_eq_true, decide_eq_true_iff] at h
      obtain ⟨w, hw1, hw2, rfl⟩ := inB_exl (l := 8) (n := 9) h.1 rfl rfl (by omega) (by omega)
      exact ⟨w, 0, rfl, h.2, by omega, fun _ => by omega, fun _ _ => by omega, fun _ => rfl⟩
def mayB (what v : Int32) : Bool :=
  if what = 0 ∨ what = 2 then inB v 0 24 else if what = 1 ∨ what = 3 then inB v 0 9 else if what = 6 ∨ what = 7 then inB v 0 1 else if what = 8 then inB v 1 9 else inB v 0 99
/-- the first i rows moved down by one -/
def shL (f : Nat → Int32) (i : Nat) : Nat → Int32 := fun j => if j + 1 < i then f (j + 1) else f j
def shG (g : MSt) (i : Nat) : MSt := msA (msA (msA (msA g 18 (shL (g.2.1 18) i)) 19 (shL (g.2.1 19) i)) 20 (shL (g.2.1 20) i)) 21 (shL (g.2.1 21) i)
theorem shL_1 (f : Nat → Int32) : shL f 1 = f := by
  funext j
  simp [shL]
theorem shL_s (f : Nat → Int32) {i : Nat} (h : 1 ≤ i) : va_up (shL f i) (i - 1) (f i) = shL f (i + 1) := by
  funext j
  by_cases hj : j = i - 1
  · subst hj
    rw [va_upS]
    unfold shL
    rw [if_pos (by omega), show i - 1 + 1 = i by omega]
  · rw [va_upN hj]
    unfold shL
    by_cases h2 : j + 1 < i
    · rw [if_pos h2, if_pos (by omega)]
    · rw [if_neg h2, if_neg (by omega)]
theorem shL_i (f : Nat → Int32) (i : Nat) : shL f i i = f i := by
  unfold shL
  rw [if_neg (by omega)]
theorem va_up_id {α : Type} (f : Nat → α) (k : Nat) : va_up f k (f k) = f := by
  funext j
  by_cases h : j = k
  · subst h; rw [va_upS]
  · rw [va_upN h]
theorem msA_id (g : MSt) (k : Nat) : msA g k (g.2.1 k) = g := by
  show (g.1, va_up g.2.1 k (g.2.1 k), g.2.2) = g
  rw [va_up_id]
theorem shG_1 (g : MSt) : shG g 1 = g := by
  unfold shG
  rw [shL_1, shL_1, shL_1, shL_1, msA_id]
  show msA (msA (msA g 19 (g.2.1 19)) 20 (g.2.1 20)) 21 (g.2.1 21) = g
  rw [msA_id, msA_id, msA_id]
theorem nI_sub1 {i : Nat} (h : 1 ≤ i) : nI i - 1 = nI (i - 1) := by
  have := nI_pred (i - 1)
  rw [show i - 1 + 1 = i by omega] at this
  exact this
theorem shG_s (g : MSt) {i : Nat} (h : 1 ≤ i) : msA (msA (msA (msA (shG g i) 18 (va_up ((shG g i).2.1 18) (i - 1) ((shG g i).2.1 18 i))) 19 (va_up ((shG g i).2.1 19) (i - 1) ((shG g i).2.1 19 i))) 20 (va_up ((shG g i).2.1 20) (i - 1) ((shG g i).2.1 20 i))) 21 (va_up ((shG g i).2.1 21) (i - 1) ((shG g i).2.1 21 i)) = shG g (i + 1) := by
  have e : ∀ f : Nat → Int32, va_up (shL f i) (i - 1) (shL f i i) = shL f (i + 1) := fun f => by rw [shL_i, shL_s f h]
  show (g.1, va_up (va_up (va_up (va_up (va_up (va_up (va_up (va_up g.2.1 18 (shL (g.2.1 18) i)) 19 (shL (g.2.1 19) i)) 20 (shL (g.2.1 20) i)) 21 (shL (g.2.1 21) i)) 18 (va_up (shL (g.2.1 18) i) (i - 1) (shL (g.2.1 18) i i))) 19 (va_up (shL (g.2.1 19) i) (i - 1) (shL (g.2.1 19) i i))) 20 (va_up (shL (g.2.1 20) i) (i - 1) (shL (g.2.1 20) i i))) 21 (va_up (shL (g.2.1 21) i) (i - 1) (shL (g.2.1 21) i i)), g.2.2) = _
  rw [e, e, e, e]
  unfold shG
  refine Prod.ext rfl (Prod.ext ?_ rfl)
  funext k
  by_cases h1 : k = 21
  · subst h1; simp [va_up]
  · by_cases h2 : k = 20
    · subst h2; simp [va_up]
    · by_cases h3 : k = 19
      · subst h3; simp [va_up]
      · by_cases h4 : k = 18
        · subst h4; simp [va_up]
        · simp [va_up, h1, h2, h3, h4]
def chW (g : MSt) (e w j : Nat) (was v : Int32) : MSt := laysS (msS (msA (msA (msA (msA g 18 (va_up (g.2.1 18) e (nI w))) 19 (va_up (g.2.1 19) e (nI j))) 20 (va_up (g.2.1 20) e was)) 21 (va_up (g.2.1 21) e v)) 16 (nI (e + 1))) w j v
def chS (g : MSt) (w j : Nat) (v : Int32) (d : Nat) : MSt := if valueV g w j = v then g else if d = 40 then chW (msS (shG (msS g 17 0) 40) 16 (nI 39)) 39 w j (valueV g w j) v else chW (msS g 17 0) d w j (valueV g w j) v
theorem ms40 {d : Nat} (h : nI d = 40) (hd : d ≤ 40) : d = 40 := by
  have h2 : nI d = nI 40 := h
  rw [nI_eq (by omega) (by omega)] at h2
  exact h2
theorem nI_k {d k : Nat} {x : Int32} (h : nI d = x) (hx : x = nI k) (hd : d < 2 ^ 31) (hk : k < 2 ^ 31) : d = k := by
  rw [hx, nI_eq hd hk] at h
  exact h
theorem nI_nk {d k : Nat} {x : Int32} (h : ¬ nI d = x) (hx : x = nI k) : ¬ d = k := fun e => h (by rw [e, hx])
theorem cle {c : Int32} {n i : Nat} (h : c ≤ nI i) (hc : c = nI n) (hn : n < 2 ^ 31) (hi : i < 2 ^ 31) : n ≤ i := by
  rw [hc, nI_leI hn hi] at h; exact h
theorem cnle {c : Int32} {n i : Nat} (h : ¬ c ≤ nI i) (hc : c = nI n) (hn : n < 2 ^ 31) (hi : i < 2 ^ 31) : i < n := by
  rw [hc, nI_leI hn hi] at h; omega
theorem lec {c : Int32} {n i : Nat} (h : nI i ≤ c) (hc : c = nI n) (hn : n < 2 ^ 31) (hi : i < 2 ^ 31) : i ≤ n := by
  rw [hc, nI_leI hi hn] at h; exact h
theorem nlec {c : Int32} {n i : Nat} (h : ¬ nI i ≤ c) (hc : c = nI n) (hn : n < 2 ^ 31) (hi : i < 2 ^ 31) : n < i := by
  rw [hc, nI_leI hi hn] at h; omega
/-- the ranges of the town -/
def TI (g : MSt) (nP nM t : Nat) : Prop := g.1 1 = nI nP ∧ nP ≤ 6 ∧ g.1 4 = nI nM ∧ nM ≤ 12 ∧ g.1 14 = nI t ∧ t ≤ 99 ∧
  (∃ h, 1 ≤ h ∧ h ≤ 9 ∧ g.1 13 = nI h) ∧ (∀ p, p < nP → (∃ q, q < 25 ∧ g.2.1 2 p = nI q) ∧ ∃ b, b ≤ 9 ∧ g.2.1 3 p = nI b) ∧
  (∀ p, p < nM → (∃ b, b < nP ∧ g.2.1 5 p = nI b) ∧ (∃ b, b < nP ∧ g.2.1 6 p = nI b) ∧ (∃ q, q < 25 ∧ g.2.1 7 p = nI q) ∧ (∃ x, x ≤ 9 ∧ g.2.1 8 p = nI x) ∧ (∃ x, x ≤ 99 ∧ g.2.1 9 p = nI x) ∧ (∃ x, x ≤ 99 ∧ g.2.1 10 p = nI x) ∧ (∃ x, x ≤ 1 ∧ g.2.1 11 p = nI x) ∧ ∃ x, x ≤ 1 ∧ g.2.1 12 p = nI x) ∧
  ∀ p, nM ≤ p → g.2.1 11 p = 0 ∧ g.2.1 12 p = 0
/-- the ranges of the changes -/
def CHI (g : MSt) (nP nM d u : Nat) : Prop := g.1 16 = nI d ∧ g.1 17 = nI u ∧ d + u ≤ 40 ∧ ∀ k, k < d + u → ∃ w j, g.2.1 18 k = nI w ∧ g.2.1 19 k = nI j ∧ plOK nP nM w j ∧ mayB (nI w) (g.2.1 20 k) = true ∧ mayB (nI w) (g.2.1 21 k) = true
def addPS (g : MSt) (nM : Nat) (a b q w t : Int32) : MSt := msS (msA (msA (msA (msA (msA (msA g 5 (va_up (g.2.1 5) nM a)) 6 (va_up (g.2.1 6) nM b)) 7 (va_up (g.2.1 7) nM q)) 8 (va_up (g.2.1 8) nM w)) 9 (va_up (g.2.1 9) nM (g.1 14))) 10 (va_up (g.2.1 10) nM t)) 4 (nI (nM + 1))
