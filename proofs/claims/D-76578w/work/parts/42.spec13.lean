/-! SPEC 13: the whole text -/
theorem lpQ_id (g : MSt) : pQ (lQ g (g.2.1 30) (g.2.1 31) (g.2.1 32)) (g.1 24) (g.1 25) (g.1 26) (g.1 27) (g.2.1 28) (g.2.1 29) = g := by
  unfold pQ lQ
  rw [msA_id, msA_id, msA_id, msS_id, msS_id, msS_id, msS_id, msA_id, msA_id]
def okS (L : Nat) (s : LT) : Prop := okQ L (nI (6 - 6)) s.1 ∧ s.2.1 ≤ 61 ∧ (¬ 0 ≤ s.1.fl → 2 * s.2.1 ≤ s.1.h + 1)
theorem okS_ln {τ : Nat → Int32} {L : Nat} (hL : L ≤ 120) {p : PT} (h : okP L (nI (6 - 6)) p) {m : Nat} (T E : Nat → Int32) (hm : 2 * m ≤ p.h) (hm2 : m ≤ 60) : okS L (lnS (lkV τ L) L p m T E) := by
  obtain ⟨h1, h2, h3⟩ := goP_ln (τ := τ) hL h m T E
  generalize lnS (lkV τ L) L p m T E = s at *
  refine ⟨okQ_go h h1, by omega, fun c => ?_⟩
  have h4 := h2 c
  omega
theorem rdL_out {lk : Nat → Int32} {L : Nat} {s : LT} (h : 0 ≤ s.1.fl ∨ ¬ lk s.1.h = 59) : ∀ F, rdL lk L F s = s
  | 0 => rfl
  | F + 1 => by
    rw [rdL, if_neg]
    rintro ⟨a, b⟩
    rcases h with h | h
    · exact h |> a
    · exact h b
theorem rdL_in {lk : Nat → Int32} {L F : Nat} {s : LT} (h1 : ¬ 0 ≤ s.1.fl) (h2 : lk s.1.h = 59) (hl : s.1.h < L) (hF : L - s.1.h ≤ F) : ∃ F', F = F' + 1 ∧ rdL lk L F s = rdL lk L F' (lnS lk L s.1.ahead s.2.1 s.2.2.1 s.2.2.2) := by
  refine ⟨F - 1, by omega, ?_⟩
  rw [show F = F - 1 + 1 by omega, rdL, if_pos ⟨h1, h2⟩]; rfl
/-- the first n of a row are those from o on -/
def shF (A : Nat → Int32) (o n : Nat) : Nat → Int32 := fun j => if j < n then A (o + j) else A j
theorem shF_0 (A : Nat → Int32) (o : Nat) : shF A o 0 = A := by
  funext j
  rw [shF, if_neg (Nat.not_lt_zero _)]
theorem shF_at (A : Nat → Int32) (o n j : Nat) (h : n ≤ j) : shF A o n j = A j := by
  rw [shF, if_neg (Nat.not_lt.2 h)]
theorem shF_s (A : Nat → Int32) (o n : Nat) : va_up (shF A o n) n (A (o + n)) = shF A o (n + 1) := by
  funext j
  by_cases h : j = n
  · subst h
    rw [shF, if_pos (Nat.lt_succ_self _)]
    exact if_pos rfl
  · rw [show va_up (shF A o n) n (A (o + n)) j = shF A o n j from if_neg h, shF, shF]
    by_cases q : j < n
    · rw [if_pos q, if_pos (by omega)]
    · rw [if_neg q, if_neg (by omega)]
def p0S (A W : Nat → Int32) : PT := (0, -1, 0, 0, A, W)
/-- the text read: the state at its end, before the fault of what is left over -/
def rdT (g : MSt) (L : Nat) : LT := rdL (lkV (g.2.1 22) L) L (L - (lnS (lkV (g.2.1 22) L) L (p0S (g.2.1 28) (g.2.1 29)) 0 (g.2.1 31) (g.2.1 32)).1.h) (lnS (lkV (g.2.1 22) L) L (p0S (g.2.1 28) (g.2.1 29)) 0 (g.2.1 31) (g.2.1 32))
def rdV (g : MSt) (L : Nat) : Int32 := if ¬ 0 ≤ (rdT g L).1.fl ∧ (rdT g L).1.h < L then nI (rdT g L).1.h else (rdT g L).1.fl
/-- the state after readText -/
def n_rd (g : MSt) (L : Nat) : MSt :=
  if 0 ≤ rdV g L then msS (pQ (lQ g (va_up (g.2.1 30) 1 (nI (rdT g L).2.1)) (rdT g L).2.2.1 (rdT g L).2.2.2) (nI (rdT g L).1.h) (rdV g L) (rdT g L).1.op (nI (rdT g L).1.n) (rdT g L).1.A (rdT g L).1.W) 23 0
  else msS (pQ (lQ g (va_up (va_up (g.2.1 30) 1 (nI (rdT g L).2.1)) 0 (nI (rdT g L).2.1)) (shF (rdT g L).2.2.1 61 (rdT g L).2.1) (shF (rdT g L).2.2.2 61 (rdT g L).2.1)) (nI (rdT g L).1.h) (rdV g L) (rdT g L).1.op (nI (rdT g L).1.n) (shF (rdT g L).1.A 130 (rdT g L).1.n) (shF (rdT g L).1.W 130 (rdT g L).1.n)) 23 0
def r_rd (g : MSt) (L : Nat) : Int32 := if 0 ≤ rdV g L then rdV g L else -1
def tQ (g : MSt) (M T E : Nat → Int32) (h fl op n : Int32) (A W : Nat → Int32) : MSt := msS (pQ (lQ g M T E) h fl op n A W) 23 0
theorem tQ_28 (g : MSt) (M T E A W F : Nat → Int32) (h fl op n : Int32) : msA (tQ g M T E h fl op n A W) 28 F = tQ g M T E h fl op n F W := by
  exact congrArg (fun x => msS x 23 0) (pQ_28 (lQ g M T E) h fl op n A W F)
theorem tQ_29 (g : MSt) (M T E A W F : Nat → Int32) (h fl op n : Int32) : msA (tQ g M T E h fl op n A W) 29 F = tQ g M T E h fl op n A F := by
  exact congrArg (fun x => msS x 23 0) (pQ_29 (lQ g M T E) h fl op n A W F)
theorem tQ_30 (g : MSt) (M T E A W F : Nat → Int32) (h fl op n : Int32) : msA (tQ g M T E h fl op n A W) 30 F = tQ g F T E h fl op n A W := by
  exact congrArg (fun x => msS x 23 0) (lQ_30 g M T E A W F h fl op n)
theorem tQ_31 (g : MSt) (M T E A W F : Nat → Int32) (h fl op n : Int32) : msA (tQ g M T E h fl op n A W) 31 F = tQ g M F E h fl op n A W := by
  exact congrArg (fun x => msS x 23 0) (lQ_31 g M T E A W F h fl op n)
theorem tQ_32 (g : MSt) (M T E A W F : Nat → Int32) (h fl op n : Int32) : msA (tQ g M T E h fl op n A W) 32 F = tQ g M T F h fl op n A W := by
  exact congrArg (fun x => msS x 23 0) (lQ_32 g M T E A W F h fl op n)
