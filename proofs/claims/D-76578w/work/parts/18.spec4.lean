/-! SPEC 4: the law's text, run -/
def codeSl (g : MSt) (a b : Nat) : Cod := (List.range (b - a)).map (fun j => (g.2.1 28 (a + j), g.2.1 29 (a + j)))
theorem codeSl_n (g : MSt) (a : Nat) : codeSl g a a = [] := by simp [codeSl]
theorem codeSl_s (g : MSt) {a b : Nat} (h : a < b) : codeSl g a b = (g.2.1 28 a, g.2.1 29 a) :: codeSl g (a + 1) b := by
  unfold codeSl
  rw [show b - a = (b - (a + 1)) + 1 by omega, List.range_succ_eq_map, List.map_cons, List.map_map]
  simp only [Nat.add_zero, List.cons.injEq, true_and]
  apply List.map_congr_left
  intro j _
  show (g.2.1 28 (a + (j + 1)), g.2.1 29 (a + (j + 1))) = (g.2.1 28 (a + 1 + j), g.2.1 29 (a + 1 + j))
  rw [show a + (j + 1) = a + 1 + j by omega]
theorem codeSl_nil {g : MSt} {a b : Nat} (h : a ≤ b) : codeSl g a b = [] ↔ a = b := by
  constructor
  · intro q
    have := congrArg List.length q
    simp [codeSl] at this
    omega
  · rintro rfl; exact codeSl_n g a
/-- a text that never takes what isn't there: what lies on the pile behind it -/
def balV : Nat → Cod → Option Nat
  | d, [] => some d
  | d, (w, v) :: cs => if w = 1 then balV (d + 1) cs else if w = 2 then (if inB v 0 5 = true then balV (d + 1) cs else none) else if w = 3 ∨ w = 4 then (if d = 0 then none else balV d cs) else if d < 2 then none else balV (d - 1) cs
def stk (pi : Nat → Int32) : Nat → List Int32
  | 0 => []
  | d + 1 => pi d :: stk pi d
theorem stk_up (pi : Nat → Int32) (x : Int32) : ∀ {d e : Nat}, d ≤ e → stk (va_up pi e x) d = stk pi d
  | 0, _, _ => rfl
  | d + 1, e, h => by
    show va_up pi e x d :: stk (va_up pi e x) d = pi d :: stk pi d
    rw [va_upN (by omega), stk_up pi x (by omega)]
theorem stk_p (pi : Nat → Int32) (x : Int32) (e : Nat) : stk (va_up pi e x) (e + 1) = x :: stk pi e := by
  show va_up pi e x e :: stk (va_up pi e x) e = _
  rw [va_upS, stk_up pi x (Nat.le_refl _)]
theorem runV_congr {fa fb : Nat → Int32} (hf : ∀ k, k < 6 → fa k = fb k) : ∀ (c : Cod) (d n : Nat) (st : List Int32), balV d c = some n → runV fa c st = runV fb c st
  | [], _, _, _, _ => rfl
  | (w, v) :: cs, d, n, st, h => by
    show runV fa cs (stV w v fa st) = runV fb cs (stV w v fb st)
    have e : stV w v fa st = stV w v fb st := by
      unfold stV
      by_cases h1 : w = 1
      · simp [h1]
      · by_cases h2 : w = 2
        · have h3 : inB v 0 5 = true := by
            by_cases q : inB v 0 5 = true
            · exact q
            · simp [balV, h2, q] at h
          obtain ⟨j, hj, rfl⟩ := inB_exc (n := 5) h3 rfl (by omega)
          simp [h2, nN_nI (show j < 2 ^ 31 by omega), hf j (by omega)]
        · simp [h1, h2]
    rw [e]
    have h4 : ∃ d2, balV d2 cs = some n := by
      unfold balV at h
      split at h
      · exact ⟨_, h⟩
      · split at h
        · split at h
          · exact ⟨_, h⟩
          · cases h
        · split at h
          · split at h
            · cases h
            · exact ⟨_, h⟩
          · split at h
            · cases h
            · exact ⟨_, h⟩
    obtain ⟨d2, h4⟩ := h4
    exact runV_congr hf cs d2 n _ h4
def lnA (g : MSt) (l : Nat) : Nat := if l = 0 then 0 else (g.2.1 32 (l - 1)).toNatClampNeg
def lnT (g : MSt) (l : Nat) : Nat := (g.2.1 31 l).toNatClampNeg
def lnE (g : MSt) (l : Nat) : Nat := (g.2.1 32 l).toNatClampNeg
theorem lnA_s (g : MSt) (l : Nat) : lnA g (l + 1) = lnE g l := by simp [lnA, lnE]
def mLine (g : MSt) (l : Nat) : Cod × Cod := (codeSl g (lnA g l) (lnT g l), codeSl g (lnT g l) (lnE g l))
def mLines (g : MSt) : List (Cod × Cod) := (List.range (g.2.1 30 0).toNatClampNeg).map (mLine g)
def mLaw (g : MSt) : LawO := if g.1 35 = 0 then none else some (mLines g)
/-- the ranges of the law -/
def LI (g : MSt) (nL : Nat) : Prop := g.1 35 = 0 ∨ (g.2.1 30 0 = nI nL ∧ nL ≤ 61 ∧ ∀ l, l < nL → g.2.1 31 l = nI (lnT g l) ∧ g.2.1 32 l = nI (lnE g l) ∧ lnA g l ≤ lnT g l ∧ lnT g l ≤ lnE g l ∧ lnE g l ≤ 130 ∧ (lnA g l < lnT g l → balV 0 (codeSl g (lnA g l) (lnT g l)) = some 1) ∧ balV 0 (codeSl g (lnT g l) (lnE g l)) = some 1)
/-- what hardOn needs: how many promises, who made them, the law -/
def HI (g : MSt) (nM nL : Nat) : Prop := g.1 4 = nI nM ∧ nM ≤ 12 ∧ (∀ p, p < nM → ∃ b, b < 6 ∧ g.2.1 5 p = nI b) ∧ LI g nL
theorem mL_drop {g : MSt} {k n : Nat} (hn : (g.2.1 30 0).toNatClampNeg = n) (h : k < n) : (mLines g).drop k = mLine g k :: (mLines g).drop (k + 1) := by
  have hl : k < (mLines g).length := by simp [mLines, hn, h]
  rw [List.drop_eq_getElem_cons hl]
  congr 1
  simp [mLines]
theorem mL_end {g : MSt} {n : Nat} (hn : (g.2.1 30 0).toNatClampNeg = n) : (mLines g).drop n = [] := by
  apply List.drop_eq_nil_of_le
  simp [mLines, hn]
theorem givesV_congr {fa fb : Nat → Int32} (hf : ∀ k, k < 6 → fa k = fb k) {g : MSt} {nL : Nat} (h1 : g.2.1 30 0 = nI nL) (h2 : nL ≤ 61) (h : ∀ l, l < nL → lnA g l ≤ lnT g l ∧ (lnA g l < lnT g l → balV 0 (codeSl g (lnA g l) (lnT g l)) = some 1) ∧ balV 0 (codeSl g (lnT g l) (lnE g l)) = some 1) : givesV fa (mLines g) = givesV fb (mLines g) := by
  have hn : (g.2.1 30 0).toNatClampNeg = nL := by rw [h1]; exact nN_nI (by omega)
  have key : ∀ n k, nL - k = n → k ≤ nL → givesV fa ((mLines g).drop k) = givesV fb ((mLines g).drop k) := by
    intro n
    induction n with
    | zero =>
      intro k hk hk2
      have e : k = nL := by omega
      subst e
      rw [mL_end hn]
      rfl
    | succ n ih =>
      intro k hk hk2
      have hlt : k < nL := by omega
      rw [mL_drop hn hlt]
      obtain ⟨a1, a2, a3⟩ := h k hlt
      have e2 : valV fa (mLine g k).2 = valV fb (mLine g k).2 := by
        show (runV fa (codeSl g (lnT g k) (lnE g k)) []).headD 0 = (runV fb (codeSl g (lnT g k) (lnE g k)) []).headD 0
        rw [runV_congr hf _ _ _ _ a3]
      have e1 : (mLine g k).1 = [] ∨ valV fa (mLine g k).1 = valV fb (mLine g k).1 := by
        rcases Nat.lt_or_ge (lnA g k) (lnT g k) with q | q
        · refine Or.inr ?_
          show (runV fa (codeSl g (lnA g k) (lnT g k)) []).headD 0 = (runV fb (codeSl g (lnA g k) (lnT g k)) []).headD 0
          rw [runV_congr hf _ _ _ _ (a2 q)]
        · exact Or.inl ((codeSl_nil a1).mpr (by omega))
      show (if (mLine g k).1 = [] ∨ ¬ valV fa (mLine g k).1 = 0 then valV fa (mLine g k).2 else givesV fa ((mLines g).drop (k + 1))) = (if (mLine g k).1 = [] ∨ ¬ valV fb (mLine g k).1 = 0 then valV fb (mLine g k).2 else givesV fb ((mLines g).drop (k + 1)))
      rw [e2, ih (k + 1) (by omega) (by omega)]
      rcases e1 with e1 | e1
      · simp [e1]
      · rw [e1]
  exact key nL 0 (by omega) (by omega)
theorem div_m1 (a : Int32) : a / (-1) = -a := by
  apply Int32.toInt_inj.mp
  have h1 : ((-1 : Int32)).toInt = -1 := by decide
  rw [Int32.toInt_div, h1, Int.tdiv_neg, Int.tdiv_one, ← Int32.toInt_neg]
theorem rem_m1 (a : Int32) : a - a / (-1) * (-1) = 0 := by
  rw [div_m1]
  have : (-a) * (-1) = a := by
    rw [Int32.mul_neg, Int32.mul_one, Int32.neg_neg]
  rw [this, Int32.sub_self]
/-- the town out of the model's rows -/
def mT (g : MSt) (nM : Nat) : Tw := (nM, g.1 13, mLaw g, mF g)
