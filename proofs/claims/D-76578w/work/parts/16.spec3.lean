/-! SPEC 3: public calls on people, promises, changes, deeds, images, shelves -/
theorem ms1 (g : MSt) (a : Nat) (f f2 : Nat → Int32) : msA (msA g a f) a f2 = msA g a f2 := by
  refine Prod.ext rfl (Prod.ext ?_ rfl)
  funext k
  by_cases h : k = a
  · subst h; simp [va_up]
  · simp [va_up, h]
theorem ms2 (g : MSt) {a b : Nat} (hab : a ≠ b) (f f2 h h2 : Nat → Int32) : msA (msA (msA (msA g a f) b h) a f2) b h2 = msA (msA g a f2) b h2 := by
  refine Prod.ext rfl (Prod.ext ?_ rfl)
  funext k
  by_cases h1 : k = b
  · subst h1; simp [va_up]
  · by_cases h2 : k = a
    · subst h2; simp [va_up, h1]
    · simp [va_up, h1, h2]
theorem me1 (g : MSt) (a : Nat) (f f2 : Nat → Int64) : msE (msE g a f) a f2 = msE g a f2 := by
  refine Prod.ext rfl (Prod.ext rfl (Prod.ext rfl ?_))
  funext k
  by_cases h : k = a
  · subst h; simp [va_up]
  · simp [va_up, h]
theorem msE_id (g : MSt) (k : Nat) : msE g k (g.2.2.2 k) = g := by
  show (g.1, g.2.1, g.2.2.1, va_up g.2.2.2 k (g.2.2.2 k)) = g
  rw [va_up_id]
/-- n places of s laid over d -/
def cpF {α : Type} (d s : Nat → α) (n : Nat) : Nat → α := fun j => if j < n then s j else d j
theorem cpF_0 {α : Type} (d s : Nat → α) : cpF d s 0 = d := by
  funext j; simp [cpF]
theorem cpF_s {α : Type} (d s : Nat → α) (n : Nat) : va_up (cpF d s n) n (s n) = cpF d s (n + 1) := by
  funext j
  by_cases h : j = n
  · subst h; simp [va_up, cpF]
  · rw [va_upN h]
    unfold cpF
    by_cases h2 : j < n
    · rw [if_pos h2, if_pos (by omega)]
    · rw [if_neg h2, if_neg (by omega)]
theorem cpF_self {α : Type} (d : Nat → α) (n : Nat) : cpF d d n = d := by
  funext j; simp [cpF]
def r_person (nP : Nat) (v : Int32) : Int32 := if inB v 0 24 = true then (if nI nP = 6 then -3 else nI nP) else -1
def n_person (g : MSt) (nP : Nat) (v : Int32) : MSt := if inB v 0 24 = true then (if nI nP = 6 then g else msS (msA (msA g 2 (va_up (g.2.1 2) nP v)) 3 (va_up (g.2.1 3) nP 3)) 1 (nI (nP + 1))) else g
def promB (g : MSt) (bt wt : Int32) : Bool := !decide (bt < 0) && twoB g (bt / 10) (bt - bt / 10 * 10) && inB wt 0 999
def r_promise (g : MSt) (nM : Nat) (bt wt : Int32) : Int32 := if promB g bt wt = true then (if nI nM = 12 then -3 else nI nM) else -1
def n_promise (g : MSt) (nM : Nat) (bt wt : Int32) : MSt := if promB g bt wt = true then (if nI nM = 12 then g else addPS (msA g 15 (va_up (g.2.1 15) 0 (g.2.1 15 0 + 1))) nM (bt / 10) (bt - bt / 10 * 10) (g.2.1 2 (bt / 10).toNatClampNeg) (wt / 100) (wt - wt / 100 * 100)) else g
def r_mend (g : MSt) (n what v : Int32) : Int32 := if (isPlB g n what && mayB what v) = true then valueV g what.toNatClampNeg n.toNatClampNeg else -1
def n_mend (g : MSt) (d : Nat) (n what v : Int32) : MSt := if (isPlB g n what && mayB what v) = true then chS g what.toNatClampNeg n.toNatClampNeg v d else g
def r_of (g : MSt) (n what : Int32) : Int32 := if inB what 10 11 = true then (if inB n 0 (g.1 4 - 1) = true then (if what = 10 then g.2.1 5 n.toNatClampNeg else g.2.1 6 n.toNatClampNeg) else -1) else if isPlB g n what = true then valueV g what.toNatClampNeg n.toNatClampNeg else -1
def r_undo (d : Nat) : Int32 := if nI d = 0 then -5 else nI (d - 1)
def n_undo (g : MSt) (d u : Nat) : MSt := if nI d = 0 then g else laysS (msS (msS g 16 (nI (d - 1))) 17 (nI (u + 1))) (g.2.1 18 (d - 1)).toNatClampNeg (g.2.1 19 (d - 1)).toNatClampNeg (g.2.1 20 (d - 1))
def r_redo (u : Nat) : Int32 := if nI u = 0 then -5 else nI (u - 1)
def n_redo (g : MSt) (d u : Nat) : MSt := if nI u = 0 then g else msS (msS (laysS g (g.2.1 18 d).toNatClampNeg (g.2.1 19 d).toNatClampNeg (g.2.1 21 d)) 16 (nI (d + 1))) 17 (nI (u - 1))
theorem laysS_S {g : MSt} {w j : Nat} {v : Int32} {k : Nat} (h3 : k ≠ 13) (h4 : k ≠ 14) : (laysS g w j v).1 k = g.1 k := by
  unfold laysS
  split; rfl
  split; rfl
  split; rfl
  split; rfl
  split; rfl
  split; rfl
  split; rfl
  split; rfl
  split
  · exact va_upN h3
  · exact va_upN h4
def r_feed (n : Nat) (v : Int32) : Int32 := if inB v 0 255 = true then (if nI n = 120 then -3 else nI (n + 1)) else -1
def n_feed (g : MSt) (n : Nat) (v : Int32) : MSt := if inB v 0 255 = true then (if nI n = 120 then g else msS (msA g 22 (va_up (g.2.1 22) n (vp_nar .byte (v.toInt8.toInt32)))) 23 (nI (n + 1))) else g
def r_letOff (g : MSt) (m : Int32) : Int32 := if inB m 0 (g.1 4 - 1) = true then (if g.2.1 12 m.toNatClampNeg = 1 then -5 else 1) else -1
def n_letOff (g : MSt) (m : Int32) : MSt := if inB m 0 (g.1 4 - 1) = true then (if g.2.1 12 m.toNatClampNeg = 1 then g else msA (msA g 12 (va_up (g.2.1 12) m.toNatClampNeg 1)) 15 (va_up (g.2.1 15) 4 (g.2.1 15 4 + 1))) else g
def r_forget (g : MSt) (m : Int32) : Int32 := if inB m 0 (g.1 4 - 1) = true then (if g.2.1 11 m.toNatClampNeg = 1 then -5 else 1) else -1
def n_forget (g : MSt) (m : Int32) : MSt := if inB m 0 (g.1 4 - 1) = true then (if g.2.1 11 m.toNatClampNeg = 1 then g else msA g 11 (va_up (g.2.1 11) m.toNatClampNeg 1)) else g
def n_day (g : MSt) (t : Nat) : MSt := msA (msS g 14 (nI (dayN t 1))) 15 (va_up (g.2.1 15) 5 (g.2.1 15 5 + 1))
def r_led (g : MSt) (w : Int32) : Int32 := if inB w 0 5 = true then g.2.1 15 w.toNatClampNeg else -1
def imA (g : MSt) (nP nM : Nat) : MSt := msS (msS (msS (msS g 50 1) 51 (g.1 14)) 52 (nI nP)) 53 (nI nM)
def imB (g : MSt) (k : Nat) : MSt := msA (msA g 54 (cpF (g.2.1 54) (g.2.1 2) k)) 55 (cpF (g.2.1 55) (g.2.1 3) k)
def imC (g : MSt) (k : Nat) : MSt := msA (msA g 56 (cpF (g.2.1 56) (g.2.1 11) k)) 57 (cpF (g.2.1 57) (g.2.1 12) k)
def imD (g : MSt) (k : Nat) : MSt := msA g 58 (cpF (g.2.1 58) (g.2.1 15) k)
def n_image (g : MSt) (nP nM : Nat) : MSt := imD (imC (imB (imA g nP nM) nP) nM) 6
theorem imB_0 (g : MSt) : imB g 0 = g := by unfold imB; rw [cpF_0, cpF_0, msA_id]; exact msA_id g 55
theorem imC_0 (g : MSt) : imC g 0 = g := by unfold imC; rw [cpF_0, cpF_0, msA_id]; exact msA_id g 57
theorem imD_0 (g : MSt) : imD g 0 = g := by unfold imD; rw [cpF_0, msA_id]
theorem imB_s (g : MSt) (k : Nat) : msA (msA (imB g k) 54 (va_up ((imB g k).2.1 54) k ((imB g k).2.1 2 k))) 55 (va_up ((imB g k).2.1 55) k ((imB g k).2.1 3 k)) = imB g (k + 1) := by
  show msA (msA (msA (msA g 54 (cpF (g.2.1 54) (g.2.1 2) k)) 55 (cpF (g.2.1 55) (g.2.1 3) k)) 54 (va_up (cpF (g.2.1 54) (g.2.1 2) k) k (g.2.1 2 k))) 55 (va_up (cpF (g.2.1 55) (g.2.1 3) k) k (g.2.1 3 k)) = _
  rw [ms2 _ (by decide), cpF_s, cpF_s]
  rfl
theorem imC_s (g : MSt) (k : Nat) : msA (msA (imC g k) 56 (va_up ((imC g k).2.1 56) k ((imC g k).2.1 11 k))) 57 (va_up ((imC g k).2.1 57) k ((imC g k).2.1 12 k)) = imC g (k + 1) := by
  show msA (msA (msA (msA g 56 (cpF (g.2.1 56) (g.2.1 11) k)) 57 (cpF (g.2.1 57) (g.2.1 12) k)) 56 (va_up (cpF (g.2.1 56) (g.2.1 11) k) k (g.2.1 11 k))) 57 (va_up (cpF (g.2.1 57) (g.2.1 12) k) k (g.2.1 12 k)) = _
  rw [ms2 _ (by decide), cpF_s, cpF_s]
  rfl
theorem imD_s (g : MSt) (k : Nat) : msA (imD g k) 58 (va_up ((imD g k).2.1 58) k ((imD g k).2.1 15 k)) = imD g (k + 1) := by
  show msA (msA g 58 (cpF (g.2.1 58) (g.2.1 15) k)) 58 (va_up (cpF (g.2.1 58) (g.2.1 15) k) k (g.2.1 15 k)) = _
  rw [ms1, cpF_s]
  rfl
def baB (g : MSt) (k : Nat) : MSt := msA (msA g 2 (cpF (g.2.1 2) (g.2.1 54) k)) 3 (cpF (g.2.1 3) (g.2.1 55) k)
def baC (g : MSt) (k : Nat) : MSt := msA (msA g 11 (cpF (g.2.1 11) (g.2.1 56) k)) 12 (cpF (g.2.1 12) (g.2.1 57) k)
def baD (g : MSt) (k : Nat) : MSt := msA g 15 (cpF (g.2.1 15) (g.2.1 58) k)
def r_back (g : MSt) : Int32 := if g.1 50 = 0 then -5 else g.2.1 58 5
def n_back (g : MSt) (kP kM : Nat) : MSt := if g.1 50 = 0 then g else baD (baC (baB (msS g 14 (g.1 51)) kP) kM) 6
theorem baB_0 (g : MSt) : baB g 0 = g := by unfold baB; rw [cpF_0, cpF_0, msA_id]; exact msA_id g 3
theorem baC_0 (g : MSt) : baC g 0 = g := by unfold baC; rw [cpF_0, cpF_0, msA_id]; exact msA_id g 12
theorem baD_0 (g : MSt) : baD g 0 = g := by unfold baD; rw [cpF_0, msA_id]
theorem baB_s (g : MSt) (k : Nat) : msA (msA (baB g k) 2 (va_up ((baB g k).2.1 2) k ((baB g k).2.1 54 k))) 3 (va_up ((baB g k).2.1 3) k ((baB g k).2.1 55 k)) = baB g (k + 1) := by
  show msA (msA (msA (msA g 2 (cpF (g.2.1 2) (g.2.1 54) k)) 3 (cpF (g.2.1 3) (g.2.1 55) k)) 2 (va_up (cpF (g.2.1 2) (g.2.1 54) k) k (g.2.1 54 k))) 3 (va_up (cpF (g.2.1 3) (g.2.1 55) k) k (g.2.1 55 k)) = _
  rw [ms2 _ (by decide), cpF_s, cpF_s]
  rfl
theorem baC_s (g : MSt) (k : Nat) : msA (msA (baC g k) 11 (va_up ((baC g k).2.1 11) k ((baC g k).2.1 56 k))) 12 (va_up ((baC g k).2.1 12) k ((baC g k).2.1 57 k)) = baC g (k + 1) := by
  show msA (msA (msA (msA g 11 (cpF (g.2.1 11) (g.2.1 56) k)) 12 (cpF (g.2.1 12) (g.2.1 57) k)) 11 (va_up (cpF (g.2.1 11) (g.2.1 56) k) k (g.2.1 56 k))) 12 (va_up (cpF (g.2.1 12) (g.2.1 57) k) k (g.2.1 57 k)) = _
  rw [ms2 _ (by decide), cpF_s, cpF_s]
  rfl
theorem baD_s (g : MSt) (k : Nat) : msA (baD g k) 15 (va_up ((baD g k).2.1 15) k ((baD g k).2.1 58 k)) = baD g (k + 1) := by
  show msA (msA g 15 (cpF (g.2.1 15) (g.2.1 58) k)) 15 (va_up (cpF (g.2.1 15) (g.2.1 58) k) k (g.2.1 58 k)) = _
  rw [ms1, cpF_s]
  rfl
def r_trace (g : MSt) (i : Int32) : Int32 := if i < 0 then -1 else if g.1 61 ≤ i then -1 else if 24 ≤ i then -1 else g.2.1 62 i.toNatClampNeg
def r_body (nb : Nat) (k : Int32) : Int32 := if inB k 0 7 = true then (if nI nb = 50 then -3 else nI nb) else -1
def n_body (g : MSt) (nb : Nat) (k : Int32) : MSt := if inB k 0 7 = true then (if nI nb = 50 then g else msS (msA g 60 (va_up (g.2.1 60) nb k)) 59 (nI (nb + 1))) else g
def r_count (g : MSt) (w : Int32) : Int32 := if w = 0 then g.1 1 else if w = 1 then g.1 4 else if w = 2 then g.1 23 else if w = 3 then g.1 16 else if w = 4 then g.1 59 else if w = 5 then g.1 61 else -1
def keepB (g : MSt) (s b : Int32) : Bool := inB s 0 5 && (decide (b = -1) || inB b 0 (g.1 59 - 1))
def r_keep (g : MSt) (s b : Int32) : Int32 := if keepB g s b = true then 1 else -1
def n_keep (g : MSt) (s b : Int32) : MSt := if keepB g s b = true then msA g 63 (va_up (g.2.1 63) s.toNatClampNeg b) else g
def rowB (s so n : Int32) : Bool := inB s 0 5 && inB so 0 4 && decide (n ≤ 60)
def r_row (s so n : Int32) : Int32 := if rowB s so n = true then (if 0 ≤ n then 1 else -14) else -1
/-- the first i places of row s are 0 -/
def zrF (f : Nat → Int64) (s i : Nat) : Nat → Int64 := fun j => if 60 * s ≤ j ∧ j < 60 * s + i then 0 else f j
theorem zrF_0 (f : Nat → Int64) (s : Nat) : zrF f s 0 = f := by
  funext j
  unfold zrF
  rw [if_neg (by omega)]
theorem zrF_s (f : Nat → Int64) (s i : Nat) : va_up (zrF f s i) (60 * s + i) 0 = zrF f s (i + 1) := by
  funext j
  by_cases h : j = 60 * s + i
  · subst h; rw [va_upS]; unfold zrF; rw [if_pos (by omega)]
  · rw [va_upN h]
    unfold zrF
    by_cases h2 : 60 * s ≤ j ∧ j < 60 * s + i
    · rw [if_pos h2, if_pos (by omega)]
    · rw [if_neg h2, if_neg (by omega)]
def n_row (g : MSt) (s so n : Int32) : MSt := if rowB s so n = true then (if 0 ≤ n then msE (msA (msA g 63 (va_up (g.2.1 63) s.toNatClampNeg (-2 - so))) 64 (va_up (g.2.1 64) s.toNatClampNeg n)) 65 (zrF (g.2.2.2 65) s.toNatClampNeg 60) else g) else g
def whyV (g : MSt) (s i : Int32) : Int32 := if inB s 0 5 = true then (if g.2.1 63 s.toNatClampNeg = -1 then -11 else if g.2.1 63 s.toNatClampNeg < 0 then (if inB i 0 (g.2.1 64 s.toNatClampNeg - 1) = true then 0 else -13) else -12) else -1
def elFit (so : Nat) (v : Int64) : Prop := v = (if so = 0 then v.toInt32.toInt8.toInt32.toInt64 else if so = 1 then v.toInt32.toInt16.toInt32.toInt64 else if so = 2 then v.toInt32.toInt64 else v) ∧ (so = 4 → v = 0 ∨ v = 1)
/-- the ranges of the shelves: nothing, a body, a row -/
def SHI (g : MSt) (nb : Nat) : Prop := ∀ s, s < 6 → g.2.1 63 s = -1 ∨ (∃ b, b < nb ∧ g.2.1 63 s = nI b) ∨ ∃ so n, so ≤ 4 ∧ n ≤ 60 ∧ g.2.1 63 s = -2 - nI so ∧ g.2.1 64 s = nI n ∧ ∀ j, j < n → elFit so (g.2.2.2 65 (60 * s + j))
def putV (so : Int32) (v : Int64) : Int64 := if so = 0 then v.toInt32.toInt8.toInt32.toInt64 else if so = 1 then v.toInt32.toInt16.toInt32.toInt64 else if so = 2 then v.toInt32.toInt64 else if so = 3 then v else if v = 0 then 0 else 1
theorem lgc_e0 {x y : Int64} : lg_cmp x y = 0 ↔ x = y := by
  unfold lg_cmp
  split
  · rename_i h
    constructor
    · intro q; exact absurd q (by decide)
    · intro q; subst q; exact absurd h (Int64.lt_irrefl)
  · rename_i h
    split
    · rename_i h2
      exact ⟨fun _ => h2, fun _ => rfl⟩
    · rename_i h2
      constructor
      · intro q; exact absurd q (by decide)
      · intro q; exact absurd q h2
def r_put (g : MSt) (s i : Int32) : Int32 := if 0 ≤ whyV g s i then 1 else whyV g s i
def n_put (g : MSt) (s i : Int32) (v : Int64) : MSt := if 0 ≤ whyV g s i then msE g 65 (va_up (g.2.2.2 65) (60 * s.toNatClampNeg + i.toNatClampNeg) (putV (-2 - g.2.1 63 s.toNatClampNeg) v)) else g
def r_element (g : MSt) (s i : Int32) : Int64 := if 0 ≤ whyV g s i then g.2.2.2 65 (60 * s.toNatClampNeg + i.toNatClampNeg) else -9223372036854775808
theorem whyV_ok {g : MSt} {nb : Nat} (hS : SHI g nb) (hnb : nb ≤ 50) {s i : Int32} (h : 0 ≤ whyV g s i) : ∃ j n so m, s = nI j ∧ j < 6 ∧ so ≤ 4 ∧ n ≤ 60 ∧ g.2.1 63 j = -2 - nI so ∧ g.2.1 64 j = nI n ∧ i = nI m ∧ m < n := by
  have h : ¬ whyV g s i < 0 := Int32.not_lt.mpr h
  unfold whyV at h
  split at h
  · rename_i hs
    obtain ⟨j, hj, rfl⟩ := inB_exc (n := 5) hs rfl (by omega)
    rw [nN_nI (by omega)] at h
    split at h
    · exact absurd (by decide) h
    · rename_i h1
      split at h
      · rename_i h2
        split at h
        · rename_i h3
          rcases hS j (by omega) with q | ⟨b, hb, q⟩ | ⟨so, n, q1, q2, q3, q4, q5⟩
          · exact absurd q h1
          · rw [q] at h2; exact absurd h2 (nI_pos (by omega))
          · obtain ⟨m, hm, rfl⟩ := inB_ex h3 q4 (by omega)
            exact ⟨j, n, so, m, rfl, by omega, q1, q2, q3, q4, rfl, hm⟩
        · exact absurd (by decide) h
      · exact absurd (by decide) h
  · exact absurd (by decide) h
def shOK (g : MSt) (s i o j n : Int32) : Bool := !decide (n < 0) && !decide (i < 0) && !decide (j < 0) && !decide (g.2.1 64 s.toNatClampNeg - n < i) && decide (j ≤ g.2.1 64 o.toNatClampNeg - n)
def r_shift (g : MSt) (s i o j n : Int32) : Int32 := if (inB s 0 5 && inB o 0 5) = true then (if g.2.1 63 s.toNatClampNeg = -1 ∨ g.2.1 63 o.toNatClampNeg = -1 then -11 else if 0 ≤ g.2.1 63 s.toNatClampNeg ∨ ¬ g.2.1 63 s.toNatClampNeg = g.2.1 63 o.toNatClampNeg then -12 else if shOK g s i o j n = true then n else -13) else -1
/-- n places of f from p on, laid to q on -/
def mvF (f : Nat → Int64) (p q n : Nat) : Nat → Int64 := fun k => if q ≤ k ∧ k < q + n then f (p + (k - q)) else f k
def sfF (f e : Nat → Int64) (p n : Nat) : Nat → Int64 := fun k => if k < n then e (p + k) else f k
def mvG (e sh : Nat → Int64) (q n : Nat) : Nat → Int64 := fun k => if q ≤ k ∧ k < q + n then sh (k - q) else e k
theorem sfF_0 (f e : Nat → Int64) (p : Nat) : sfF f e p 0 = f := by funext k; simp [sfF]
theorem sfF_s (f e : Nat → Int64) (p n : Nat) : va_up (sfF f e p n) n (e (p + n)) = sfF f e p (n + 1) := by
  funext j
  by_cases h : j = n
  · subst h; simp [va_up, sfF]
  · rw [va_upN h]
    unfold sfF
    by_cases h2 : j < n
    · rw [if_pos h2, if_pos (by omega)]
    · rw [if_neg h2, if_neg (by omega)]
theorem mvG_0 (e sh : Nat → Int64) (q : Nat) : mvG e sh q 0 = e := by
  funext k
  unfold mvG
  rw [if_neg (by omega)]
theorem mvG_s (e sh : Nat → Int64) (q n : Nat) : va_up (mvG e sh q n) (q + n) (sh n) = mvG e sh q (n + 1) := by
  funext j
  by_cases h : j = q + n
  · subst h; rw [va_upS]; unfold mvG; rw [if_pos (by omega), show q + n - q = n by omega]
  · rw [va_upN h]
    unfold mvG
    by_cases h2 : q ≤ j ∧ j < q + n
    · rw [if_pos h2, if_pos (by omega)]
    · rw [if_neg h2, if_neg (by omega)]
theorem mvG_mv (f e : Nat → Int64) (p q n : Nat) : mvG e (sfF f e p n) q n = mvF e p q n := by
  funext k
  unfold mvG mvF sfF
  by_cases h : q ≤ k ∧ k < q + n
  · rw [if_pos h, if_pos h, if_pos (by omega)]
  · rw [if_neg h, if_neg h]
def shS (g : MSt) (p q n : Nat) : MSt := msE (msE g 66 (sfF (g.2.2.2 66) (g.2.2.2 65) p n)) 65 (mvF (g.2.2.2 65) p q n)
def n_shift (g : MSt) (s i o j n : Int32) : MSt := if (inB s 0 5 && inB o 0 5) = true then (if g.2.1 63 s.toNatClampNeg = -1 ∨ g.2.1 63 o.toNatClampNeg = -1 then g else if 0 ≤ g.2.1 63 s.toNatClampNeg ∨ ¬ g.2.1 63 s.toNatClampNeg = g.2.1 63 o.toNatClampNeg then g else if shOK g s i o j n = true then shS g (60 * s.toNatClampNeg + i.toNatClampNeg) (60 * o.toNatClampNeg + j.toNatClampNeg) n.toNatClampNeg else g) else g
theorem SHI_row {g : MSt} {nb : Nat} (h : SHI g nb) (hnb : nb ≤ 50) {s : Nat} (hs : s < 6) (h1 : ¬ g.2.1 63 s = -1) (h2 : ¬ 0 ≤ g.2.1 63 s) : ∃ so n, so ≤ 4 ∧ n ≤ 60 ∧ g.2.1 63 s = -2 - nI so ∧ g.2.1 64 s = nI n ∧ ∀ j, j < n → elFit so (g.2.2.2 65 (60 * s + j)) := by
  rcases h s hs with q | ⟨b, hb, q⟩ | q
  · exact absurd q h1
  · rw [q] at h2; exact absurd (nI_pos' (by omega)) h2
  · exact q
theorem SHI_body {g : MSt} {nb : Nat} (h : SHI g nb) {s : Nat} (hs : s < 6) (h2 : ¬ g.2.1 63 s < 0) : ∃ b, b < nb ∧ g.2.1 63 s = nI b := by
  rcases h s hs with q | q | ⟨so, n, q1, q2, q3, q4⟩
  · rw [q] at h2; exact absurd (by decide) h2
  · exact q
  · rw [q3] at h2
    exfalso
    apply h2
    have : so = 0 ∨ so = 1 ∨ so = 2 ∨ so = 3 ∨ so = 4 := by omega
    rcases this with rfl | rfl | rfl | rfl | rfl <;> decide
theorem sub_le_ex {a b : Nat} {x : Int32} (ha : a ≤ 60) (hx : ¬ x < 0) {i : Int32} (hi : ¬ i < 0) (h : i ≤ nI a - x) : ∃ n m, x = nI n ∧ i = nI m ∧ m + n ≤ a := by
  obtain ⟨n, hn, rfl⟩ := nI_of hx
  obtain ⟨m, hm, rfl⟩ := nI_of hi
  refine ⟨n, m, rfl, rfl, ?_⟩
  rw [Int32.le_iff_toInt_le, nI_toInt hm, Int32.toInt_sub, nI_toInt (by omega), nI_toInt hn] at h
  have e : ((a : Int) - n).bmod (2 ^ 32) = (a : Int) - n := by
    rw [Int.bmod_eq_of_le] <;> omega
  rw [e] at h
  omega
theorem shOK_ex {g : MSt} {s i o j n : Int32} {s' o' n1 n2 : Nat} (h : shOK g s i o j n = true) (hs : s.toNatClampNeg = s') (ho : o.toNatClampNeg = o') (h1 : g.2.1 64 s' = nI n1) (h2 : g.2.1 64 o' = nI n2) (q1 : n1 ≤ 60) (q2 : n2 ≤ 60) : ∃ nn ii jj, n = nI nn ∧ i = nI ii ∧ j = nI jj ∧ ii + nn ≤ n1 ∧ jj + nn ≤ n2 := by
  unfold shOK at h
  rw [hs, ho, h1, h2] at h
  simp only [Bool.and_eq_true, Bool.not_eq_true', decide_eq_false_iff_not, decide_eq_true_eq] at h
  obtain ⟨⟨⟨⟨a1, a2⟩, a3⟩, a4⟩, a5⟩ := h
  obtain ⟨nn, ii, rfl, rfl, a6⟩ := sub_le_ex (b := 0) q1 a1 a2 (Int32.not_lt.mp a4)
  obtain ⟨n3, jj, e3, rfl, a7⟩ := sub_le_ex (b := 0) q2 a1 a3 a5
  have : n3 = nn := ((nI_eq (by omega) (by omega)).mp e3).symm
  subst this
  exact ⟨n3, ii, jj, rfl, rfl, rfl, a6, a7⟩
def undB (k up : Int32) : Bool := decide (up = 0) || decide (k = up) || (decide (up = 1) && decide (k = 4)) || (decide (up = 2) && (decide (k = 3) || decide (k = 5))) || (decide (up = 3) && decide (k = 5)) || (decide (up = 6) && decide (k = 7))
def r_taken (g : MSt) (s k : Int32) : Int32 := if (inB s 0 5 && inB k 0 7) = true then (if g.2.1 63 s.toNatClampNeg = -1 then -11 else if g.2.1 63 s.toNatClampNeg < 0 then -12 else if undB (g.2.1 60 (g.2.1 63 s.toNatClampNeg).toNatClampNeg) k = true then g.2.1 60 (g.2.1 63 s.toNatClampNeg).toNatClampNeg else -12) else -1
/-- the ranges of the image -/
def IMI (g : MSt) (nP nM kP kM : Nat) : Prop := g.1 52 = nI kP ∧ kP ≤ nP ∧ g.1 53 = nI kM ∧ kM ≤ nM ∧ (g.1 50 = 0 ∨ g.1 50 = 1) ∧ (∃ t, t ≤ 99 ∧ g.1 51 = nI t) ∧ (∀ p, p < kP → (∃ q, q < 25 ∧ g.2.1 54 p = nI q) ∧ ∃ b, b ≤ 9 ∧ g.2.1 55 p = nI b) ∧ ∀ p, p < kM → (∃ x, x ≤ 1 ∧ g.2.1 56 p = nI x) ∧ ∃ x, x ≤ 1 ∧ g.2.1 57 p = nI x
def ranS (g : MSt) (r : Nat) (b : Int32) : MSt := msS (msA g 62 (if r < 24 then va_up (g.2.1 62) r b else g.2.1 62)) 61 (nI (r + 1))
theorem wLen_le {w : Nat} : wLen w ≤ 12 := by
  unfold wLen
  split
  · omega
  · split <;> omega
