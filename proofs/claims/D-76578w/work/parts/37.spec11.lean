/-! SPEC 11: the model's reading of a law -/
def pQ (g : MSt) (h fl op n : Int32) (A W : Nat → Int32) : MSt := msA (msA (msS (msS (msS (msS g 24 h) 25 fl) 26 op) 27 n) 28 A) 29 W
theorem pQ_24 (g : MSt) (h fl op n v : Int32) (A W : Nat → Int32) : msS (pQ g h fl op n A W) 24 v = pQ g v fl op n A W := by
  refine Prod.ext ?_ rfl
  show va_up (va_up (va_up (va_up (va_up g.1 24 h) 25 fl) 26 op) 27 n) 24 v = va_up (va_up (va_up (va_up g.1 24 v) 25 fl) 26 op) 27 n
  rw [va_up_comm _ (by decide), va_up_comm (va_up (va_up g.1 24 h) 25 fl) (by decide), va_up_comm (va_up g.1 24 h) (by decide), bx_uu]
theorem pQ_25 (g : MSt) (h fl op n v : Int32) (A W : Nat → Int32) : msS (pQ g h fl op n A W) 25 v = pQ g h v op n A W := by
  refine Prod.ext ?_ rfl
  show va_up (va_up (va_up (va_up (va_up g.1 24 h) 25 fl) 26 op) 27 n) 25 v = va_up (va_up (va_up (va_up g.1 24 h) 25 v) 26 op) 27 n
  rw [va_up_comm _ (by decide), va_up_comm (va_up (va_up g.1 24 h) 25 fl) (by decide), bx_uu]
theorem pQ_26 (g : MSt) (h fl op n v : Int32) (A W : Nat → Int32) : msS (pQ g h fl op n A W) 26 v = pQ g h fl v n A W := by
  refine Prod.ext ?_ rfl
  show va_up (va_up (va_up (va_up (va_up g.1 24 h) 25 fl) 26 op) 27 n) 26 v = va_up (va_up (va_up (va_up g.1 24 h) 25 fl) 26 v) 27 n
  rw [va_up_comm _ (by decide), bx_uu]
theorem pQ_27 (g : MSt) (h fl op n v : Int32) (A W : Nat → Int32) : msS (pQ g h fl op n A W) 27 v = pQ g h fl op v A W := by
  refine Prod.ext ?_ rfl
  show va_up (va_up (va_up (va_up (va_up g.1 24 h) 25 fl) 26 op) 27 n) 27 v = va_up (va_up (va_up (va_up g.1 24 h) 25 fl) 26 op) 27 v
  rw [bx_uu]
theorem pQ_28 (g : MSt) (h fl op n : Int32) (A W F : Nat → Int32) : msA (pQ g h fl op n A W) 28 F = pQ g h fl op n F W := by
  refine Prod.ext rfl (Prod.ext ?_ rfl)
  show va_up (va_up (va_up g.2.1 28 A) 29 W) 28 F = va_up (va_up g.2.1 28 F) 29 W
  rw [va_up_comm _ (by decide), bx_uu]
theorem pQ_29 (g : MSt) (h fl op n : Int32) (A W F : Nat → Int32) : msA (pQ g h fl op n A W) 29 F = pQ g h fl op n A F := by
  refine Prod.ext rfl (Prod.ext ?_ rfl)
  show va_up (va_up (va_up g.2.1 28 A) 29 W) 29 F = va_up (va_up g.2.1 28 A) 29 F
  rw [bx_uu]
/-- the reader's state: here, fault, open, laid, act, with -/
abbrev PT : Type := Nat × Int32 × Int32 × Nat × (Nat → Int32) × (Nat → Int32)
abbrev PT.h (p : PT) : Nat := p.1
abbrev PT.fl (p : PT) : Int32 := p.2.1
abbrev PT.op (p : PT) : Int32 := p.2.2.1
abbrev PT.n (p : PT) : Nat := p.2.2.2.1
abbrev PT.A (p : PT) : Nat → Int32 := p.2.2.2.2.1
abbrev PT.W (p : PT) : Nat → Int32 := p.2.2.2.2.2
def pS (g : MSt) (p : PT) : MSt := pQ g (nI p.h) p.fl p.op (nI p.n) p.A p.W
def lkV (τ : Nat → Int32) (L h : Nat) : Int32 := if h < L then τ h else -1
def wrV (h : Nat) (fl : Int32) : Int32 := if 0 ≤ fl then fl else nI h
abbrev PT.wrong (p : PT) : PT := (p.h, wrV p.h p.fl, p.2.2)
abbrev PT.add (p : PT) (a v : Int32) : PT := (p.h, p.fl, p.op, p.n + 1, va_up p.A (130 + p.n) a, va_up p.W (130 + p.n) v)
abbrev PT.ahead (p : PT) : PT := (p.h + 1, p.2)
abbrev PT.into (p : PT) : PT := (p.h + 1, p.fl, p.op + 1, p.2.2.2)
abbrev PT.outof (p : PT) : PT := (p.h, p.fl, p.op - 1, p.2.2.2)
def nmV (b : Int32) : Int32 := if b = 119 then 0 else if b = 100 then 1 else if b = 98 then 2 else if b = 111 then 3 else if b = 102 then 4 else if b = 121 then 5 else -1
def fgR (lk : Nat → Int32) : Nat → Nat → Int32 → Nat → Nat × Int32 × Nat
  | 0, h, v, k => (h, v, k)
  | f + 1, h, v, k => if inB (lk h) 48 57 = true then fgR lk f (h + 1) (10 * v + lk h - 48) (k + 1) else (h, v, k)
def figS (lk : Nat → Int32) (p : PT) : PT :=
  PT.add ((fgR lk 4 p.h 0 0).1, (if (fgR lk 4 p.h 0 0).2.2 = 0 ∨ inB (lk (fgR lk 4 p.h 0 0).1) 48 57 = true then wrV (fgR lk 4 p.h 0 0).1 p.fl else p.fl), p.2.2) 1 (fgR lk 4 p.h 0 0).2.1
def operS (lk : Nat → Int32) (op ei : PT → PT) (p : PT) : PT :=
  if 0 ≤ nmV (lk p.h) then (p.add 2 (nmV (lk p.h))).ahead
  else if lk p.h = 33 ∨ lk p.h = 45 then (if p.op = 6 then p.wrong else (op p.into).outof.add (if lk p.h = 33 then 3 else 4) 0)
  else if lk p.h = 40 then (if p.op = 6 then p.wrong else
    if 0 ≤ (ei p.into).fl then ei p.into
    else if lk (ei p.into).h = 41 then (ei p.into).ahead.outof
    else (ei p.into).wrong)
  else figS lk p
/-- while no fault and the sign is one of is: the sign, the part, the step -/
def loopS (lk : Nat → Int32) (is : Int32 → Bool) (part : PT → PT) : Nat → PT → PT
  | 0, p => p
  | f + 1, p => if ¬ 0 ≤ p.fl ∧ is (lk p.h) = true then loopS lk is part f ((part p.ahead).add (lk p.h) 0) else p
def isTimes (b : Int32) : Bool := decide (b = 42) || decide (b = 47) || decide (b = 37)
def isPlus (b : Int32) : Bool := decide (b = 43) || decide (b = 45)
def isLike (b : Int32) : Bool := decide (b = 60) || decide (b = 61) || decide (b = 62)
def prodS (lk : Nat → Int32) (L : Nat) (op : PT → PT) (p : PT) : PT := loopS lk isTimes op (L - (op p).h) (op p)
def sumS (lk : Nat → Int32) (L : Nat) (pr : PT → PT) (p : PT) : PT := loopS lk isPlus pr (L - (pr p).h) (pr p)
def compS (lk : Nat → Int32) (su : PT → PT) (p : PT) : PT := if ¬ 0 ≤ (su p).fl ∧ isLike (lk (su p).h) = true then (su (su p).ahead).add (lk (su p).h) 0 else su p
def bothS (lk : Nat → Int32) (L : Nat) (co : PT → PT) (p : PT) : PT := loopS lk (fun b => decide (b = 38)) co (L - (co p).h) (co p)
def eithS (lk : Nat → Int32) (L : Nat) (bo : PT → PT) (p : PT) : PT := loopS lk (fun b => decide (b = 124)) bo (L - (bo p).h) (bo p)
def eithOf (lk : Nat → Int32) (L : Nat) (op : PT → PT) : PT → PT := eithS lk L (bothS lk L (compS lk (sumS lk L (prodS lk L op))))
def operF (lk : Nat → Int32) (L : Nat) : Nat → PT → PT
  | 0 => operS lk id id
  | f + 1 => operS lk (operF lk L f) (eithOf lk L (operF lk L f))
/-- what a part keeps: no fault at the start; ahead, within L; a step a letter, and one more at a fault -/
def okP (L : Nat) (op : Int32) (p : PT) : Prop := ¬ 0 ≤ p.fl ∧ p.n ≤ p.h ∧ p.h ≤ L ∧ p.op = op
def goP (L : Nat) (p q : PT) : Prop := p.h ≤ q.h ∧ q.h ≤ L ∧ q.n + p.h ≤ p.n + q.h + 1 ∧ (¬ 0 ≤ q.fl → q.n + p.h ≤ p.n + q.h ∧ q.op = p.op)
theorem okP_n {L : Nat} {o : Int32} {p : PT} (h : okP L o p) (hL : L ≤ 120) : p.h ≤ 120 ∧ p.n ≤ 120 := ⟨Nat.le_trans h.2.2.1 hL, Nat.le_trans h.2.1 (Nat.le_trans h.2.2.1 hL)⟩
theorem lkV_lt {τ : Nat → Int32} {L h : Nat} {a : Int32} (ha : a ≠ -1) (e : lkV τ L h = a) : h < L := by
  unfold lkV at e
  split at e
  · assumption
  · exact absurd e.symm ha
theorem lkV_dig {τ : Nat → Int32} {L h : Nat} (e : inB (lkV τ L h) 48 57 = true) : h < L := by
  unfold lkV at e
  split at e
  · assumption
  · exact absurd e (by decide)
theorem fgR_b (τ : Nat → Int32) (L : Nat) : ∀ (f h : Nat) (v : Int32) (k : Nat), h ≤ L → h ≤ (fgR (lkV τ L) f h v k).1 ∧ (fgR (lkV τ L) f h v k).1 ≤ L ∧ (fgR (lkV τ L) f h v k).2.2 + h = k + (fgR (lkV τ L) f h v k).1
  | 0, h, v, k, hh => ⟨Nat.le_refl _, hh, rfl⟩
  | f + 1, h, v, k, hh => by
    rw [fgR]
    split
    · rename_i c
      obtain ⟨a1, a2, a3⟩ := fgR_b τ L f (h + 1) (10 * v + lkV τ L h - 48) (k + 1) (lkV_dig c)
      exact ⟨by omega, a2, by omega⟩
    · exact ⟨Nat.le_refl _, hh, rfl⟩
theorem wrV_pos {h : Nat} {fl : Int32} (hh : h < 2 ^ 31) : 0 ≤ wrV h fl := by
  unfold wrV
  split
  · assumption
  · exact nI_pos' hh
theorem goP_fig {τ : Nat → Int32} {L : Nat} {o : Int32} {p : PT} (hL : L ≤ 120) (h : okP L o p) : goP L p (figS (lkV τ L) p) := by
  obtain ⟨h1, h2, h3, h4⟩ := h
  obtain ⟨a1, a2, a3⟩ := fgR_b τ L 4 p.h 0 0 h3
  refine ⟨a1, a2, ?_, ?_⟩
  · show p.n + 1 + p.h ≤ p.n + (fgR (lkV τ L) 4 p.h 0 0).1 + 1
    omega
  · intro hf
    have hf : ¬ 0 ≤ (if (fgR (lkV τ L) 4 p.h 0 0).2.2 = 0 ∨ inB (lkV τ L (fgR (lkV τ L) 4 p.h 0 0).1) 48 57 = true then wrV (fgR (lkV τ L) 4 p.h 0 0).1 p.fl else p.fl) := hf
    have hk : ¬ (fgR (lkV τ L) 4 p.h 0 0).2.2 = 0 := by
      intro hk
      rw [if_pos (Or.inl hk)] at hf
      exact hf (wrV_pos (by omega))
    refine ⟨?_, rfl⟩
    show p.n + 1 + p.h ≤ p.n + (fgR (lkV τ L) 4 p.h 0 0).1
    omega
theorem goP_loop {τ : Nat → Int32} {L : Nat} {o : Int32} {is : Int32 → Bool} {part : PT → PT} (his : is (-1) = false) (hp : ∀ p, okP L o p → goP L p (part p)) : ∀ (f : Nat) (p : PT), okP L o p → goP L p (loopS (lkV τ L) is part f p)
  | 0, p, h => ⟨Nat.le_refl _, h.2.2.1, by show p.n + p.h ≤ p.n + p.h + 1; omega, fun _ => ⟨Nat.le_refl _, rfl⟩⟩
  | f + 1, p, h => by
    rw [loopS]
    split
    · rename_i c
      have hlt : p.h < L := by
        refine Nat.lt_of_not_le fun q => ?_
        have e : lkV τ L p.h = -1 := if_neg (by omega)
        rw [e, his] at c
        exact absurd c.2 (by decide)
      obtain ⟨g1, g2, g3, g4⟩ := hp p.ahead ⟨h.1, Nat.le_succ_of_le h.2.1, hlt, h.2.2.2⟩
      have g1 : p.h + 1 ≤ (part p.ahead).h := g1
      have g3 : (part p.ahead).n + (p.h + 1) ≤ p.n + (part p.ahead).h + 1 := g3
      by_cases hf : 0 ≤ (part p.ahead).fl
      · have e : loopS (lkV τ L) is part f ((part p.ahead).add (lkV τ L p.h) 0) = (part p.ahead).add (lkV τ L p.h) 0 := by
          cases f with
          | zero => rfl
          | succ f => rw [loopS, if_neg (fun q => q.1 hf)]
        rw [e]
        refine ⟨?_, g2, ?_, fun q => absurd hf q⟩
        · show p.h ≤ (part p.ahead).h
          omega
        · show (part p.ahead).n + 1 + p.h ≤ p.n + (part p.ahead).h + 1
          omega
      · obtain ⟨g5, g6⟩ := g4 hf
        have g5 : (part p.ahead).n + (p.h + 1) ≤ p.n + (part p.ahead).h := g5
        have hn := h.2.1
        obtain ⟨b1, b2, b3, b4⟩ := goP_loop his hp f ((part p.ahead).add (lkV τ L p.h) 0) ⟨hf, by show (part p.ahead).n + 1 ≤ (part p.ahead).h; omega, g2, g6.trans h.2.2.2⟩
        generalize loopS (lkV τ L) is part f ((part p.ahead).add (lkV τ L p.h) 0) = q at b1 b2 b3 b4 ⊢
        have b1 : (part p.ahead).h ≤ q.h := b1
        have b3 : q.n + (part p.ahead).h ≤ (part p.ahead).n + 1 + q.h + 1 := b3
        refine ⟨by omega, b2, by omega, fun c2 => ?_⟩
        obtain ⟨b5, b6⟩ := b4 c2
        have b5 : q.n + (part p.ahead).h ≤ (part p.ahead).n + 1 + q.h := b5
        exact ⟨by omega, b6.trans g6⟩
    · exact ⟨Nat.le_refl _, h.2.2.1, by omega, fun _ => ⟨Nat.le_refl _, rfl⟩⟩
/-- the loop after a part -/
theorem goP_after {τ : Nat → Int32} {L : Nat} {o : Int32} {is : Int32 → Bool} {part : PT → PT} (his : is (-1) = false) (hp : ∀ p, okP L o p → goP L p (part p)) {p : PT} (h : okP L o p) (f : Nat) : goP L p (loopS (lkV τ L) is part f (part p)) := by
  obtain ⟨a1, a2, a3, a4⟩ := hp p h
  by_cases hf : 0 ≤ (part p).fl
  · have e : loopS (lkV τ L) is part f (part p) = part p := by
      cases f with
      | zero => rfl
      | succ f => rw [loopS, if_neg (fun q => q.1 hf)]
    rw [e]; exact ⟨a1, a2, a3, a4⟩
  · obtain ⟨a5, a6⟩ := a4 hf
    have hn := h.2.1
    obtain ⟨b1, b2, b3, b4⟩ := goP_loop (τ := τ) his hp f (part p) ⟨hf, by omega, a2, a6.trans h.2.2.2⟩
    exact ⟨by omega, b2, by omega, fun c => ⟨by have := (b4 c).1; omega, (b4 c).2.trans a6⟩⟩
theorem goP_comp {τ : Nat → Int32} {L : Nat} {o : Int32} {su : PT → PT} (hp : ∀ p, okP L o p → goP L p (su p)) {p : PT} (h : okP L o p) : goP L p (compS (lkV τ L) su p) := by
  have e : compS (lkV τ L) su p = loopS (lkV τ L) isLike su 1 (su p) := by
    rw [compS, loopS]; rfl
  rw [e]
  exact goP_after (by decide) hp h 1
theorem nmV_m1 : nmV (-1) = -1 := by decide
theorem goP_oper {τ : Nat → Int32} {L : Nat} {o : Int32} {op ei : PT → PT} {p : PT} (hL : L ≤ 120) (h : okP L o p) (ho : ¬ o = 6 → ∀ p, okP L (o + 1) p → goP L p (op p)) (he : ¬ o = 6 → ∀ p, okP L (o + 1) p → goP L p (ei p)) : goP L p (operS (lkV τ L) op ei p) := by
  have hn := okP_n h hL
  have hlt : ¬ lkV τ L p.h = -1 → p.h < L := fun q => by
    refine Nat.lt_of_not_le fun z => q (if_neg (by omega))
  have hw : ∀ q : PT, p.h ≤ q.h → q.h ≤ L → q.n + p.h ≤ p.n + q.h + 1 → goP L p q.wrong := fun q q1 q2 q3 => ⟨q1, q2, q3, fun c => absurd (wrV_pos (by omega)) c⟩
  have hin : p.h < L → okP L (o + 1) p.into := fun z => ⟨h.1, Nat.le_succ_of_le h.2.1, z, by show p.op + 1 = o + 1; rw [h.2.2.2]⟩
  have hnn := h.2.1
  unfold operS
  split
  · rename_i c
    have hl := hlt (fun q => by rw [q] at c; exact absurd c (by decide))
    refine ⟨Nat.le_succ _, hl, ?_, fun _ => ⟨?_, rfl⟩⟩
    · show p.n + 1 + p.h ≤ p.n + (p.h + 1) + 1
      omega
    · show p.n + 1 + p.h ≤ p.n + (p.h + 1)
      omega
  · split
    · rename_i c
      have hl := hlt (fun q => by rw [q] at c; exact absurd c (by decide))
      split
      · exact hw p (Nat.le_refl _) h.2.2.1 (by omega)
      · rename_i c6
        rw [h.2.2.2] at c6
        obtain ⟨a1, a2, a3, a4⟩ := ho c6 p.into (hin hl)
        generalize op p.into = q at a1 a2 a3 a4 ⊢
        have a1 : p.h + 1 ≤ q.h := a1
        have a3 : q.n + (p.h + 1) ≤ p.n + q.h + 1 := a3
        refine ⟨?_, a2, ?_, fun z => ?_⟩
        · show p.h ≤ q.h
          omega
        · show q.n + 1 + p.h ≤ p.n + q.h + 1
          omega
        · obtain ⟨a5, a6⟩ := a4 z
          have a5 : q.n + (p.h + 1) ≤ p.n + q.h := a5
          have a6 : q.op = p.op + 1 := a6
          refine ⟨?_, ?_⟩
          · show q.n + 1 + p.h ≤ p.n + q.h
            omega
          · show q.op - 1 = p.op
            rw [a6]; exact Int32.add_sub_cancel _ _
    · split
      · rename_i c
        have hl := hlt (fun q => by rw [q] at c; exact absurd c (by decide))
        split
        · exact hw p (Nat.le_refl _) h.2.2.1 (by omega)
        · rename_i c6
          rw [h.2.2.2] at c6
          obtain ⟨a1, a2, a3, a4⟩ := he c6 p.into (hin hl)
          generalize ei p.into = q at a1 a2 a3 a4 ⊢
          have a1 : p.h + 1 ≤ q.h := a1
          have a3 : q.n + (p.h + 1) ≤ p.n + q.h + 1 := a3
          split
          · rename_i cf
            exact ⟨by omega, a2, by omega, fun z => absurd cf z⟩
          · rename_i cf
            obtain ⟨a5, a6⟩ := a4 cf
            have a5 : q.n + (p.h + 1) ≤ p.n + q.h := a5
            have a6 : q.op = p.op + 1 := a6
            split
            · rename_i c41
              have hq := lkV_lt (by decide) c41
              refine ⟨?_, hq, ?_, fun _ => ⟨?_, ?_⟩⟩
              · show p.h ≤ q.h + 1
                omega
              · show q.n + p.h ≤ p.n + (q.h + 1) + 1
                omega
              · show q.n + p.h ≤ p.n + (q.h + 1)
                omega
              · show q.op - 1 = p.op
                rw [a6]; exact Int32.add_sub_cancel _ _
            · exact hw q (by omega) a2 (by omega)
      · exact goP_fig hL h
theorem goP_eith {τ : Nat → Int32} {L : Nat} {o : Int32} {op : PT → PT} (hp : ∀ p, okP L o p → goP L p (op p)) : ∀ p, okP L o p → goP L p (eithOf (lkV τ L) L op p) := by
  intro p h
  exact goP_after (by decide) (fun p h => goP_after (by decide) (fun p h => goP_comp (fun p h => goP_after (by decide) (fun p h => goP_after (by decide) hp h _) h _) h) h _) h _
theorem goP_F {τ : Nat → Int32} {L : Nat} (hL : L ≤ 120) : ∀ (f : Nat), f ≤ 6 → ∀ p, okP L (nI (6 - f)) p → goP L p (operF (lkV τ L) L f p)
  | 0, _, p, h => goP_oper hL h (fun z => absurd rfl z) (fun z => absurd rfl z)
  | f + 1, hf, p, h => by
    have e : nI (6 - (f + 1)) + 1 = nI (6 - f) := by
      rw [show 6 - f = 6 - (f + 1) + 1 by omega]; exact nI_1 _
    exact goP_oper hL h (fun _ => by rw [e]; exact goP_F hL f (by omega)) (fun _ => by rw [e]; exact goP_eith (goP_F hL f (by omega)))
def opB (lk : Nat → Int32) (L : Nat) : Nat → PT → PT
  | 0 => id
  | f + 1 => operF lk L f
def eiB (lk : Nat → Int32) (L : Nat) : Nat → PT → PT
  | 0 => id
  | f + 1 => eithOf lk L (operF lk L f)
theorem operF_u (lk : Nat → Int32) (L f : Nat) (p : PT) : operF lk L f p = operS lk (opB lk L f) (eiB lk L f) p := by
  cases f <;> rfl
theorem okP_into {L e : Nat} {p : PT} (h : okP L (nI (6 - (e + 1))) p) (hf : e + 1 ≤ 6) (hl : p.h < L) : okP L (nI (6 - e)) p.into :=
  ⟨h.1, Nat.le_succ_of_le h.2.1, hl, by
    show p.op + 1 = nI (6 - e)
    rw [h.2.2.2, show 6 - e = 6 - (e + 1) + 1 by omega]; exact nI_1 _⟩
theorem okP_lvl {L f : Nat} {p : PT} (h : okP L (nI (6 - f)) p) (hop : ¬ p.op = 6) : ∃ e, f = e + 1 := by
  cases f with
  | zero => exact absurd h.2.2.2 hop
  | succ e => exact ⟨e, rfl⟩
theorem goP_le {L : Nat} {p q : PT} (h : goP L p q) : PT.h p ≤ PT.h q ∧ PT.h q ≤ L ∧ PT.n q + PT.h p ≤ PT.n p + PT.h q + 1 := ⟨h.1, h.2.1, h.2.2.1⟩
def okQ (L : Nat) (o : Int32) (q : PT) : Prop := q.h ≤ L ∧ q.n ≤ q.h + 1 ∧ (¬ 0 ≤ q.fl → okP L o q)
theorem okQ_go {L : Nat} {o : Int32} {p q : PT} (h : okP L o p) (hg : goP L p q) : okQ L o q := by
  obtain ⟨a1, a2, a3, a4⟩ := hg
  have hn := h.2.1
  exact ⟨a2, by omega, fun c => ⟨c, by have := (a4 c).1; omega, a2, (a4 c).2.trans h.2.2.2⟩⟩
theorem okP_ahead {L : Nat} {o : Int32} {q : PT} (h : okP L o q) (hl : q.h < L) : okP L o q.ahead := ⟨h.1, Nat.le_succ_of_le h.2.1, hl, h.2.2.2⟩
theorem okQ_step {L : Nat} {o : Int32} {q r : PT} (a v : Int32) (h : okP L o q) (hl : q.h < L) (hg : goP L q.ahead r) : okQ L o (r.add a v) := by
  obtain ⟨a1, a2, a3, a4⟩ := hg
  have a1 : q.h + 1 ≤ r.h := a1
  have a3 : r.n + (q.h + 1) ≤ q.n + r.h + 1 := a3
  have hn := h.2.1
  refine ⟨a2, ?_, fun c => ⟨c, ?_, a2, (a4 c).2.trans h.2.2.2⟩⟩
  · show r.n + 1 ≤ r.h + 1
    omega
  · show r.n + 1 ≤ r.h
    have a5 : r.n + (q.h + 1) ≤ q.n + r.h := (a4 c).1
    omega
theorem loopS_out {lk : Nat → Int32} {is : Int32 → Bool} {part : PT → PT} {q : PT} (h : 0 ≤ q.fl ∨ is (lk q.h) = false) : ∀ F, loopS lk is part F q = q
  | 0 => rfl
  | F + 1 => by
    rw [loopS, if_neg]
    rintro ⟨a, b⟩
    rcases h with h | h
    · exact a h
    · rw [h] at b; exact absurd b (by decide)
theorem loopS_in {lk : Nat → Int32} {is : Int32 → Bool} {part : PT → PT} {q : PT} {L F : Nat} (h1 : ¬ 0 ≤ q.fl) (h2 : is (lk q.h) = true) (hl : q.h < L) (hF : L - q.h ≤ F) : ∃ F', F = F' + 1 ∧ loopS lk is part F q = loopS lk is part F' ((part q.ahead).add (lk q.h) 0) := by
  refine ⟨F - 1, by omega, ?_⟩
  rw [show F = F - 1 + 1 by omega, loopS, if_pos ⟨h1, h2⟩]; rfl
theorem operF_s (lk : Nat → Int32) (L f : Nat) (p : PT) : operF lk L (f + 1) p = operS lk (operF lk L f) (eithOf lk L (operF lk L f)) p := rfl
