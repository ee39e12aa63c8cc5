/-! SPEC 12: lines and the whole text -/
theorem adv_oper {τ : Nat → Int32} {L : Nat} {o : Int32} {op ei : PT → PT} {p : PT} (hL : L ≤ 120) (h : okP L o p) (ho : ¬ o = 6 → ∀ p, okP L (o + 1) p → goP L p (op p)) (he : ¬ o = 6 → ∀ p, okP L (o + 1) p → goP L p (ei p)) (hf : ¬ 0 ≤ (operS (lkV τ L) op ei p).fl) : p.h < (operS (lkV τ L) op ei p).h := by
  have hn := okP_n h hL
  have hlt : ¬ lkV τ L p.h = -1 → p.h < L := fun q => by
    refine Nat.lt_of_not_le fun z => q (if_neg (by omega))
  have hin : p.h < L → okP L (o + 1) p.into := fun z => ⟨h.1, Nat.le_succ_of_le h.2.1, z, by show p.op + 1 = o + 1; rw [h.2.2.2]⟩
  revert hf
  unfold operS
  split
  · intro _
    exact Nat.lt_succ_self _
  · split
    · rename_i c
      have hl := hlt (fun q => by rw [q] at c; exact absurd c (by decide))
      split
      · exact fun q => absurd (wrV_pos (by omega)) q
      · rename_i c6
        rw [h.2.2.2] at c6
        intro _
        exact (ho c6 p.into (hin hl)).1
    · split
      · rename_i c
        have hl := hlt (fun q => by rw [q] at c; exact absurd c (by decide))
        split
        · exact fun q => absurd (wrV_pos (by omega)) q
        · rename_i c6
          rw [h.2.2.2] at c6
          obtain ⟨a1, a2, -, -⟩ := he c6 p.into (hin hl)
          generalize ei p.into = q at a1 a2 ⊢
          have a1 : p.h + 1 ≤ q.h := a1
          split
          · rename_i cf
            exact fun z => absurd cf z
          · split
            · intro _
              show p.h < q.h + 1
              omega
            · exact fun z => absurd (wrV_pos (by omega)) z
      · intro hf
        have hf : ¬ 0 ≤ (if (fgR (lkV τ L) 4 p.h 0 0).2.2 = 0 ∨ inB (lkV τ L (fgR (lkV τ L) 4 p.h 0 0).1) 48 57 = true then wrV (fgR (lkV τ L) 4 p.h 0 0).1 p.fl else p.fl) := hf
        obtain ⟨a1, a2, a3⟩ := fgR_b τ L 4 p.h 0 0 h.2.2.1
        show p.h < (fgR (lkV τ L) 4 p.h 0 0).1
        have hk : ¬ (fgR (lkV τ L) 4 p.h 0 0).2.2 = 0 := by
          intro hk
          rw [if_pos (Or.inl hk)] at hf
          exact hf (wrV_pos (by omega))
        omega
theorem adv_after {τ : Nat → Int32} {L : Nat} {o : Int32} {is : Int32 → Bool} {part : PT → PT} (his : is (-1) = false) (hp : ∀ p, okP L o p → goP L p (part p)) (ha : ∀ p, okP L o p → ¬ 0 ≤ (part p).fl → p.h < (part p).h) {p : PT} (h : okP L o p) (f : Nat) (hf : ¬ 0 ≤ (loopS (lkV τ L) is part f (part p)).fl) : p.h < (loopS (lkV τ L) is part f (part p)).h := by
  by_cases c : 0 ≤ (part p).fl
  · rw [loopS_out (Or.inl c)] at hf
    exact absurd c hf
  · have h1 := ha p h c
    have h2 := (goP_loop (τ := τ) his hp f (part p) ((okQ_go h (hp p h)).2.2 c)).1
    omega
theorem adv_F {τ : Nat → Int32} {L : Nat} (hL : L ≤ 120) : ∀ (f : Nat), f ≤ 6 → ∀ p, okP L (nI (6 - f)) p → ¬ 0 ≤ (operF (lkV τ L) L f p).fl → p.h < (operF (lkV τ L) L f p).h
  | 0, _, p, h, hf => adv_oper hL h (fun z => absurd rfl z) (fun z => absurd rfl z) hf
  | f + 1, hf, p, h, hq => by
    have e : nI (6 - (f + 1)) + 1 = nI (6 - f) := by
      rw [show 6 - f = 6 - (f + 1) + 1 by omega]; exact nI_1 _
    exact adv_oper hL h (fun _ => by rw [e]; exact goP_F hL f (by omega)) (fun _ => by rw [e]; exact goP_eith (goP_F hL f (by omega))) hq
theorem compS_loop (lk : Nat → Int32) (su : PT → PT) (p : PT) : compS lk su p = loopS lk isLike su 1 (su p) := by
  rw [compS, loopS]; rfl
theorem adv_eith {τ : Nat → Int32} {L : Nat} {o : Int32} {op : PT → PT} (hp : ∀ p, okP L o p → goP L p (op p)) (ha : ∀ p, okP L o p → ¬ 0 ≤ (op p).fl → p.h < (op p).h) : ∀ p, okP L o p → ¬ 0 ≤ (eithOf (lkV τ L) L op p).fl → p.h < (eithOf (lkV τ L) L op p).h := by
  have gP : ∀ p, okP L o p → goP L p (prodS (lkV τ L) L op p) := fun p h => goP_after (by decide) hp h _
  have gS : ∀ p, okP L o p → goP L p (sumS (lkV τ L) L (prodS (lkV τ L) L op) p) := fun p h => goP_after (by decide) gP h _
  have gC : ∀ p, okP L o p → goP L p (compS (lkV τ L) (sumS (lkV τ L) L (prodS (lkV τ L) L op)) p) := fun p h => goP_comp gS h
  have gB : ∀ p, okP L o p → goP L p (bothS (lkV τ L) L (compS (lkV τ L) (sumS (lkV τ L) L (prodS (lkV τ L) L op))) p) := fun p h => goP_after (by decide) gC h _
  intro p h
  exact adv_after (by decide) gB (fun p h => adv_after (by decide) gC (fun p h => by rw [compS_loop]; exact adv_after (by decide) gS (fun p h => adv_after (by decide) gP (fun p h => adv_after (by decide) hp ha h _) h _) h _) h _) h _
def lQ (g : MSt) (M T E : Nat → Int32) : MSt := msA (msA (msA g 30 M) 31 T) 32 E
theorem lQ_30 (g : MSt) (M T E A W F : Nat → Int32) (h fl op n : Int32) : msA (pQ (lQ g M T E) h fl op n A W) 30 F = pQ (lQ g F T E) h fl op n A W := by
  refine Prod.ext rfl (Prod.ext ?_ rfl)
  show va_up (va_up (va_up (va_up (va_up (va_up g.2.1 30 M) 31 T) 32 E) 28 A) 29 W) 30 F = va_up (va_up (va_up (va_up (va_up g.2.1 30 F) 31 T) 32 E) 28 A) 29 W
  funext k
  simp only [va_up]
  by_cases hk : k = 30
  · subst hk; rfl
  · simp only [if_neg hk]
theorem lQ_31 (g : MSt) (M T E A W F : Nat → Int32) (h fl op n : Int32) : msA (pQ (lQ g M T E) h fl op n A W) 31 F = pQ (lQ g M F E) h fl op n A W := by
  refine Prod.ext rfl (Prod.ext ?_ rfl)
  show va_up (va_up (va_up (va_up (va_up (va_up g.2.1 30 M) 31 T) 32 E) 28 A) 29 W) 31 F = va_up (va_up (va_up (va_up (va_up g.2.1 30 M) 31 F) 32 E) 28 A) 29 W
  funext k
  simp only [va_up]
  by_cases hk : k = 31
  · subst hk; rfl
  · simp only [if_neg hk]
theorem lQ_32 (g : MSt) (M T E A W F : Nat → Int32) (h fl op n : Int32) : msA (pQ (lQ g M T E) h fl op n A W) 32 F = pQ (lQ g M T F) h fl op n A W := by
  refine Prod.ext rfl (Prod.ext ?_ rfl)
  show va_up (va_up (va_up (va_up (va_up (va_up g.2.1 30 M) 31 T) 32 E) 28 A) 29 W) 32 F = va_up (va_up (va_up (va_up (va_up g.2.1 30 M) 31 T) 32 F) 28 A) 29 W
  funext k
  simp only [va_up]
  by_cases hk : k = 32
  · subst hk; rfl
  · simp only [if_neg hk]
theorem nI_s : ∀ n, n < 201 → vp_nar .short (nI n).toInt16.toInt32 = nI n := by decide +kernel
abbrev LT : Type := PT × Nat × (Nat → Int32) × (Nat → Int32)
def eiT (lk : Nat → Int32) (L : Nat) : PT → PT := eithOf lk L (operF lk L 6)
def lnS (lk : Nat → Int32) (L : Nat) (p : PT) (m : Nat) (T E : Nat → Int32) : LT :=
  if ¬ 0 ≤ (eiT lk L p).fl ∧ lk (eiT lk L p).h = 63 then (eiT lk L (eiT lk L p).ahead, m + 1, va_up T (61 + m) (nI (eiT lk L p).n), va_up E (61 + m) (nI (eiT lk L (eiT lk L p).ahead).n))
  else (eiT lk L p, m + 1, va_up T (61 + m) (nI p.n), va_up E (61 + m) (nI (eiT lk L p).n))
def rdL (lk : Nat → Int32) (L : Nat) : Nat → LT → LT
  | 0, s => s
  | F + 1, s => if ¬ 0 ≤ s.1.fl ∧ lk s.1.h = 59 then rdL lk L F (lnS lk L s.1.ahead s.2.1 s.2.2.1 s.2.2.2) else s
theorem goP_eif {τ : Nat → Int32} {L : Nat} (hL : L ≤ 120) (f : Nat) (hf : f ≤ 6) (p : PT) (h : okP L (nI (6 - f)) p) : goP L p (eithOf (lkV τ L) L (operF (lkV τ L) L f) p) ∧ (¬ 0 ≤ (eithOf (lkV τ L) L (operF (lkV τ L) L f) p).fl → p.h < (eithOf (lkV τ L) L (operF (lkV τ L) L f) p).h) :=
  ⟨goP_eith (τ := τ) (goP_F hL f hf) p h, adv_eith (τ := τ) (goP_F hL f hf) (adv_F hL f hf) p h⟩
theorem goP_eiT {τ : Nat → Int32} {L : Nat} (hL : L ≤ 120) (p : PT) (h : okP L (nI (6 - 6)) p) : goP L p (eiT (lkV τ L) L p) ∧ (¬ 0 ≤ (eiT (lkV τ L) L p).fl → p.h < (eiT (lkV τ L) L p).h) := by
  unfold eiT
  exact goP_eif (τ := τ) hL 6 (Nat.le_refl 6) p h
/-- what a line keeps -/
theorem goP_ln {τ : Nat → Int32} {L : Nat} (hL : L ≤ 120) {p : PT} (h : okP L (nI (6 - 6)) p) (m : Nat) (T E : Nat → Int32) : goP L p (lnS (lkV τ L) L p m T E).1 ∧ (¬ 0 ≤ (lnS (lkV τ L) L p m T E).1.fl → p.h < (lnS (lkV τ L) L p m T E).1.h) ∧ (lnS (lkV τ L) L p m T E).2.1 = m + 1 := by
  obtain ⟨h1, h2⟩ := goP_eiT (τ := τ) hL p h
  unfold lnS
  split
  · rename_i c
    have hq := (okQ_go h h1).2.2 c.1
    have hlt := lkV_lt (by decide) c.2
    have hq2 := okP_ahead hq hlt
    obtain ⟨h3, h4⟩ := goP_eiT (τ := τ) hL _ hq2
    generalize eiT (lkV τ L) L p = q at *
    generalize eiT (lkV τ L) L q.ahead = r at *
    obtain ⟨a1, a2, a3, a4⟩ := h1
    obtain ⟨b1, b2, b3, b4⟩ := h3
    have b1 : q.h + 1 ≤ r.h := b1
    have b3 : r.n + (q.h + 1) ≤ q.n + r.h + 1 := b3
    have a5 := a4 c.1
    refine ⟨⟨?_, b2, ?_, fun z => ⟨?_, ?_⟩⟩, fun _ => ?_, rfl⟩
    · show p.h ≤ r.h
      omega
    · show r.n + p.h ≤ p.n + r.h + 1
      omega
    · have b5 : r.n + (q.h + 1) ≤ q.n + r.h := (b4 z).1
      show r.n + p.h ≤ p.n + r.h
      omega
    · exact (b4 z).2.trans a5.2
    · show p.h < r.h
      omega
  · generalize eiT (lkV τ L) L p = q at *
    exact ⟨h1, h2, rfl⟩
