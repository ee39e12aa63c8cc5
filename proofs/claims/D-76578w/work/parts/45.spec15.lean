/-! SPEC 15: what the reader lays, as code -/
abbrev by8 (x : Int32) : Prop := vp_nar .byte x = x
def cdR (A W : Nat → Int32) (a b : Nat) : Cod := (List.range (b - a)).map (fun j => (A (130 + (a + j)), W (130 + (a + j))))
theorem cdR_split {A W : Nat → Int32} {a b c : Nat} (h1 : a ≤ b) (h2 : b ≤ c) : cdR A W a c = cdR A W a b ++ cdR A W b c := by
  unfold cdR
  rw [show c - a = (b - a) + (c - b) by omega, List.range_add, List.map_append, List.map_map]
  congr 1
  apply List.map_congr_left
  intro j _
  show (A (130 + (a + (b - a + j))), W (130 + (a + (b - a + j)))) = _
  rw [show a + (b - a + j) = b + j by omega]
theorem cdR_congr {A W A2 W2 : Nat → Int32} {a b : Nat} (h : ∀ j, a ≤ j → j < b → A2 (130 + j) = A (130 + j) ∧ W2 (130 + j) = W (130 + j)) : cdR A2 W2 a b = cdR A W a b := by
  unfold cdR
  apply List.map_congr_left
  intro j hj
  have hj := List.mem_range.mp hj
  obtain ⟨h1, h2⟩ := h (a + j) (by omega) (by omega)
  rw [h1, h2]
theorem cdR_nil {A W : Nat → Int32} {a b : Nat} (h : b ≤ a) : cdR A W a b = [] := by
  unfold cdR
  rw [show b - a = 0 by omega]
  rfl
theorem cdR_1 {A W : Nat → Int32} {a : Nat} : cdR A W a (a + 1) = [(A (130 + a), W (130 + a))] := by
  unfold cdR
  rw [show a + 1 - a = 0 + 1 by omega, List.range_succ]
  rfl
theorem cdR_len {A W : Nat → Int32} {a b : Nat} : (cdR A W a b).length = b - a := by
  unfold cdR
  rw [List.length_map, List.length_range]
/-- what a part keeps of the steps, and lays -/
def kpQ (p q : PT) : Prop := p.n ≤ q.n ∧ (∀ j, j < p.n → q.A (130 + j) = p.A (130 + j) ∧ q.W (130 + j) = p.W (130 + j)) ∧ ∀ j, p.n ≤ j → j < q.n → by8 (q.A (130 + j))
theorem kp_rf (p : PT) : kpQ p p := ⟨Nat.le_refl _, fun _ _ => ⟨rfl, rfl⟩, fun j h1 h2 => by omega⟩
theorem kp_tr {p q r : PT} (h1 : kpQ p q) (h2 : kpQ q r) : kpQ p r := by
  obtain ⟨a1, a2, a3⟩ := h1
  obtain ⟨b1, b2, b3⟩ := h2
  refine ⟨Nat.le_trans a1 b1, fun j hj => ?_, fun j h3 h4 => ?_⟩
  · have hq : j < q.n := by omega
    exact ⟨(b2 j hq).1.trans (a2 j hj).1, (b2 j hq).2.trans (a2 j hj).2⟩
  · by_cases hq : j < q.n
    · rw [(b2 j hq).1]
      exact a3 j h3 hq
    · exact b3 j (by omega) h4
theorem kp_add {p : PT} {a v : Int32} (h : by8 a) : kpQ p (p.add a v) := by
  refine ⟨Nat.le_succ _, fun j hj => ⟨?_, ?_⟩, fun j h3 h4 => ?_⟩
  · show va_up p.A (130 + p.n) a (130 + j) = _
    exact va_upN (by omega)
  · show va_up p.W (130 + p.n) v (130 + j) = _
    exact va_upN (by omega)
  · have h4 : j < p.n + 1 := h4
    have e : j = p.n := by omega
    show by8 (va_up p.A (130 + p.n) a (130 + j))
    rw [e, va_upS]
    exact h
theorem kp_cd {q r : PT} (h : kpQ q r) {a : Nat} (ha : a ≤ q.n) : cdR r.A r.W a r.n = cdR q.A q.W a q.n ++ cdR r.A r.W q.n r.n := by
  rw [cdR_split ha h.1]
  congr 1
  exact cdR_congr fun j _ hj => h.2.1 j hj
theorem add_cd {p : PT} {s v : Int32} {a : Nat} (ha : a ≤ p.n) : cdR (p.add s v).A (p.add s v).W a (p.add s v).n = cdR p.A p.W a p.n ++ [(s, v)] := by
  show cdR (va_up p.A (130 + p.n) s) (va_up p.W (130 + p.n) v) a (p.n + 1) = _
  rw [cdR_split ha (Nat.le_succ _), cdR_1, va_upS, va_upS]
  congr 1
  exact cdR_congr fun j _ hj => ⟨va_upN (by omega), va_upN (by omega)⟩
theorem isTimes_8 {b : Int32} (h : isTimes b = true) : by8 b := by
  unfold isTimes at h
  simp only [Bool.or_eq_true, decide_eq_true_eq] at h
  rcases h with (h | h) | h <;> (subst h; decide)
theorem isPlus_8 {b : Int32} (h : isPlus b = true) : by8 b := by
  unfold isPlus at h
  simp only [Bool.or_eq_true, decide_eq_true_eq] at h
  rcases h with h | h <;> (subst h; decide)
theorem isLike_8 {b : Int32} (h : isLike b = true) : by8 b := by
  unfold isLike at h
  simp only [Bool.or_eq_true, decide_eq_true_eq] at h
  rcases h with (h | h) | h <;> (subst h; decide)
theorem is38_8 {b : Int32} (h : decide (b = 38) = true) : by8 b := by
  rw [of_decide_eq_true h]; decide
theorem is124_8 {b : Int32} (h : decide (b = 124) = true) : by8 b := by
  rw [of_decide_eq_true h]; decide
theorem kp_loop {lk : Nat → Int32} {is : Int32 → Bool} {part : PT → PT} (his : ∀ b, is b = true → by8 b) (hp : ∀ p, kpQ p (part p)) : ∀ (f : Nat) (p : PT), kpQ p (loopS lk is part f p)
  | 0, p => kp_rf p
  | f + 1, p => by
    rw [loopS]
    split
    · rename_i c
      exact kp_tr (kp_tr (show kpQ p (part p.ahead) from hp p.ahead) (kp_add (his _ c.2))) (kp_loop his hp f _)
    · exact kp_rf p
theorem kp_oper {lk : Nat → Int32} {op ei : PT → PT} (ho : ∀ p, kpQ p (op p)) (he : ∀ p, kpQ p (ei p)) (p : PT) : kpQ p (operS lk op ei p) := by
  unfold operS
  split
  · exact (kp_add (by decide) : kpQ p (p.add 2 _))
  · split
    · split
      · exact kp_rf p
      · refine kp_tr (show kpQ p (op p.into).outof from ho p.into) (kp_add ?_)
        split <;> decide
    · split
      · split
        · exact kp_rf p
        · split
          · exact he p.into
          · split
            · exact he p.into
            · exact he p.into
      · exact kp_tr (show kpQ p ((fgR lk 4 p.h 0 0).1, (if (fgR lk 4 p.h 0 0).2.2 = 0 ∨ inB (lk (fgR lk 4 p.h 0 0).1) 48 57 = true then wrV (fgR lk 4 p.h 0 0).1 p.fl else p.fl), p.2.2) from kp_rf p) (kp_add (by decide))
theorem kp_eith {lk : Nat → Int32} {L : Nat} {op : PT → PT} (ho : ∀ p, kpQ p (op p)) (p : PT) : kpQ p (eithOf lk L op p) := by
  have hP : ∀ p, kpQ p (prodS lk L op p) := fun p => kp_tr (ho p) (kp_loop (fun _ => isTimes_8) ho _ _)
  have hS : ∀ p, kpQ p (sumS lk L (prodS lk L op) p) := fun p => kp_tr (hP p) (kp_loop (fun _ => isPlus_8) hP _ _)
  have hC : ∀ p, kpQ p (compS lk (sumS lk L (prodS lk L op)) p) := fun p => by
    rw [compS_loop]
    exact kp_tr (hS p) (kp_loop (fun _ => isLike_8) hS _ _)
  have hB : ∀ p, kpQ p (bothS lk L (compS lk (sumS lk L (prodS lk L op))) p) := fun p => kp_tr (hC p) (kp_loop (fun _ => is38_8) hC _ _)
  exact kp_tr (hB p) (kp_loop (fun _ => is124_8) hB _ _)
theorem kp_F {lk : Nat → Int32} {L : Nat} : ∀ (f : Nat) (p : PT), kpQ p (operF lk L f p)
  | 0, p => kp_oper kp_rf kp_rf p
  | f + 1, p => kp_oper (kp_F f) (kp_eith (kp_F f)) p
theorem kp_eiT {lk : Nat → Int32} {L : Nat} (p : PT) : kpQ p (eiT lk L p) := kp_eith (kp_F 6) p
/-- code that leaves one more on the pile -/
def bcO (c : Cod) : Prop := ∀ (d : Nat) (r : Cod), balV d (c ++ r) = balV (d + 1) r
theorem bcO_1 (v : Int32) : bcO [(1, v)] := fun d r => by
  show balV d ((1, v) :: r) = _
  rw [balV, if_pos rfl]
theorem bcO_2 {v : Int32} (h : inB v 0 5 = true) : bcO [(2, v)] := fun d r => by
  show balV d ((2, v) :: r) = _
  rw [balV, if_neg (by decide), if_pos rfl, if_pos h]
theorem bcO_34 {c : Cod} {s v : Int32} (hc : bcO c) (hs : s = 3 ∨ s = 4) : bcO (c ++ [(s, v)]) := fun d r => by
  rw [List.append_assoc, hc d]
  show balV (d + 1) ((s, v) :: r) = _
  rw [balV, if_neg (by rcases hs with h | h <;> (rw [h]; decide)), if_neg (by rcases hs with h | h <;> (rw [h]; decide)), if_pos hs, if_neg (Nat.succ_ne_zero d)]
theorem bcO_B {c1 c2 : Cod} {s v : Int32} (h1 : bcO c1) (h2 : bcO c2) (hs : ¬ (s = 1 ∨ s = 2 ∨ s = 3 ∨ s = 4)) : bcO (c1 ++ c2 ++ [(s, v)]) := fun d r => by
  rw [List.append_assoc, List.append_assoc, h1 d, h2 (d + 1)]
  show balV (d + 1 + 1) ((s, v) :: r) = _
  rw [balV, if_neg (fun h => hs (Or.inl h)), if_neg (fun h => hs (Or.inr (Or.inl h))), if_neg (fun h => hs (Or.inr (Or.inr h))), if_neg (by omega)]
  rfl
theorem bcO_some {c : Cod} (h : bcO c) : balV 0 c = some 1 := by
  have e := h 0 []
  rw [List.append_nil] at e
  exact e
theorem bcO_ne {c : Cod} (h : bcO c) : c ≠ [] := by
  intro e
  have h2 := bcO_some h
  rw [e] at h2
  exact absurd h2 (by decide)
theorem nmV_in {b : Int32} (h : 0 ≤ nmV b) : inB (nmV b) 0 5 = true := by
  unfold nmV at h ⊢
  repeat' split
  all_goals first | decide | (exfalso; revert h; simp_all; done)
def bcP (L : Nat) (o : Int32) (part : PT → PT) : Prop := ∀ p, okP L o p → ¬ 0 ≤ (part p).fl → bcO (cdR (part p).A (part p).W p.n (part p).n)
def isB (is : Int32 → Bool) : Prop := ∀ b, is b = true → by8 b ∧ ¬ (b = 1 ∨ b = 2 ∨ b = 3 ∨ b = 4)
theorem isB_times : isB isTimes := fun b h => ⟨isTimes_8 h, by
  unfold isTimes at h
  simp only [Bool.or_eq_true, decide_eq_true_eq] at h
  rcases h with (h | h) | h <;> (subst h; decide)⟩
theorem isB_plus : isB isPlus := fun b h => ⟨isPlus_8 h, by
  unfold isPlus at h
  simp only [Bool.or_eq_true, decide_eq_true_eq] at h
  rcases h with h | h <;> (subst h; decide)⟩
theorem isB_like : isB isLike := fun b h => ⟨isLike_8 h, by
  unfold isLike at h
  simp only [Bool.or_eq_true, decide_eq_true_eq] at h
  rcases h with (h | h) | h <;> (subst h; decide)⟩
theorem isB_38 : isB (fun b => decide (b = 38)) := fun b h => ⟨is38_8 h, by rw [of_decide_eq_true h]; decide⟩
theorem isB_124 : isB (fun b => decide (b = 124)) := fun b h => ⟨is124_8 h, by rw [of_decide_eq_true h]; decide⟩
theorem bc_loop {τ : Nat → Int32} {L : Nat} {o : Int32} {is : Int32 → Bool} {part : PT → PT} (hb : isB is) (hm1 : is (-1) = false) (hk : ∀ p, kpQ p (part p)) (hg : ∀ p, okP L o p → goP L p (part p)) (hp : bcP L o part) {a : Nat} : ∀ (f : Nat) (p : PT), okP L o p → a ≤ p.n → bcO (cdR p.A p.W a p.n) → ¬ 0 ≤ (loopS (lkV τ L) is part f p).fl → bcO (cdR (loopS (lkV τ L) is part f p).A (loopS (lkV τ L) is part f p).W a (loopS (lkV τ L) is part f p).n)
  | 0, p, _, _, hc, _ => hc
  | f + 1, p, hok, ha, hc, hf => by
    by_cases c : ¬ 0 ≤ p.fl ∧ is (lkV τ L p.h) = true
    · have e : loopS (lkV τ L) is part (f + 1) p = loopS (lkV τ L) is part f ((part p.ahead).add (lkV τ L p.h) 0) := by rw [loopS, if_pos c]
      rw [e] at hf ⊢
      have hlt : p.h < L := by
        refine Nat.lt_of_not_le fun q => ?_
        have e2 : lkV τ L p.h = -1 := if_neg (by omega)
        rw [e2, hm1] at c
        exact absurd c.2 (by decide)
      have hoka := okP_ahead hok hlt
      have hgo := hg _ hoka
      by_cases hf1 : 0 ≤ (part p.ahead).fl
      · rw [loopS_out (Or.inl (show 0 ≤ ((part p.ahead).add (lkV τ L p.h) 0).fl from hf1))] at hf
        exact absurd hf1 hf
      · have hokr : okP L o ((part p.ahead).add (lkV τ L p.h) 0) := (okQ_step _ _ hok hlt hgo).2.2 hf1
        have hkp : kpQ p (part p.ahead) := hk p.ahead
        have han : a ≤ (part p.ahead).n := Nat.le_trans ha hkp.1
        refine bc_loop hb hm1 hk hg hp f _ hokr (Nat.le_succ_of_le han) ?_ hf
        rw [add_cd han, kp_cd hkp ha]
        exact bcO_B hc (hp _ hoka hf1) (hb _ c.2).2
    · have e : loopS (lkV τ L) is part (f + 1) p = p := by rw [loopS, if_neg c]
      rw [e]
      exact hc
theorem bc_after {τ : Nat → Int32} {L : Nat} {o : Int32} {is : Int32 → Bool} {part : PT → PT} (hb : isB is) (hm1 : is (-1) = false) (hk : ∀ p, kpQ p (part p)) (hg : ∀ p, okP L o p → goP L p (part p)) (hp : bcP L o part) (F : PT → Nat) : bcP L o (fun p => loopS (lkV τ L) is part (F p) (part p)) := by
  intro p hok hf
  by_cases c : 0 ≤ (part p).fl
  · have e : loopS (lkV τ L) is part (F p) (part p) = part p := loopS_out (Or.inl c) _
    have hf : ¬ 0 ≤ (loopS (lkV τ L) is part (F p) (part p)).fl := hf
    rw [e] at hf
    exact absurd c hf
  · exact bc_loop hb hm1 hk hg hp (F p) _ ((okQ_go hok (hg p hok)).2.2 c) (hk p).1 (hp p hok c) hf
theorem bc_oper {τ : Nat → Int32} {L : Nat} {o : Int32} {op ei : PT → PT} (hL : L ≤ 120) (ho : ¬ o = 6 → bcP L (o + 1) op) (he : ¬ o = 6 → bcP L (o + 1) ei) (hge : ¬ o = 6 → ∀ p, okP L (o + 1) p → goP L p (ei p)) (hko : ∀ p, kpQ p (op p)) : bcP L o (operS (lkV τ L) op ei) := by
  intro p hok
  have hn := okP_n hok hL
  have hlt : ¬ lkV τ L p.h = -1 → p.h < L := fun q => by
    refine Nat.lt_of_not_le fun z => q (if_neg (by omega))
  have hin : p.h < L → okP L (o + 1) p.into := fun z => ⟨hok.1, Nat.le_succ_of_le hok.2.1, z, by show p.op + 1 = o + 1; rw [hok.2.2.2]⟩
  unfold operS
  split
  · rename_i c
    intro _
    show bcO (cdR (p.add 2 (nmV (lkV τ L p.h))).A (p.add 2 (nmV (lkV τ L p.h))).W p.n (p.add 2 (nmV (lkV τ L p.h))).n)
    rw [add_cd (Nat.le_refl _), cdR_nil (Nat.le_refl _)]
    exact bcO_2 (nmV_in c)
  · split
    · rename_i c
      have hl := hlt (fun q => by rw [q] at c; exact absurd c (by decide))
      split
      · exact fun q => absurd (wrV_pos (by omega)) q
      · rename_i c6
        rw [hok.2.2.2] at c6
        intro hf
        have hf : ¬ 0 ≤ (op p.into).fl := hf
        have h1 := ho c6 p.into (hin hl) hf
        have hk1 : kpQ p (op p.into) := hko p.into
        rw [add_cd (show p.n ≤ (op p.into).outof.n from hk1.1)]
        exact bcO_34 h1 (by split <;> simp)
    · split
      · rename_i c
        have hl := hlt (fun q => by rw [q] at c; exact absurd c (by decide))
        split
        · exact fun q => absurd (wrV_pos (by omega)) q
        · rename_i c6
          rw [hok.2.2.2] at c6
          split
          · rename_i cf
            exact fun q => absurd cf q
          · rename_i cf
            split
            · intro _
              exact he c6 p.into (hin hl) cf
            · exact fun q => absurd (wrV_pos (by have := (hge c6 p.into (hin hl)).2.1; omega)) q
      · intro _
        unfold figS
        rw [add_cd (Nat.le_refl _), cdR_nil (Nat.le_refl _)]
        exact bcO_1 _
theorem bc_eith {τ : Nat → Int32} {L : Nat} {o : Int32} {op : PT → PT} (hk : ∀ p, kpQ p (op p)) (hg : ∀ p, okP L o p → goP L p (op p)) (hp : bcP L o op) : bcP L o (eithOf (lkV τ L) L op) := by
  have kP : ∀ p, kpQ p (prodS (lkV τ L) L op p) := fun p => kp_tr (hk p) (kp_loop (fun _ => isTimes_8) hk _ _)
  have kS : ∀ p, kpQ p (sumS (lkV τ L) L (prodS (lkV τ L) L op) p) := fun p => kp_tr (kP p) (kp_loop (fun _ => isPlus_8) kP _ _)
  have kC : ∀ p, kpQ p (compS (lkV τ L) (sumS (lkV τ L) L (prodS (lkV τ L) L op)) p) := fun p => by
    rw [compS_loop]
    exact kp_tr (kS p) (kp_loop (fun _ => isLike_8) kS _ _)
  have kB : ∀ p, kpQ p (bothS (lkV τ L) L (compS (lkV τ L) (sumS (lkV τ L) L (prodS (lkV τ L) L op))) p) := fun p => kp_tr (kC p) (kp_loop (fun _ => is38_8) kC _ _)
  have gP : ∀ p, okP L o p → goP L p (prodS (lkV τ L) L op p) := fun p h => goP_after (by decide) hg h _
  have gS : ∀ p, okP L o p → goP L p (sumS (lkV τ L) L (prodS (lkV τ L) L op) p) := fun p h => goP_after (by decide) gP h _
  have gC : ∀ p, okP L o p → goP L p (compS (lkV τ L) (sumS (lkV τ L) L (prodS (lkV τ L) L op)) p) := fun p h => goP_comp gS h
  have gB : ∀ p, okP L o p → goP L p (bothS (lkV τ L) L (compS (lkV τ L) (sumS (lkV τ L) L (prodS (lkV τ L) L op))) p) := fun p h => goP_after (by decide) gC h _
  have bP : bcP L o (prodS (lkV τ L) L op) := bc_after isB_times (by decide) hk hg hp (fun p => L - (op p).h)
  have bS : bcP L o (sumS (lkV τ L) L (prodS (lkV τ L) L op)) := bc_after isB_plus (by decide) kP gP bP (fun p => L - (prodS (lkV τ L) L op p).h)
  have bC : bcP L o (compS (lkV τ L) (sumS (lkV τ L) L (prodS (lkV τ L) L op))) := by
    intro p hok
    rw [compS_loop]
    exact bc_after isB_like (by decide) kS gS bS (fun _ => 1) p hok
  have bB : bcP L o (bothS (lkV τ L) L (compS (lkV τ L) (sumS (lkV τ L) L (prodS (lkV τ L) L op)))) := bc_after isB_38 (by decide) kC gC bC (fun p => L - (compS (lkV τ L) (sumS (lkV τ L) L (prodS (lkV τ L) L op)) p).h)
  exact bc_after isB_124 (by decide) kB gB bB (fun p => L - (bothS (lkV τ L) L (compS (lkV τ L) (sumS (lkV τ L) L (prodS (lkV τ L) L op))) p).h)
theorem bc_F {τ : Nat → Int32} {L : Nat} (hL : L ≤ 120) : ∀ (f : Nat), f ≤ 6 → bcP L (nI (6 - f)) (operF (lkV τ L) L f)
  | 0, _ => bc_oper hL (fun z => absurd rfl z) (fun z => absurd rfl z) (fun z => absurd rfl z) kp_rf
  | f + 1, hf => by
    have e : nI (6 - (f + 1)) + 1 = nI (6 - f) := by
      rw [show 6 - f = 6 - (f + 1) + 1 by omega]; exact nI_1 _
    exact bc_oper hL (fun _ => by rw [e]; exact bc_F hL f (by omega)) (fun _ => by rw [e]; exact bc_eith (kp_F f) (goP_F hL f (by omega)) (bc_F hL f (by omega))) (fun _ => by rw [e]; exact goP_eith (goP_F hL f (by omega))) (kp_F f)
theorem bc_eiT {τ : Nat → Int32} {L : Nat} (hL : L ≤ 120) : bcP L (nI (6 - 6)) (eiT (lkV τ L) L) := bc_eith (kp_F 6) (goP_F hL 6 (Nat.le_refl 6)) (bc_F hL 6 (Nat.le_refl 6))
/-! lines -/
def aN (s : LT) (l : Nat) : Nat := if l = 0 then 0 else (s.2.2.2 (61 + (l - 1))).toNatClampNeg
def tN (s : LT) (l : Nat) : Nat := (s.2.2.1 (61 + l)).toNatClampNeg
def eN (s : LT) (l : Nat) : Nat := (s.2.2.2 (61 + l)).toNatClampNeg
def lnR (s : LT) (l : Nat) : Cod × Cod := (cdR s.1.A s.1.W (aN s l) (tN s l), cdR s.1.A s.1.W (tN s l) (eN s l))
def lnsR (s : LT) : List (Cod × Cod) := (List.range s.2.1).map (lnR s)
def WLl (s : LT) (l : Nat) : Prop := s.2.2.1 (61 + l) = nI (tN s l) ∧ s.2.2.2 (61 + l) = nI (eN s l) ∧ aN s l ≤ tN s l ∧ tN s l < eN s l ∧ eN s l ≤ s.1.n ∧ (aN s l < tN s l → bcO (lnR s l).1) ∧ bcO (lnR s l).2
def WL (s : LT) : Prop := (∀ l, l < s.2.1 → WLl s l) ∧ aN s s.2.1 = s.1.n ∧ ∀ j, j < s.1.n → by8 (s.1.A (130 + j))
theorem bc_lt {A W : Nat → Int32} {a b : Nat} (h : bcO (cdR A W a b)) : a < b := by
  refine Nat.lt_of_not_le fun q => ?_
  exact bcO_ne h (cdR_nil q)
/-- a line of s2 whose steps and ends are those of s -/
theorem lnR_eq {s s2 : LT} (hk : kpQ s.1 s2.1) {l : Nat} (hT : s2.2.2.1 (61 + l) = s.2.2.1 (61 + l)) (hE : s2.2.2.2 (61 + l) = s.2.2.2 (61 + l)) (hE0 : 0 < l → s2.2.2.2 (61 + (l - 1)) = s.2.2.2 (61 + (l - 1))) (hle : WLl s l) : aN s2 l = aN s l ∧ tN s2 l = tN s l ∧ eN s2 l = eN s l ∧ lnR s2 l = lnR s l := by
  have h1 : aN s2 l = aN s l := by
    unfold aN
    by_cases z : l = 0
    · rw [if_pos z, if_pos z]
    · rw [if_neg z, if_neg z, hE0 (by omega)]
  have h2 : tN s2 l = tN s l := by unfold tN; rw [hT]
  have h3 : eN s2 l = eN s l := by unfold eN; rw [hE]
  refine ⟨h1, h2, h3, ?_⟩
  obtain ⟨-, -, q1, q2, q3, -, -⟩ := hle
  unfold lnR
  rw [h1, h2, h3, cdR_congr (A := s.1.A) (W := s.1.W) (fun j _ hj => hk.2.1 j (by omega)), cdR_congr (A := s.1.A) (W := s.1.W) (fun j _ hj => hk.2.1 j (by omega))]
theorem WL_old {s s2 : LT} (hk : kpQ s.1 s2.1) {l : Nat} (hT : s2.2.2.1 (61 + l) = s.2.2.1 (61 + l)) (hE : s2.2.2.2 (61 + l) = s.2.2.2 (61 + l)) (hE0 : 0 < l → s2.2.2.2 (61 + (l - 1)) = s.2.2.2 (61 + (l - 1))) (hle : WLl s l) : WLl s2 l := by
  obtain ⟨h1, h2, h3, h4⟩ := lnR_eq hk hT hE hE0 hle
  obtain ⟨q1, q2, q3, q4, q5, q6, q7⟩ := hle
  have hn := hk.1
  unfold WLl
  rw [h1, h2, h3, h4, hT, hE]
  exact ⟨q1, q2, q3, q4, Nat.le_trans q5 hn, q6, q7⟩
theorem by8_kp {p q : PT} (hk : kpQ p q) (h : ∀ j, j < p.n → by8 (p.A (130 + j))) : ∀ j, j < q.n → by8 (q.A (130 + j)) := fun j hj => by
  by_cases z : j < p.n
  · rw [(hk.2.1 j z).1]; exact h j z
  · exact hk.2.2 j (by omega) hj
/-- the line that is new: what it says of s2 = (q, m + 1, T2, E2) -/
theorem WL_new {s s2 : LT} {t : Nat} (hk : kpQ s.1 s2.1) (hw : WL s) (hm : s2.2.1 = s.2.1 + 1) (hT : s2.2.2.1 = va_up s.2.2.1 (61 + s.2.1) (nI t)) (hE : s2.2.2.2 = va_up s.2.2.2 (61 + s.2.1) (nI s2.1.n)) (ht : s.1.n ≤ t) (hn : s2.1.n < 2 ^ 31) (ht2 : t < s2.1.n) (hb1 : s.1.n < t → bcO (cdR s2.1.A s2.1.W s.1.n t)) (hb2 : bcO (cdR s2.1.A s2.1.W t s2.1.n)) : WL s2 ∧ lnsR s2 = lnsR s ++ [(cdR s2.1.A s2.1.W s.1.n t, cdR s2.1.A s2.1.W t s2.1.n)] := by
  have hTn : ∀ l, l < s.2.1 → s2.2.2.1 (61 + l) = s.2.2.1 (61 + l) := fun l hl => by rw [hT]; exact va_upN (by omega)
  have hEn : ∀ l, l < s.2.1 → s2.2.2.2 (61 + l) = s.2.2.2 (61 + l) := fun l hl => by rw [hE]; exact va_upN (by omega)
  have hTm : s2.2.2.1 (61 + s.2.1) = nI t := by rw [hT]; exact va_upS _ _ _
  have hEm : s2.2.2.2 (61 + s.2.1) = nI s2.1.n := by rw [hE]; exact va_upS _ _ _
  have ha : aN s2 s.2.1 = s.1.n := by
    have h0 := hw.2.1
    unfold aN at h0 ⊢
    by_cases z : s.2.1 = 0
    · rw [if_pos z] at h0 ⊢; exact h0
    · rw [if_neg z] at h0 ⊢; rw [hEn _ (by omega)]; exact h0
  have htN : tN s2 s.2.1 = t := by unfold tN; rw [hTm]; exact nI_clamp (by omega)
  have heN : eN s2 s.2.1 = s2.1.n := by unfold eN; rw [hEm]; exact nI_clamp hn
  have hl : lnR s2 s.2.1 = (cdR s2.1.A s2.1.W s.1.n t, cdR s2.1.A s2.1.W t s2.1.n) := by unfold lnR; rw [ha, htN, heN]
  refine ⟨⟨fun l hlt => ?_, ?_, by8_kp hk hw.2.2⟩, ?_⟩
  · rw [hm] at hlt
    by_cases z : l < s.2.1
    · exact WL_old hk (hTn l z) (hEn l z) (fun h => hEn _ (by omega)) (hw.1 l z)
    · have e : l = s.2.1 := by omega
      subst e
      unfold WLl
      rw [hl, ha, htN, heN]
      exact ⟨hTm, hEm, ht, ht2, Nat.le_refl _, hb1, hb2⟩
  · rw [hm]
    unfold aN
    rw [if_neg (Nat.succ_ne_zero _), Nat.add_sub_cancel, hEm]
    exact nI_clamp hn
  · unfold lnsR
    rw [hm, List.range_succ, List.map_append]
    congr 1
    · apply List.map_congr_left
      intro l hl2
      have z := List.mem_range.mp hl2
      exact (lnR_eq hk (hTn l z) (hEn l z) (fun h => hEn _ (by omega)) (hw.1 l z)).2.2.2
    · show [lnR s2 s.2.1] = _
      rw [hl]
/-- the end of the test of the line read at p -/
def lnTt (lk : Nat → Int32) (L : Nat) (p : PT) : Nat := if ¬ 0 ≤ (eiT lk L p).fl ∧ lk (eiT lk L p).h = 63 then (eiT lk L p).n else p.n
theorem WL_ln {τ : Nat → Int32} {L : Nat} (hL : L ≤ 120) {p : PT} {m : Nat} {T E : Nat → Int32} (hok : okP L (nI (6 - 6)) p) (hw : WL (p, m, T, E)) (hf : ¬ 0 ≤ (lnS (lkV τ L) L p m T E).1.fl) :
    WL (lnS (lkV τ L) L p m T E) ∧ lnsR (lnS (lkV τ L) L p m T E) = lnsR (p, m, T, E) ++ [(cdR (lnS (lkV τ L) L p m T E).1.A (lnS (lkV τ L) L p m T E).1.W p.n (lnTt (lkV τ L) L p), cdR (lnS (lkV τ L) L p m T E).1.A (lnS (lkV τ L) L p m T E).1.W (lnTt (lkV τ L) L p) (lnS (lkV τ L) L p m T E).1.n)] := by
  obtain ⟨g1, -⟩ := goP_eiT (τ := τ) hL p hok
  have k1 := kp_eiT (lk := lkV τ L) (L := L) p
  have b1 := bc_eiT (τ := τ) hL p hok
  by_cases c : ¬ 0 ≤ (eiT (lkV τ L) L p).fl ∧ lkV τ L (eiT (lkV τ L) L p).h = 63
  · have e : lnS (lkV τ L) L p m T E = (eiT (lkV τ L) L (eiT (lkV τ L) L p).ahead, m + 1, va_up T (61 + m) (nI (eiT (lkV τ L) L p).n), va_up E (61 + m) (nI (eiT (lkV τ L) L (eiT (lkV τ L) L p).ahead).n)) := by rw [lnS, if_pos c]
    have e2 : lnTt (lkV τ L) L p = (eiT (lkV τ L) L p).n := by rw [lnTt, if_pos c]
    have hok2 := okP_ahead ((okQ_go hok g1).2.2 c.1) (lkV_lt (by decide) c.2)
    obtain ⟨g2, -⟩ := goP_eiT (τ := τ) hL _ hok2
    have k2 := kp_eiT (lk := lkV τ L) (L := L) (eiT (lkV τ L) L p).ahead
    have b2 := bc_eiT (τ := τ) hL _ hok2
    have b1 := b1 c.1
    rw [e] at hf ⊢
    rw [e2]
    generalize eiT (lkV τ L) L p = q at *
    have hq : okQ L (nI (6 - 6)) (eiT (lkV τ L) L q.ahead) := okQ_go hok2 g2
    generalize eiT (lkV τ L) L q.ahead = r at *
    have b2 : bcO (cdR r.A r.W q.n r.n) := b2 hf
    have k2 : kpQ q r := k2
    have hrn := hq.2.1
    have hrh := hq.1
    refine WL_new (s := (p, m, T, E)) (s2 := (r, m + 1, va_up T (61 + m) (nI q.n), va_up E (61 + m) (nI r.n))) (t := q.n) (kp_tr k1 k2) hw rfl rfl rfl k1.1 (show r.n < 2 ^ 31 by omega) (bc_lt b2) (fun _ => ?_) b2
    show bcO (cdR r.A r.W p.n q.n)
    rw [cdR_congr (A := q.A) (W := q.W) (fun j _ hj => k2.2.1 j hj)]
    exact b1
  · have e : lnS (lkV τ L) L p m T E = (eiT (lkV τ L) L p, m + 1, va_up T (61 + m) (nI p.n), va_up E (61 + m) (nI (eiT (lkV τ L) L p).n)) := by rw [lnS, if_neg c]
    have e2 : lnTt (lkV τ L) L p = p.n := by rw [lnTt, if_neg c]
    rw [e] at hf ⊢
    rw [e2]
    have hq := okQ_go hok g1
    generalize eiT (lkV τ L) L p = q at *
    have b1 := b1 hf
    have hrn := hq.2.1
    have hrh := hq.1
    exact WL_new (s := (p, m, T, E)) (s2 := (q, m + 1, va_up T (61 + m) (nI p.n), va_up E (61 + m) (nI q.n))) (t := p.n) k1 hw rfl rfl rfl (Nat.le_refl _) (show q.n < 2 ^ 31 by omega) (bc_lt b1) (fun z => absurd z (Nat.lt_irrefl _)) b1
/-- the loop over the lines: no fault at the end, so the lines are well -/
theorem WL_rd {τ : Nat → Int32} {L : Nat} (hL : L ≤ 120) : ∀ (F : Nat) (s : LT), okS L s → (¬ 0 ≤ s.1.fl → WL s) → ¬ 0 ≤ (rdL (lkV τ L) L F s).1.fl → WL (rdL (lkV τ L) L F s)
  | 0, s, _, hw, hf => hw hf
  | F + 1, s, hs, hw, hf => by
    by_cases c : ¬ 0 ≤ s.1.fl ∧ lkV τ L s.1.h = 59
    · have e : rdL (lkV τ L) L (F + 1) s = rdL (lkV τ L) L F (lnS (lkV τ L) L s.1.ahead s.2.1 s.2.2.1 s.2.2.2) := by rw [rdL, if_pos c]
      rw [e] at hf ⊢
      have hlt := lkV_lt (by decide) c.2
      have hok := okP_ahead (hs.1.2.2 c.1) hlt
      have h2 := hs.2.2 c.1
      have hw2 : WL (s.1.ahead, s.2.1, s.2.2.1, s.2.2.2) := hw c.1
      refine WL_rd hL F _ (okS_ln hL hok _ _ (show 2 * s.2.1 ≤ s.1.h + 1 from h2) (by omega)) (fun z => (WL_ln hL hok hw2 z).1) hf
    · have e : rdL (lkV τ L) L (F + 1) s = s := by rw [rdL, if_neg c]
      rw [e] at hf ⊢
      exact hw hf
theorem okP_0 {L : Nat} (A W : Nat → Int32) : okP L (nI (6 - 6)) (p0S A W) := ⟨(by decide : ¬ (0 : Int32) ≤ -1), Nat.le_refl _, Nat.zero_le _, rfl⟩
theorem WL_0 (A W T E : Nat → Int32) : WL (p0S A W, 0, T, E) := ⟨fun l h => absurd h (Nat.not_lt_zero _), rfl, fun j h => absurd h (Nat.not_lt_zero _)⟩
theorem WL_T {g : MSt} {L : Nat} (hL : L ≤ 120) (hf : ¬ 0 ≤ (rdT g L).1.fl) : WL (rdT g L) := by
  unfold rdT at hf ⊢
  exact WL_rd hL _ _ (okS_ln hL (okP_0 _ _) _ _ (Nat.zero_le _) (by omega)) (fun z => (WL_ln hL (okP_0 _ _) (WL_0 _ _ _ _) z).1) hf
theorem okS_rd {τ : Nat → Int32} {L : Nat} (hL : L ≤ 120) : ∀ (F : Nat) (s : LT), okS L s → okS L (rdL (lkV τ L) L F s)
  | 0, s, h => h
  | F + 1, s, hs => by
    by_cases c : ¬ 0 ≤ s.1.fl ∧ lkV τ L s.1.h = 59
    · have e : rdL (lkV τ L) L (F + 1) s = rdL (lkV τ L) L F (lnS (lkV τ L) L s.1.ahead s.2.1 s.2.2.1 s.2.2.2) := by rw [rdL, if_pos c]
      rw [e]
      have hlt := lkV_lt (by decide) c.2
      have h2 := hs.2.2 c.1
      exact okS_rd hL F _ (okS_ln hL (okP_ahead (hs.1.2.2 c.1) hlt) _ _ (show 2 * s.2.1 ≤ s.1.h + 1 from h2) (by omega))
    · have e : rdL (lkV τ L) L (F + 1) s = s := by rw [rdL, if_neg c]
      rw [e]
      exact hs
theorem okS_T {g : MSt} {L : Nat} (hL : L ≤ 120) : okS L (rdT g L) := by
  unfold rdT
  exact okS_rd hL _ _ (okS_ln hL (okP_0 _ _) _ _ (Nat.zero_le _) (by omega))
