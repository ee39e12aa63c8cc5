/-! THE MODEL'S WORLD: one object and its arrays -/
set_option maxRecDepth 100000
/-- kinds of the fields: 0 int[], 1 byte[], 2 short[], 3 long[], 4 int, 5 boolean, 6 long -/
def mK : Nat → Nat := fun k => match k with
  | 22 => 1 | 28 => 1 | 31 => 2 | 32 => 2 | 65 => 3 | 66 => 3 | 35 => 5 | 50 => 5 | 45 => 6 | 46 => 6
  | 2 => 0 | 3 => 0 | 5 => 0 | 6 => 0 | 7 => 0 | 8 => 0 | 9 => 0 | 10 => 0 | 11 => 0 | 12 => 0 | 15 => 0 | 18 => 0 | 19 => 0 | 20 => 0 | 21 => 0 | 29 => 0 | 30 => 0 | 33 => 0 | 34 => 0 | 38 => 0 | 39 => 0 | 41 => 0 | 42 => 0 | 54 => 0 | 55 => 0 | 56 => 0 | 57 => 0 | 58 => 0 | 60 => 0 | 62 => 0 | 63 => 0 | 64 => 0
  | _ => 4
def mlen : Nat → Nat := fun k => match k with
  | 2 => 6 | 3 => 6 | 15 => 6 | 18 => 40 | 19 => 40 | 20 => 40 | 21 => 40 | 22 => 120 | 28 => 260 | 29 => 260 | 30 => 2 | 31 => 122 | 32 => 122 | 33 => 6 | 34 => 130 | 38 => 4 | 39 => 4 | 41 => 6 | 42 => 6 | 54 => 6 | 55 => 6 | 56 => 12 | 57 => 12 | 58 => 6 | 60 => 50 | 62 => 24 | 63 => 6 | 64 => 6 | 65 => 360 | 66 => 60
  | _ => 12
theorem mK_int : ∀ k, k < 67 → mK k = 4 → tyX5 k = .int := by decide +kernel
theorem mK_bool : ∀ k, k < 67 → mK k = 5 → tyX5 k = .boolean := by decide +kernel
theorem mK_long : ∀ k, k < 67 → mK k = 6 → tyX5 k = .long := by decide +kernel
theorem mK_fin : ∀ k, k < 67 → 4 ≤ mK k → (TX5 k).2.2.2 = false := by decide +kernel
theorem mK_own : ∀ k, k < 67 → (TX5 k).1 = RX5 := by decide +kernel
theorem mlen_lt : ∀ k, mlen k < 2 ^ 31 := by
  intro k
  unfold mlen
  split <;> decide
abbrev MSt : Type := (Nat → Int32) × (Nat → Nat → Int32) × (Nat → Int64) × (Nat → Nat → Int64)
def mval (ad : Nat → Nat) (g : MSt) (k : Nat) : Value := match mK k with
  | 4 => .int (g.1 k)
  | 5 => .int (g.1 k)
  | 6 => .long (g.2.2.1 k)
  | _ => .ref (ad k)
def mcel (D : DD) (g : MSt) (k : Nat) : va_E := match mK k with
  | 1 => .inl (D.2 1, mlen k, .inl (g.2.1 k))
  | 2 => .inl (D.2 2, mlen k, .inl (g.2.1 k))
  | 3 => .inl (D.2 3, mlen k, .inr (.inl (g.2.2.2 k)))
  | _ => .inl (D.2 0, mlen k, .inl (g.2.1 k))
def mw (D : DD) (o : Nat) (ad : Nat → Nat) (g : MSt) (hh : HH) : Prop := hh o = some (.inr (5, (List.range 67).map (mval ad g))) ∧ (∀ k, k < 67 → mK k < 4 → hh (ad k) = some (mcel D g k)) ∧ ∀ j k, j < 67 → k < 67 → mK j < 4 → mK k < 4 → ad j = ad k → j = k
def MA (o : Nat) (ad : Nat → Nat) : Nat → Prop := fun q => q = o ∨ ∃ k, k < 67 ∧ mK k < 4 ∧ q = ad k
def MH (D : DD) (o : Nat) (ad : Nat → Nat) (g : MSt) (H : Heap) : Prop := ∃ hh, HP D hh H ∧ mw D o ad g hh
abbrev msS (g : MSt) (k : Nat) (v : Int32) : MSt := (va_up g.1 k v, g.2)
abbrev msA (g : MSt) (k : Nat) (f : Nat → Int32) : MSt := (g.1, va_up g.2.1 k f, g.2.2)
abbrev msL (g : MSt) (k : Nat) (v : Int64) : MSt := (g.1, g.2.1, va_up g.2.2.1 k v, g.2.2.2)
abbrev msE (g : MSt) (k : Nat) (f : Nat → Int64) : MSt := (g.1, g.2.1, g.2.2.1, va_up g.2.2.2 k f)
theorem mcel_arr (D : DD) (g : MSt) (k : Nat) : ∃ x, mcel D g k = .inl x := by
  unfold mcel
  split <;> exact ⟨_, rfl⟩
theorem mw_ne {D : DD} {o : Nat} {ad : Nat → Nat} {g : MSt} {hh : HH} (h : mw D o ad g hh) {k : Nat} (hk : k < 67) (ht : mK k < 4) : ad k ≠ o := by
  intro e
  have h1 := h.2.1 k hk ht
  rw [e, h.1] at h1
  obtain ⟨x, hx⟩ := mcel_arr D g k
  rw [hx] at h1
  cases h1
theorem mw_S {D : DD} {o : Nat} {ad : Nat → Nat} {g : MSt} {hh : HH} (h : mw D o ad g hh) {k : Nat} (ht : mK k = 4 ∨ mK k = 5) (v : Int32) : mw D o ad (msS g k v) (va_up hh o (some (.inr (5, ((List.range 67).map (mval ad g)).set k (.int v))))) := by
  refine ⟨?_, fun j hj hjt => ?_, h.2.2⟩
  · rw [va_upS, rng_set]
    congr 4
    funext j
    by_cases hj : j = k
    · subst hj
      rw [va_upS]
      unfold mval
      rcases ht with h4 | h4 <;> simp [h4, va_up]
    · rw [va_upN hj]
      unfold mval
      rw [show (msS g k v).1 j = g.1 j from va_upN hj]
  · rw [va_upN (mw_ne h hj hjt)]
    exact h.2.1 j hj hjt
theorem mw_L {D : DD} {o : Nat} {ad : Nat → Nat} {g : MSt} {hh : HH} (h : mw D o ad g hh) {k : Nat} (ht : mK k = 6) (v : Int64) : mw D o ad (msL g k v) (va_up hh o (some (.inr (5, ((List.range 67).map (mval ad g)).set k (.long v))))) := by
  refine ⟨?_, fun j hj hjt => ?_, h.2.2⟩
  · rw [va_upS, rng_set]
    congr 4
    funext j
    by_cases hj : j = k
    · subst hj
      rw [va_upS]
      unfold mval
      simp [ht, va_up]
    · rw [va_upN hj]
      unfold mval
      rw [show (msL g k v).2.2.1 j = g.2.2.1 j from va_upN hj]
  · rw [va_upN (mw_ne h hj hjt)]
    exact h.2.1 j hj hjt
theorem mw_A {D : DD} {o : Nat} {ad : Nat → Nat} {g : MSt} {hh : HH} (h : mw D o ad g hh) {k : Nat} (hk : k < 67) (ht : mK k < 3) (f : Nat → Int32) : mw D o ad (msA g k f) (va_up hh (ad k) (some (mcel D (msA g k f) k))) := by
  have ht4 : mK k < 4 := by omega
  refine ⟨?_, fun j hj hjt => ?_, h.2.2⟩
  · rw [va_upN (Ne.symm (mw_ne h hk ht4))]
    exact h.1
  · by_cases hjk : j = k
    · subst hjk
      rw [va_upS]
    · rw [va_upN (fun e => hjk (h.2.2 j k hj hk hjt ht4 e)), h.2.1 j hj hjt]
      unfold mcel
      rw [show (msA g k f).2.1 j = g.2.1 j from va_upN hjk]
theorem mw_E {D : DD} {o : Nat} {ad : Nat → Nat} {g : MSt} {hh : HH} (h : mw D o ad g hh) {k : Nat} (hk : k < 67) (ht : mK k = 3) (f : Nat → Int64) : mw D o ad (msE g k f) (va_up hh (ad k) (some (mcel D (msE g k f) k))) := by
  have ht4 : mK k < 4 := by omega
  refine ⟨?_, fun j hj hjt => ?_, h.2.2⟩
  · rw [va_upN (Ne.symm (mw_ne h hk ht4))]
    exact h.1
  · by_cases hjk : j = k
    · subst hjk
      rw [va_upS]
    · rw [va_upN (fun e => hjk (h.2.2 j k hj hk hjt ht4 e)), h.2.1 j hj hjt]
      unfold mcel
      rw [show (msE g k f).2.2.2 j = g.2.2.2 j from va_upN hjk]
section LVE
variable {p : Program} {l : Launch} {e : Env} {R : Room} {s : State} {m : MethodId} {args : Array Value} {below : List Frame} {meth : Method} {c : Code} {H : Heap} {locs : List Loc} {cells slots : Nat} {Q : State → Prop} {pc : Nat} {ls : Array Slot} {rest : List Value}
theorem lv_topE {x y : Int32} (h : x = y) (k : W p l e R s m args below meth c H locs cells slots Q (F0 m pc ls (.int y :: rest))) : W p l e R s m args below meth c H locs cells slots Q (F0 m pc ls (.int x :: rest)) := h ▸ k
theorem lv_topEl {x y : Int64} (h : x = y) (k : W p l e R s m args below meth c H locs cells slots Q (F0 m pc ls (.long y :: rest))) : W p l e R s m args below meth c H locs cells slots Q (F0 m pc ls (.long x :: rest)) := h ▸ k
theorem lv_stk {st st' : List Value} (h : st = st') (k : W p l e R s m args below meth c H locs cells slots Q (F0 m pc ls st')) : W p l e R s m args below meth c H locs cells slots Q (F0 m pc ls st) := h ▸ k
end LVE
def bI (b : Bool) : Int32 := if b then 1 else 0
theorem bI_t : bI true = 1 := rfl
theorem bI_f : bI false = 0 := rfl
theorem bI_nar (b : Bool) : narrow .boolean (.int (bI b)) = .int (bI b) := by cases b <;> rfl
theorem bI_e0 {b : Bool} : bI b = 0 ↔ b = false := by cases b <;> simp [bI]
theorem bI_e1 {b : Bool} : bI b = 1 ↔ b = true := by cases b <;> simp [bI]
theorem iinc1 (k : Nat) : nI k + Int32.ofInt 1 = nI (k + 1) := nI_1 k
theorem nadd {x y : Int32} {a b : Nat} (h1 : x = nI a) (h2 : y = nI b) : x + y = nI (a + b) := by rw [h1, h2]; exact nI_add a b
theorem nmul {x y : Int32} {a b : Nat} (h1 : x = nI a) (h2 : y = nI b) : x * y = nI (a * b) := by rw [h1, h2]; exact pk_mul a b
theorem plX5 : plainName RX5 = true := by decide +kernel
theorem va_up_comm {α : Type} (f : Nat → α) {i j : Nat} (h : i ≠ j) (a b : α) : va_up (va_up f i a) j b = va_up (va_up f j b) i a := by
  funext k
  by_cases h1 : k = i
  · subst h1
    rw [va_upN h, va_upS, va_upS]
  · by_cases h2 : k = j
    · subst h2
      rw [va_upS, va_upN h1, va_upS]
    · rw [va_upN h2, va_upN h1, va_upN h1, va_upN h2]
section MR
variable {p : Program} {l : Launch} {e : Env} {R : Room} {s : State} {m : MethodId} {args : Array Value} {below : List Frame} {meth : Method} {c : Code} {H H0 : Heap} {locs : List Loc} {cells slots : Nat} {Q : State → Prop}
variable {cc : ByteArray} {pc L : Nat} {ls : Array Slot} {rest st : List Value} {A : Nat → Prop} {D : DD} {o : Nat} {ad : Nat → Nat} {g : MSt} {index : Nat}
abbrev CM (p : Program) (m : MethodId) (c : Code) (cc : ByteArray) (L : Nat) (s : State) (args : Array Value) (D : DD) : Prop := Cx p m c cc L s args RX5 (EM D)
theorem CL5 : CL[5]? = some (RX5, TX5, 67) := rfl
theorem m_recv (C : CM p m c cc L s args D) (hM : MH D o ad g H) : ∃ cell : Cell, H[o]? = some cell ∧ cell.vm.isStatics = false ∧ s.vm.findClass RX5 = some cell.cls := by
  obtain ⟨hh, hP, hw⟩ := hM
  exact hp_recv C.2.2.2.2.2.1 hP CL5 hw.1
theorem m_get (C : CM p m c cc L s args D) (hM : MH D o ad g H) (k : Nat) (hk : k < 67) (hq : Cond.fieldLink RX5 index (TX5 k).1 (TX5 k).2.1 (TX5 k).2.2.1 ∈ lw_all) {v : Value} (hv : mval ad g k = v) (hdg : decode cc pc = .ok (.getfield index, 3))
    (kk : W p l e R s m args below meth c H locs cells slots Q (F0 m (pc + 3) ls (v :: rest))) : W p l e R s m args below meth c H locs cells slots Q (F0 m pc ls (.ref o :: rest)) := by
  obtain ⟨hh, hP, hw⟩ := hM
  obtain ⟨hx, hb, hml, hown, hts, hE, hmv⟩ := C
  exact hp_get hx hb hts hown hE hP hw.1 CL5 in_X5 k hk hq (by rw [rng_get 67 _ k hk, hv]) hdg kk
theorem m_pi (C : CM p m c cc L s args D) (hM : MH D o ad g H) (hS : va_S (MA o ad) H0 H locs) (k : Nat) (hk : k < 67) (ht : mK k = 4) (hq : Cond.fieldLink RX5 index (TX5 k).1 (TX5 k).2.1 (TX5 k).2.2.1 ∈ lw_all) {v : Int32} (hdg : decode cc pc = .ok (.putfield index, 3))
    (kk : ∀ (H1 : Heap) (locs1 : List Loc), MH D o ad (msS g k v) H1 → va_S (MA o ad) H0 H1 locs1 → W p l e R s m args below meth c H1 locs1 cells slots Q (F0 m (pc + 3) ls rest)) : W p l e R s m args below meth c H locs cells slots Q (F0 m pc ls (.int v :: .ref o :: rest)) := by
  obtain ⟨hh, hP, hw⟩ := hM
  obtain ⟨hx, hb, hml, hown, hts, hE, hmv⟩ := C
  exact hp_putG hx hb hts hown hE hP hS (Or.inl rfl) hw.1 CL5 in_X5 tyX5 tyX5_ok nmX5 k hk hq (mK_fin k hk (by omega)) (by rw [mK_int k hk ht]; rfl) (by rw [mK_int k hk ht]; rfl) (by rw [rng_len]; exact hk) hdg fun H1 locs1 hP1 hS1 _ => kk H1 locs1 ⟨_, hP1, mw_S hw (Or.inl ht) v⟩ hS1
theorem m_pz (C : CM p m c cc L s args D) (hM : MH D o ad g H) (hS : va_S (MA o ad) H0 H locs) (k : Nat) (hk : k < 67) (ht : mK k = 5) (hq : Cond.fieldLink RX5 index (TX5 k).1 (TX5 k).2.1 (TX5 k).2.2.1 ∈ lw_all) {v : Int32} (hn : narrow .boolean (.int v) = .int v) (hf : fits .boolean (.int v) = true) (hdg : decode cc pc = .ok (.putfield index, 3))
    (kk : ∀ (H1 : Heap) (locs1 : List Loc), MH D o ad (msS g k v) H1 → va_S (MA o ad) H0 H1 locs1 → W p l e R s m args below meth c H1 locs1 cells slots Q (F0 m (pc + 3) ls rest)) : W p l e R s m args below meth c H locs cells slots Q (F0 m pc ls (.int v :: .ref o :: rest)) := by
  obtain ⟨hh, hP, hw⟩ := hM
  obtain ⟨hx, hb, hml, hown, hts, hE, hmv⟩ := C
  exact hp_putG hx hb hts hown hE hP hS (Or.inl rfl) hw.1 CL5 in_X5 tyX5 tyX5_ok nmX5 k hk hq (mK_fin k hk (by omega)) (by rw [mK_bool k hk ht]; exact hn) (by rw [mK_bool k hk ht]; exact hf) (by rw [rng_len]; exact hk) hdg fun H1 locs1 hP1 hS1 _ => kk H1 locs1 ⟨_, hP1, mw_S hw (Or.inr ht) v⟩ hS1
theorem m_pl (C : CM p m c cc L s args D) (hM : MH D o ad g H) (hS : va_S (MA o ad) H0 H locs) (k : Nat) (hk : k < 67) (ht : mK k = 6) (hq : Cond.fieldLink RX5 index (TX5 k).1 (TX5 k).2.1 (TX5 k).2.2.1 ∈ lw_all) {v : Int64} (hdg : decode cc pc = .ok (.putfield index, 3))
    (kk : ∀ (H1 : Heap) (locs1 : List Loc), MH D o ad (msL g k v) H1 → va_S (MA o ad) H0 H1 locs1 → W p l e R s m args below meth c H1 locs1 cells slots Q (F0 m (pc + 3) ls rest)) : W p l e R s m args below meth c H locs cells slots Q (F0 m pc ls (.long v :: .ref o :: rest)) := by
  obtain ⟨hh, hP, hw⟩ := hM
  obtain ⟨hx, hb, hml, hown, hts, hE, hmv⟩ := C
  exact hp_putG hx hb hts hown hE hP hS (Or.inl rfl) hw.1 CL5 in_X5 tyX5 tyX5_ok nmX5 k hk hq (mK_fin k hk (by omega)) (by rw [mK_long k hk ht]; rfl) (by rw [mK_long k hk ht]; rfl) (by rw [rng_len]; exact hk) hdg fun H1 locs1 hP1 hS1 _ => kk H1 locs1 ⟨_, hP1, mw_L hw ht v⟩ hS1
theorem nI_cl {j k : Nat} (h : j < mlen k) : (nI j).toNatClampNeg = j := nI_clamp (Nat.lt_trans h (mlen_lt k))
theorem nI_vin {j k : Nat} (h : j < mlen k) : vp_in (nI j) (mlen k) := vp_in_nI h (mlen_lt k)
theorem m_ild (C : CM p m c cc L s args D) (hM : MH D o ad g H) (k : Nat) (hk : k < 67) (ht : mK k = 0) (j : Nat) (hj : j < mlen k) {i : Int32} (hi : i = nI j) {x : Int32} (hv : g.2.1 k j = x) (hdg : decode cc pc = .ok (.iaload, 1))
    (kk : W p l e R s m args below meth c H locs cells slots Q (F0 m (pc + 1) ls (.int x :: rest))) : W p l e R s m args below meth c H locs cells slots Q (F0 m pc ls (.int i :: .ref (ad k) :: rest)) := by
  subst hi
  subst hv
  obtain ⟨hh, hP, hw⟩ := hM
  obtain ⟨hx, hb, hml, hown, hts, hE, hmv⟩ := C
  refine hp_ild (n := mlen k) (f := g.2.1 k) hx hb hE hP (by rw [hw.2.1 k hk (by omega)]; simp [mcel, ht]) (nI_vin hj) hdg ?_
  rw [nI_cl hj]
  exact kk
theorem m_bld (C : CM p m c cc L s args D) (hM : MH D o ad g H) (k : Nat) (hk : k < 67) (ht : mK k = 1) (j : Nat) (hj : j < mlen k) {i : Int32} (hi : i = nI j) {x : Int32} (hv : g.2.1 k j = x) (hdg : decode cc pc = .ok (.baload, 1))
    (kk : W p l e R s m args below meth c H locs cells slots Q (F0 m (pc + 1) ls (.int x :: rest))) : W p l e R s m args below meth c H locs cells slots Q (F0 m pc ls (.int i :: .ref (ad k) :: rest)) := by
  subst hi
  subst hv
  obtain ⟨hh, hP, hw⟩ := hM
  obtain ⟨hx, hb, hml, hown, hts, hE, hmv⟩ := C
  refine hp_bld (n := mlen k) (f := g.2.1 k) hx hb hE hP (by rw [hw.2.1 k hk (by omega)]; simp [mcel, ht]) (nI_vin hj) hdg ?_
  rw [nI_cl hj]
  exact kk
theorem m_sld (C : CM p m c cc L s args D) (hM : MH D o ad g H) (k : Nat) (hk : k < 67) (ht : mK k = 2) (j : Nat) (hj : j < mlen k) {i : Int32} (hi : i = nI j) {x : Int32} (hv : g.2.1 k j = x) (hdg : decode cc pc = .ok (.saload, 1))
    (kk : W p l e R s m args below meth c H locs cells slots Q (F0 m (pc + 1) ls (.int x :: rest))) : W p l e R s m args below meth c H locs cells slots Q (F0 m pc ls (.int i :: .ref (ad k) :: rest)) := by
  subst hi
  subst hv
  obtain ⟨hh, hP, hw⟩ := hM
  obtain ⟨hx, hb, hml, hown, hts, hE, hmv⟩ := C
  refine hp_sld (n := mlen k) (f := g.2.1 k) hx hb hE hP (by rw [hw.2.1 k hk (by omega)]; simp [mcel, ht]) (nI_vin hj) hdg ?_
  rw [nI_cl hj]
  exact kk
theorem m_lld (C : CM p m c cc L s args D) (hM : MH D o ad g H) (k : Nat) (hk : k < 67) (ht : mK k = 3) (j : Nat) (hj : j < mlen k) {i : Int32} (hi : i = nI j) {x : Int64} (hv : g.2.2.2 k j = x) (hdg : decode cc pc = .ok (.laload, 1))
    (kk : W p l e R s m args below meth c H locs cells slots Q (F0 m (pc + 1) ls (.long x :: rest))) : W p l e R s m args below meth c H locs cells slots Q (F0 m pc ls (.int i :: .ref (ad k) :: rest)) := by
  subst hi
  subst hv
  obtain ⟨hh, hP, hw⟩ := hM
  obtain ⟨hx, hb, hml, hown, hts, hE, hmv⟩ := C
  refine hp_lld (n := mlen k) (f := g.2.2.2 k) hx hb hE hP (by rw [hw.2.1 k hk (by omega)]; simp [mcel, ht]) (nI_vin hj) hdg ?_
  rw [nI_cl hj]
  exact kk
theorem m_ist (C : CM p m c cc L s args D) (hM : MH D o ad g H) (hS : va_S (MA o ad) H0 H locs) (k : Nat) (hk : k < 67) (ht : mK k = 0) (j : Nat) (hj : j < mlen k) {i v : Int32} (hi : i = nI j) (hdg : decode cc pc = .ok (.iastore, 1))
    (kk : ∀ (H1 : Heap) (locs1 : List Loc), MH D o ad (msA g k (va_up (g.2.1 k) j v)) H1 → va_S (MA o ad) H0 H1 locs1 → W p l e R s m args below meth c H1 locs1 cells slots Q (F0 m (pc + 1) ls rest)) : W p l e R s m args below meth c H locs cells slots Q (F0 m pc ls (.int v :: .int i :: .ref (ad k) :: rest)) := by
  subst hi
  obtain ⟨hh, hP, hw⟩ := hM
  obtain ⟨hx, hb, hml, hown, hts, hE, hmv⟩ := C
  refine hp_ist (n := mlen k) (f := g.2.1 k) hx hb hE hP hS (Or.inr ⟨k, hk, by omega, rfl⟩) (by rw [hw.2.1 k hk (by omega)]; simp [mcel, ht]) (nI_vin hj) hdg fun H1 locs1 hP1 hS1 _ => kk H1 locs1 ⟨_, hP1, ?_⟩ hS1
  have h := mw_A hw hk (show mK k < 3 by omega) (va_up (g.2.1 k) j v)
  simp only [mcel, ht, va_upS] at h
  rw [nI_cl hj]
  exact h
theorem m_bst (C : CM p m c cc L s args D) (hM : MH D o ad g H) (hS : va_S (MA o ad) H0 H locs) (k : Nat) (hk : k < 67) (ht : mK k = 1) (j : Nat) (hj : j < mlen k) {i v : Int32} (hi : i = nI j) (hdg : decode cc pc = .ok (.bastore, 1))
    (kk : ∀ (H1 : Heap) (locs1 : List Loc), MH D o ad (msA g k (va_up (g.2.1 k) j (vp_nar .byte v))) H1 → va_S (MA o ad) H0 H1 locs1 → W p l e R s m args below meth c H1 locs1 cells slots Q (F0 m (pc + 1) ls rest)) : W p l e R s m args below meth c H locs cells slots Q (F0 m pc ls (.int v :: .int i :: .ref (ad k) :: rest)) := by
  subst hi
  obtain ⟨hh, hP, hw⟩ := hM
  obtain ⟨hx, hb, hml, hown, hts, hE, hmv⟩ := C
  refine hp_bst (n := mlen k) (f := g.2.1 k) hx hb hE hP hS (Or.inr ⟨k, hk, by omega, rfl⟩) (by rw [hw.2.1 k hk (by omega)]; simp [mcel, ht]) (nI_vin hj) hdg fun H1 locs1 hP1 hS1 _ => kk H1 locs1 ⟨_, hP1, ?_⟩ hS1
  have h := mw_A hw hk (show mK k < 3 by omega) (va_up (g.2.1 k) j (vp_nar .byte v))
  simp only [mcel, ht, va_upS] at h
  rw [nI_cl hj]
  exact h
theorem m_sst (C : CM p m c cc L s args D) (hM : MH D o ad g H) (hS : va_S (MA o ad) H0 H locs) (k : Nat) (hk : k < 67) (ht : mK k = 2) (j : Nat) (hj : j < mlen k) {i v : Int32} (hi : i = nI j) (hdg : decode cc pc = .ok (.sastore, 1))
    (kk : ∀ (H1 : Heap) (locs1 : List Loc), MH D o ad (msA g k (va_up (g.2.1 k) j (vp_nar .short v))) H1 → va_S (MA o ad) H0 H1 locs1 → W p l e R s m args below meth c H1 locs1 cells slots Q (F0 m (pc + 1) ls rest)) : W p l e R s m args below meth c H locs cells slots Q (F0 m pc ls (.int v :: .int i :: .ref (ad k) :: rest)) := by
  subst hi
  obtain ⟨hh, hP, hw⟩ := hM
  obtain ⟨hx, hb, hml, hown, hts, hE, hmv⟩ := C
  refine hp_sst (n := mlen k) (f := g.2.1 k) hx hb hE hP hS (Or.inr ⟨k, hk, by omega, rfl⟩) (by rw [hw.2.1 k hk (by omega)]; simp [mcel, ht]) (nI_vin hj) hdg fun H1 locs1 hP1 hS1 _ => kk H1 locs1 ⟨_, hP1, ?_⟩ hS1
  have h := mw_A hw hk (show mK k < 3 by omega) (va_up (g.2.1 k) j (vp_nar .short v))
  simp only [mcel, ht, va_upS] at h
  rw [nI_cl hj]
  exact h
theorem m_lst (C : CM p m c cc L s args D) (hM : MH D o ad g H) (hS : va_S (MA o ad) H0 H locs) (k : Nat) (hk : k < 67) (ht : mK k = 3) (j : Nat) (hj : j < mlen k) {i : Int32} {v : Int64} (hi : i = nI j) (hdg : decode cc pc = .ok (.lastore, 1))
    (kk : ∀ (H1 : Heap) (locs1 : List Loc), MH D o ad (msE g k (va_up (g.2.2.2 k) j v)) H1 → va_S (MA o ad) H0 H1 locs1 → W p l e R s m args below meth c H1 locs1 cells slots Q (F0 m (pc + 1) ls rest)) : W p l e R s m args below meth c H locs cells slots Q (F0 m pc ls (.long v :: .int i :: .ref (ad k) :: rest)) := by
  subst hi
  obtain ⟨hh, hP, hw⟩ := hM
  obtain ⟨hx, hb, hml, hown, hts, hE, hmv⟩ := C
  refine hp_lst (n := mlen k) (f := g.2.2.2 k) hx hb hE hP hS (Or.inr ⟨k, hk, by omega, rfl⟩) (by rw [hw.2.1 k hk (by omega)]; simp [mcel, ht]) (nI_vin hj) hdg fun H1 locs1 hP1 hS1 _ => kk H1 locs1 ⟨_, hP1, ?_⟩ hS1
  have h := mw_E hw hk ht (va_up (g.2.2.2 k) j v)
  simp only [mcel, ht, va_upS] at h
  rw [nI_cl hj]
  exact h
end MR
/-- the arrays facts and pile are scratch: what lies in them is not said -/
abbrev mscr (g : MSt) (fa pi : Nat → Int32) : MSt := (g.1, va_up (va_up g.2.1 33 fa) 34 pi, g.2.2)
def MS (D : DD) (o : Nat) (ad : Nat → Nat) (g : MSt) (H : Heap) : Prop := ∃ fa pi, MH D o ad (mscr g fa pi) H
theorem mscr_at (g : MSt) (fa pi : Nat → Int32) {k : Nat} (h : k ≠ 33 ∧ k ≠ 34) : (mscr g fa pi).2.1 k = g.2.1 k := (va_upN h.2).trans (va_upN h.1)
theorem mscr_A (g : MSt) (fa pi : Nat → Int32) {k : Nat} (h : k ≠ 33 ∧ k ≠ 34) (f : Nat → Int32) : msA (mscr g fa pi) k f = mscr (msA g k f) fa pi := by
  show (g.1, va_up (va_up (va_up g.2.1 33 fa) 34 pi) k f, g.2.2) = (g.1, va_up (va_up (va_up g.2.1 k f) 33 fa) 34 pi, g.2.2)
  rw [va_up_comm _ (Ne.symm h.2), va_up_comm _ (Ne.symm h.1)]
theorem MS.of {D : DD} {o : Nat} {ad : Nat → Nat} {g : MSt} {H : Heap} (h : MH D o ad g H) : MS D o ad g H := ⟨g.2.1 33, g.2.1 34, by
  have e : mscr g (g.2.1 33) (g.2.1 34) = g := by
    show (g.1, va_up (va_up g.2.1 33 (g.2.1 33)) 34 (g.2.1 34), g.2.2) = g
    have e1 : va_up (va_up g.2.1 33 (g.2.1 33)) 34 (g.2.1 34) = g.2.1 := by
      funext k
      by_cases h2 : k = 34
      · subst h2; rw [va_upS]
      · rw [va_upN h2]
        by_cases h1 : k = 33
        · subst h1; rw [va_upS]
        · rw [va_upN h1]
    rw [e1]
  rw [e]; exact h⟩
section SR
variable {p : Program} {l : Launch} {e : Env} {R : Room} {s : State} {m : MethodId} {args : Array Value} {below : List Frame} {meth : Method} {c : Code} {H H0 : Heap} {locs : List Loc} {cells slots : Nat} {Q : State → Prop}
variable {cc : ByteArray} {pc L : Nat} {ls : Array Slot} {rest st : List Value} {A : Nat → Prop} {D : DD} {o : Nat} {ad : Nat → Nat} {g : MSt} {index : Nat}
theorem s_recv (C : CM p m c cc L s args D) (hM : MS D o ad g H) : ∃ cell : Cell, H[o]? = some cell ∧ cell.vm.isStatics = false ∧ s.vm.findClass RX5 = some cell.cls := by
  obtain ⟨fa, pi, hM⟩ := hM
  exact m_recv C hM
theorem s_get (C : CM p m c cc L s args D) (hM : MS D o ad g H) (k : Nat) (hk : k < 67) (hq : Cond.fieldLink RX5 index (TX5 k).1 (TX5 k).2.1 (TX5 k).2.2.1 ∈ lw_all) {v : Value} (hv : mval ad g k = v) (hdg : decode cc pc = .ok (.getfield index, 3))
    (kk : W p l e R s m args below meth c H locs cells slots Q (F0 m (pc + 3) ls (v :: rest))) : W p l e R s m args below meth c H locs cells slots Q (F0 m pc ls (.ref o :: rest)) := by
  obtain ⟨fa, pi, hM⟩ := hM
  exact m_get C hM k hk hq hv hdg kk
theorem s_pi (C : CM p m c cc L s args D) (hM : MS D o ad g H) (hS : va_S (MA o ad) H0 H locs) (k : Nat) (hk : k < 67) (ht : mK k = 4) (hq : Cond.fieldLink RX5 index (TX5 k).1 (TX5 k).2.1 (TX5 k).2.2.1 ∈ lw_all) {v : Int32} (hdg : decode cc pc = .ok (.putfield index, 3))
    (kk : ∀ (H1 : Heap) (locs1 : List Loc), MS D o ad (msS g k v) H1 → va_S (MA o ad) H0 H1 locs1 → W p l e R s m args below meth c H1 locs1 cells slots Q (F0 m (pc + 3) ls rest)) : W p l e R s m args below meth c H locs cells slots Q (F0 m pc ls (.int v :: .ref o :: rest)) := by
  obtain ⟨fa, pi, hM⟩ := hM
  exact m_pi C hM hS k hk ht hq hdg (fun H1 locs1 hM1 hS1 => kk H1 locs1 ⟨fa, pi, hM1⟩ hS1)
theorem s_pz (C : CM p m c cc L s args D) (hM : MS D o ad g H) (hS : va_S (MA o ad) H0 H locs) (k : Nat) (hk : k < 67) (ht : mK k = 5) (hq : Cond.fieldLink RX5 index (TX5 k).1 (TX5 k).2.1 (TX5 k).2.2.1 ∈ lw_all) {v : Int32} (hn : narrow .boolean (.int v) = .int v) (hf : fits .boolean (.int v) = true) (hdg : decode cc pc = .ok (.putfield index, 3))
    (kk : ∀ (H1 : Heap) (locs1 : List Loc), MS D o ad (msS g k v) H1 → va_S (MA o ad) H0 H1 locs1 → W p l e R s m args below meth c H1 locs1 cells slots Q (F0 m (pc + 3) ls rest)) : W p l e R s m args below meth c H locs cells slots Q (F0 m pc ls (.int v :: .ref o :: rest)) := by
  obtain ⟨fa, pi, hM⟩ := hM
  exact m_pz C hM hS k hk ht hq hn hf hdg (fun H1 locs1 hM1 hS1 => kk H1 locs1 ⟨fa, pi, hM1⟩ hS1)
theorem s_pl (C : CM p m c cc L s args D) (hM : MS D o ad g H) (hS : va_S (MA o ad) H0 H locs) (k : Nat) (hk : k < 67) (ht : mK k = 6) (hq : Cond.fieldLink RX5 index (TX5 k).1 (TX5 k).2.1 (TX5 k).2.2.1 ∈ lw_all) {v : Int64} (hdg : decode cc pc = .ok (.putfield index, 3))
    (kk : ∀ (H1 : Heap) (locs1 : List Loc), MS D o ad (msL g k v) H1 → va_S (MA o ad) H0 H1 locs1 → W p l e R s m args below meth c H1 locs1 cells slots Q (F0 m (pc + 3) ls rest)) : W p l e R s m args below meth c H locs cells slots Q (F0 m pc ls (.long v :: .ref o :: rest)) := by
  obtain ⟨fa, pi, hM⟩ := hM
  exact m_pl C hM hS k hk ht hq hdg (fun H1 locs1 hM1 hS1 => kk H1 locs1 ⟨fa, pi, hM1⟩ hS1)
theorem s_ild (C : CM p m c cc L s args D) (hM : MS D o ad g H) (k : Nat) (hk : k < 67) (ht : mK k = 0 ∧ k ≠ 33 ∧ k ≠ 34) (j : Nat) (hj : j < mlen k) {i : Int32} (hi : i = nI j) {x : Int32} (hv : g.2.1 k j = x) (hdg : decode cc pc = .ok (.iaload, 1))
    (kk : W p l e R s m args below meth c H locs cells slots Q (F0 m (pc + 1) ls (.int x :: rest))) : W p l e R s m args below meth c H locs cells slots Q (F0 m pc ls (.int i :: .ref (ad k) :: rest)) := by
  obtain ⟨fa, pi, hM⟩ := hM
  exact m_ild C hM k hk ht.1 j hj hi (by rw [mscr_at g fa pi ht.2]; exact hv) hdg kk
theorem s_bld (C : CM p m c cc L s args D) (hM : MS D o ad g H) (k : Nat) (hk : k < 67) (ht : mK k = 1 ∧ k ≠ 33 ∧ k ≠ 34) (j : Nat) (hj : j < mlen k) {i : Int32} (hi : i = nI j) {x : Int32} (hv : g.2.1 k j = x) (hdg : decode cc pc = .ok (.baload, 1))
    (kk : W p l e R s m args below meth c H locs cells slots Q (F0 m (pc + 1) ls (.int x :: rest))) : W p l e R s m args below meth c H locs cells slots Q (F0 m pc ls (.int i :: .ref (ad k) :: rest)) := by
  obtain ⟨fa, pi, hM⟩ := hM
  exact m_bld C hM k hk ht.1 j hj hi (by rw [mscr_at g fa pi ht.2]; exact hv) hdg kk
theorem s_sld (C : CM p m c cc L s args D) (hM : MS D o ad g H) (k : Nat) (hk : k < 67) (ht : mK k = 2 ∧ k ≠ 33 ∧ k ≠ 34) (j : Nat) (hj : j < mlen k) {i : Int32} (hi : i = nI j) {x : Int32} (hv : g.2.1 k j = x) (hdg : decode cc pc = .ok (.saload, 1))
    (kk : W p l e R s m args below meth c H locs cells slots Q (F0 m (pc + 1) ls (.int x :: rest))) : W p l e R s m args below meth c H locs cells slots Q (F0 m pc ls (.int i :: .ref (ad k) :: rest)) := by
  obtain ⟨fa, pi, hM⟩ := hM
  exact m_sld C hM k hk ht.1 j hj hi (by rw [mscr_at g fa pi ht.2]; exact hv) hdg kk
theorem s_lld (C : CM p m c cc L s args D) (hM : MS D o ad g H) (k : Nat) (hk : k < 67) (ht : mK k = 3) (j : Nat) (hj : j < mlen k) {i : Int32} (hi : i = nI j) {x : Int64} (hv : g.2.2.2 k j = x) (hdg : decode cc pc = .ok (.laload, 1))
    (kk : W p l e R s m args below meth c H locs cells slots Q (F0 m (pc + 1) ls (.long x :: rest))) : W p l e R s m args below meth c H locs cells slots Q (F0 m pc ls (.int i :: .ref (ad k) :: rest)) := by
  obtain ⟨fa, pi, hM⟩ := hM
  exact m_lld C hM k hk ht j hj hi hv hdg kk
theorem s_ist (C : CM p m c cc L s args D) (hM : MS D o ad g H) (hS : va_S (MA o ad) H0 H locs) (k : Nat) (hk : k < 67) (ht : mK k = 0 ∧ k ≠ 33 ∧ k ≠ 34) (j : Nat) (hj : j < mlen k) {i v : Int32} (hi : i = nI j) (hdg : decode cc pc = .ok (.iastore, 1))
    (kk : ∀ (H1 : Heap) (locs1 : List Loc), MS D o ad (msA g k (va_up (g.2.1 k) j v)) H1 → va_S (MA o ad) H0 H1 locs1 → W p l e R s m args below meth c H1 locs1 cells slots Q (F0 m (pc + 1) ls rest)) : W p l e R s m args below meth c H locs cells slots Q (F0 m pc ls (.int v :: .int i :: .ref (ad k) :: rest)) := by
  obtain ⟨fa, pi, hM⟩ := hM
  refine m_ist C hM hS k hk ht.1 j hj hi hdg (fun H1 locs1 hM1 hS1 => kk H1 locs1 ⟨fa, pi, ?_⟩ hS1)
  rw [mscr_at g fa pi ht.2, mscr_A g fa pi ht.2] at hM1
  exact hM1
theorem s_bst (C : CM p m c cc L s args D) (hM : MS D o ad g H) (hS : va_S (MA o ad) H0 H locs) (k : Nat) (hk : k < 67) (ht : mK k = 1 ∧ k ≠ 33 ∧ k ≠ 34) (j : Nat) (hj : j < mlen k) {i v : Int32} (hi : i = nI j) (hdg : decode cc pc = .ok (.bastore, 1))
    (kk : ∀ (H1 : Heap) (locs1 : List Loc), MS D o ad (msA g k (va_up (g.2.1 k) j (vp_nar .byte v))) H1 → va_S (MA o ad) H0 H1 locs1 → W p l e R s m args below meth c H1 locs1 cells slots Q (F0 m (pc + 1) ls rest)) : W p l e R s m args below meth c H locs cells slots Q (F0 m pc ls (.int v :: .int i :: .ref (ad k) :: rest)) := by
  obtain ⟨fa, pi, hM⟩ := hM
  refine m_bst C hM hS k hk ht.1 j hj hi hdg (fun H1 locs1 hM1 hS1 => kk H1 locs1 ⟨fa, pi, ?_⟩ hS1)
  rw [mscr_at g fa pi ht.2, mscr_A g fa pi ht.2] at hM1
  exact hM1
theorem s_sst (C : CM p m c cc L s args D) (hM : MS D o ad g H) (hS : va_S (MA o ad) H0 H locs) (k : Nat) (hk : k < 67) (ht : mK k = 2 ∧ k ≠ 33 ∧ k ≠ 34) (j : Nat) (hj : j < mlen k) {i v : Int32} (hi : i = nI j) (hdg : decode cc pc = .ok (.sastore, 1))
    (kk : ∀ (H1 : Heap) (locs1 : List Loc), MS D o ad (msA g k (va_up (g.2.1 k) j (vp_nar .short v))) H1 → va_S (MA o ad) H0 H1 locs1 → W p l e R s m args below meth c H1 locs1 cells slots Q (F0 m (pc + 1) ls rest)) : W p l e R s m args below meth c H locs cells slots Q (F0 m pc ls (.int v :: .int i :: .ref (ad k) :: rest)) := by
  obtain ⟨fa, pi, hM⟩ := hM
  refine m_sst C hM hS k hk ht.1 j hj hi hdg (fun H1 locs1 hM1 hS1 => kk H1 locs1 ⟨fa, pi, ?_⟩ hS1)
  rw [mscr_at g fa pi ht.2, mscr_A g fa pi ht.2] at hM1
  exact hM1
theorem s_lst (C : CM p m c cc L s args D) (hM : MS D o ad g H) (hS : va_S (MA o ad) H0 H locs) (k : Nat) (hk : k < 67) (ht : mK k = 3) (j : Nat) (hj : j < mlen k) {i : Int32} {v : Int64} (hi : i = nI j) (hdg : decode cc pc = .ok (.lastore, 1))
    (kk : ∀ (H1 : Heap) (locs1 : List Loc), MS D o ad (msE g k (va_up (g.2.2.2 k) j v)) H1 → va_S (MA o ad) H0 H1 locs1 → W p l e R s m args below meth c H1 locs1 cells slots Q (F0 m (pc + 1) ls rest)) : W p l e R s m args below meth c H locs cells slots Q (F0 m pc ls (.long v :: .int i :: .ref (ad k) :: rest)) := by
  obtain ⟨fa, pi, hM⟩ := hM
  exact m_lst C hM hS k hk ht j hj hi hdg (fun H1 locs1 hM1 hS1 => kk H1 locs1 ⟨fa, pi, hM1⟩ hS1)
end SR
theorem met_of {l : Launch} {y : MethodName} {ws : List Cond} {rm : Room} {Pc' : Array Value → State → Prop} {Qc' : Array Value → State → Outcome → State → Prop} {mc ms : Nat} {A : Nat → Prop}
    (h : ∀ (v : Array Value) (U : State), Pc' v U → ∃ (Pc : Array Value → State → Prop) (Qc : Array Value → State → Outcome → State → Prop), Met l y ws rm Pc Qc mc ms A ∧ Pc v U ∧ ∀ o t, Qc v U o t → Qc' v U o t) : Met l y ws rm Pc' Qc' mc ms A := by
  intro p e ha hc hk s m args below hf happ hP _
  obtain ⟨Pc, Qc, hM, hp, hq⟩ := h args s hP
  obtain ⟨n, o, a1, a2, a3, a4, a5⟩ := hM p e ha hc hk s m args below hf happ hp trivial
  exact ⟨n, o, a1, a2, a3, hq o _ a4, a5⟩
theorem cti_ex {ι : Type} {l : Launch} {E : State → Prop} {y : MethodName} {b : ByteArray} {L : Nat} {rt : FieldType} {f lo mc ms : Nat} {A : Nat → Prop} {as : List Value} (P : ι → Heap → Prop) (Q : ι → Int32 → Heap → Prop) {P' : Heap → Prop} {Q' : Int32 → Heap → Prop} (h : ∀ i, CTi l E y b L rt f lo mc ms A as (P i) (Q i)) (hP : ∀ h, P' h → ∃ i, P i h) (hQ : ∀ i r h, Q i r h → Q' r h) : CTi l E y b L rt f lo mc ms A as P' Q' := by
  refine met_of fun v U hv => ?_
  obtain ⟨i, hi⟩ := hP _ hv.2.1
  exact ⟨_, _, h i, ⟨hv.1, hi, hv.2.2⟩, fun o t ⟨⟨r, u, q1, q2, q3⟩, q4⟩ => ⟨⟨r, u, q1, hQ i r u q2, q3⟩, q4⟩⟩
theorem mscr_33 (g : MSt) (fa pi f : Nat → Int32) : msA (mscr g fa pi) 33 f = mscr g f pi := by
  show (g.1, va_up (va_up (va_up g.2.1 33 fa) 34 pi) 33 f, g.2.2) = (g.1, va_up (va_up g.2.1 33 f) 34 pi, g.2.2)
  refine Prod.ext rfl (Prod.ext ?_ rfl)
  funext k
  by_cases h : k = 34
  · subst h; simp [va_up]
  · by_cases h1 : k = 33
    · subst h1; simp [va_up]
    · simp [va_up, h, h1]
theorem mscr_34 (g : MSt) (fa pi f : Nat → Int32) : msA (mscr g fa pi) 34 f = mscr g fa f := by
  show (g.1, va_up (va_up (va_up g.2.1 33 fa) 34 pi) 34 f, g.2.2) = (g.1, va_up (va_up g.2.1 33 fa) 34 f, g.2.2)
  refine Prod.ext rfl (Prod.ext ?_ rfl)
  funext k
  by_cases h : k = 34
  · subst h; simp [va_up]
  · simp [va_up, h]
theorem idec1 (k : Nat) : nI (k + 1) + Int32.ofInt (-1) = nI k := pk_m1 k
