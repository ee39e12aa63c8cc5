/-! SPEC 6a: bits (the first rows of the family bt of BITS, pasted)  -/
def bt (x : Int32) (i : Nat) : Bool := x.toBitVec.getLsbD i
theorem b_ext {x y : Int32} (h : ∀ i, i < 32 → bt x i = bt y i) : x = y := Int32.toBitVec_inj.mp (BitVec.eq_of_getLsbD_eq (fun i hi => h i hi))
theorem b_or (x y : Int32) (i : Nat) : bt (x ||| y) i = (bt x i || bt y i) := by unfold bt; rw [Int32.toBitVec_or, BitVec.getLsbD_or]
theorem b_and (x y : Int32) (i : Nat) : bt (x &&& y) i = (bt x i && bt y i) := by unfold bt; rw [Int32.toBitVec_and, BitVec.getLsbD_and]
theorem b_xor (x y : Int32) (i : Nat) : bt (x ^^^ y) i = (bt x i ^^ bt y i) := by unfold bt; rw [Int32.toBitVec_xor, BitVec.getLsbD_xor]
theorem b_big {x : Int32} {i : Nat} (h : 32 ≤ i) : bt x i = false := BitVec.getLsbD_of_ge _ _ h
theorem b_255 (i : Nat) : bt 255 i = decide (i < 8) := by
  rcases Nat.lt_or_ge i 32 with h | h
  · exact (by decide +kernel : ∀ i, i < 32 → bt 255 i = decide (i < 8)) i h
  · rw [b_big h, decide_eq_false (by omega)]
theorem b_65535 (i : Nat) : bt 65535 i = decide (i < 16) := by
  rcases Nat.lt_or_ge i 32 with h | h
  · exact (by decide +kernel : ∀ i, i < 32 → bt 65535 i = decide (i < 16)) i h
  · rw [b_big h, decide_eq_false (by omega)]
theorem b_m1 : ∀ i, i < 32 → bt (-1) i = true := by decide +kernel
theorem b_0 (i : Nat) : bt 0 i = false := BitVec.getLsbD_zero
theorem s_l : ∀ n, n < 32 → ((nI n &&& 31).toBitVec.smod 32).toNat = n := by decide +kernel
theorem s_u : ∀ n, n < 32 → (((nI n).toUInt32 &&& Int32.toUInt32 31).toBitVec % 32).toNat = n := by decide +kernel
theorem b_shl (n : Nat) (hn : n < 32) (x : Int32) {i : Nat} (hi : i < 32) : bt (x <<< (nI n &&& 31)) i = (decide (n ≤ i) && bt x (i - n)) := by
  unfold bt
  rw [Int32.toBitVec_shiftLeft]
  show (x.toBitVec <<< ((nI n &&& 31).toBitVec.smod 32).toNat).getLsbD i = _
  rw [s_l n hn, BitVec.getLsbD_shiftLeft]
  rcases Nat.lt_or_ge i n with h | h
  · simp [h, Nat.not_le.mpr h]
  · simp [hi, h, Nat.not_lt.mpr h]
theorem b_ushr (n : Nat) (hn : n < 32) (x : Int32) (i : Nat) : bt ((x.toUInt32 >>> ((nI n).toUInt32 &&& Int32.toUInt32 31)).toInt32) i = bt x (n + i) := by
  show (x.toUInt32 >>> ((nI n).toUInt32 &&& Int32.toUInt32 31)).toBitVec.getLsbD i = x.toUInt32.toBitVec.getLsbD (n + i)
  rw [UInt32.toBitVec_shiftRight]
  show (x.toUInt32.toBitVec >>> (((nI n).toUInt32 &&& Int32.toUInt32 31).toBitVec % 32).toNat).getLsbD i = _
  rw [s_u n hn, BitVec.getLsbD_ushiftRight]
theorem b_sshr (n : Nat) (hn : n < 32) (x : Int32) {i : Nat} (hi : i < 32) : bt (x >>> (nI n &&& 31)) i = if n + i < 32 then bt x (n + i) else bt x 31 := by
  unfold bt
  rw [Int32.toBitVec_shiftRight]
  show (x.toBitVec.sshiftRight ((nI n &&& 31).toBitVec.smod 32).toNat).getLsbD i = _
  rw [s_l n hn, BitVec.getLsbD_sshiftRight, BitVec.msb_eq_getLsbD_last]
  simp [hi]
theorem b_1 : ∀ i, i < 32 → bt 1 i = decide (i = 0) := by decide +kernel
theorem and1_bt (x : Int32) : (x &&& 1) = 1 ↔ bt x 0 = true := by
  constructor
  · intro h
    have h1 := congrArg (fun y => bt y 0) h
    simp only [b_and] at h1
    rw [b_1 0 (by omega)] at h1
    simpa using h1
  · intro h
    apply b_ext
    intro i hi
    rw [b_and, b_1 i hi]
    by_cases q : i = 0
    · subst q; simp [h]
    · simp [q]
theorem hasB_bt (s : Int32) {p : Nat} (hp : p < 32) : hasB s p = bt s p := by
  unfold hasB
  rw [Bool.eq_iff_iff, decide_eq_true_iff, and1_bt, b_sshr p hp s (by omega)]
  simp [hp]
def oneV (k : Nat) : Int32 := (1 : Int32) <<< (nI k &&& 31)
theorem b_one {k i : Nat} (hk : k < 32) (hi : i < 32) : bt (oneV k) i = decide (i = k) := by
  unfold oneV
  rw [b_shl k hk 1 hi]
  by_cases q : i = k
  · subst q; rw [Nat.sub_self, b_1 0 (by omega)]; simp
  · rcases Nat.lt_or_ge i k with h | h
    · simp [q, Nat.not_le.mpr h]
    · rw [b_1 (i - k) (by omega)]
      simp [q]
      omega
theorem b_bits (f : Nat → Bool) : ∀ {n i : Nat}, n ≤ 32 → i < 32 → bt (bitsB f n) i = (decide (i < n) && f i)
  | 0, i, _, _ => by simp [bitsB, b_0]
  | n + 1, i, hn, hi => by
    have ih := b_bits f (n := n) (i := i) (by omega) hi
    cases hf : f n with
    | true =>
      rw [bitsB_t hf, b_or, ih, show ((1 : Int32) <<< (nI n &&& 31)) = oneV n from rfl, b_one (by omega) hi]
      by_cases q : i = n
      · subst q; simp [hf]
      · have : (i < n + 1) = (i < n) := by simp; omega
        simp [q, this]
    | false =>
      rw [bitsB_f hf, ih]
      by_cases q : i = n
      · subst q; simp [hf]
      · have : (i < n + 1) = (i < n) := by simp; omega
        simp [this]
theorem b_nI {s i : Nat} (hi : i < 32) : bt (nI s) i = s.testBit i := by
  show (BitVec.ofNat 32 s).getLsbD i = _
  rw [BitVec.getLsbD_ofNat]
  simp [hi]
theorem sub_bt {a h : Int32} : (a &&& (h ^^^ (-1))) = 0 ↔ ∀ i, i < 32 → bt a i = true → bt h i = true := by
  constructor
  · intro q i hi ha
    have h1 := congrArg (fun y => bt y i) q
    simp only [b_and, b_xor, b_0] at h1
    rw [b_m1 i hi, ha] at h1
    simpa using h1
  · intro q
    apply b_ext
    intro i hi
    rw [b_and, b_xor, b_m1 i hi, b_0]
    cases ha : bt a i with
    | false => rfl
    | true => simp [q i hi ha]
theorem nI_or (a b : Nat) : nI a ||| nI b = nI (a ||| b) := by
  apply Int32.toBitVec_inj.mp
  show BitVec.ofNat 32 a ||| BitVec.ofNat 32 b = BitVec.ofNat 32 (a ||| b)
  exact (BitVec.ofNat_or).symm
theorem oneV_nI : ∀ k, k < 31 → oneV k = nI (2 ^ k) := by decide +kernel
theorem bits_nat (f : Nat → Bool) : ∀ {n : Nat}, n ≤ 31 → ∃ m, m < 2 ^ n ∧ bitsB f n = nI m
  | 0, _ => ⟨0, by decide, rfl⟩
  | n + 1, hn => by
    obtain ⟨m, h1, h2⟩ := bits_nat f (n := n) (by omega)
    have h3 : (2 : Nat) ^ n < 2 ^ (n + 1) := Nat.pow_lt_pow_right (by omega) (by omega)
    cases hf : f n with
    | true =>
      refine ⟨m ||| 2 ^ n, Nat.or_lt_two_pow (by omega) h3, ?_⟩
      rw [bitsB_t hf, h2, show ((1 : Int32) <<< (nI n &&& 31)) = oneV n from rfl, oneV_nI n (by omega), nI_or]
    | false => exact ⟨m, by omega, by rw [bitsB_f hf, h2]⟩
theorem shl1 {k : Nat} (h : k < 31) : (1 : Int32) <<< (nI k &&& 31) = nI (2 ^ k) := oneV_nI k h
/-! SPEC 6b: where one can be, words, breaking, all -/
def tS (T : Tw) (k : Nat) (f : Nat → Int32) : Tw := (T.1, T.2.1, T.2.2.1, va_up T.2.2.2 k f)
theorem mF_up {g : MSt} {k : Nat} (hk : k < 8) (f : Nat → Int32) : mF (msA g (k + 5) f) = va_up (mF g) k f := by
  have : k = 0 ∨ k = 1 ∨ k = 2 ∨ k = 3 ∨ k = 4 ∨ k = 5 ∨ k = 6 ∨ k = 7 := by omega
  funext j
  rcases this with rfl | rfl | rfl | rfl | rfl | rfl | rfl | rfl <;> match j with
  | 0 => rfl
  | 1 => rfl
  | 2 => rfl
  | 3 => rfl
  | 4 => rfl
  | 5 => rfl
  | 6 => rfl
  | 7 => rfl
  | 8 => rfl
  | j + 9 => rfl
theorem mF_up8 (g : MSt) (f : Nat → Int32) : mF (msA g 3 f) = va_up (mF g) 8 f := by
  funext j
  match j with
  | 0 => rfl
  | 1 => rfl
  | 2 => rfl
  | 3 => rfl
  | 4 => rfl
  | 5 => rfl
  | 6 => rfl
  | 7 => rfl
  | 8 => rfl
  | j + 9 => rfl
theorem mT_gone (g : MSt) (nM : Nat) (f : Nat → Int32) : mT (msA g 12 f) nM = tS (mT g nM) 7 f := by
  show (nM, g.1 13, mLaw g, mF (msA g 12 f)) = (nM, g.1 13, mLaw g, va_up (mF g) 7 f)
  rw [mF_up (k := 7) (by omega)]
theorem mT_forgot (g : MSt) (nM : Nat) (f : Nat → Int32) : mT (msA g 11 f) nM = tS (mT g nM) 6 f := by
  show (nM, g.1 13, mLaw g, mF (msA g 11 f)) = (nM, g.1 13, mLaw g, va_up (mF g) 6 f)
  rw [mF_up (k := 6) (by omega)]
theorem mT_boots (g : MSt) (nM : Nat) (f : Nat → Int32) : mT (msA g 3 f) nM = tS (mT g nM) 8 f := by
  show (nM, g.1 13, mLaw g, mF (msA g 3 f)) = (nM, g.1 13, mLaw g, va_up (mF g) 8 f)
  rw [mF_up8]
def spW (b : Int32) (q : Nat) : Nat → Int32
  | 0 => b
  | w + 1 => spW b q w ||| oneV (stepN q w)
def dfV (T : Tw) (one : Nat) (set day : Int32) : Nat → Int32
  | 0 => 0
  | q + 1 => if hasB set q = true then (if heldB T one (nI q) day = true then dfV T one set day q ||| oneV q else spW (dfV T one set day q) q 5) else dfV T one set day q
def sooF (T : Tw) (one : Nat) (place : Nat) (t : Nat) : Nat → Nat → Int32 → Int32
  | 0, _, _ => -2
  | f + 1, k, set => if hasB set place = true then nI k else sooF T one place t f (k + 1) (dfV T one set (nI (dayN t k)) 25)
def r_soonest (g : MSt) (nM t : Nat) (q place : Int32) : Int32 := if (inB q 0 (g.1 1 - 1) && inB place 0 24) = true then sooF (mT g nM) q.toNatClampNeg place.toNatClampNeg t 21 0 ((1 : Int32) <<< (g.2.1 2 q.toNatClampNeg &&& 31)) else -1
def freeN (T : Tw) (q : Nat) (day : Int32) : Nat → Nat := cntB (fun c => !heldB T q (nI c) day)
def r_free (g : MSt) (nM : Nat) (q : Int32) : Int32 := if inB q 0 (g.1 1 - 1) = true then nI (freeN (mT g nM) q.toNatClampNeg (g.1 14) 25) else -1
/-- those of a set gone too -/
def gOr (f : Nat → Int32) (set : Int32) (n : Nat) : Nat → Int32 := fun p => if p < n ∧ hasB set p = true then 1 else f p
def frB (T : Tw) (q : Nat) (place day : Int32) (set boots : Int32) : Bool := !heldB (tS (tS T 7 (gOr (T.2.2.2 7) set T.1)) 8 (va_up (T.2.2.2 8) q boots)) q place day
theorem gOr_0 (f : Nat → Int32) (set : Int32) : gOr f set 0 = f := by
  funext p; simp [gOr]
theorem gOr_t {f : Nat → Int32} {set : Int32} {k : Nat} (h : hasB set k = true) : va_up (gOr f set k) k 1 = gOr f set (k + 1) := by
  funext p
  by_cases q : p = k
  · subst q; rw [va_upS]; simp [gOr, h]
  · rw [va_upN q]
    unfold gOr
    by_cases h2 : p < k ∧ hasB set p = true
    · rw [if_pos h2, if_pos ⟨by omega, h2.2⟩]
    · rw [if_neg h2, if_neg (fun z => h2 ⟨by omega, z.2⟩)]
theorem gOr_f {f : Nat → Int32} {set : Int32} {k : Nat} (h : hasB set k = false) : gOr f set k = gOr f set (k + 1) := by
  funext p
  unfold gOr
  by_cases h2 : p < k ∧ hasB set p = true
  · rw [if_pos h2, if_pos ⟨by omega, h2.2⟩]
  · rw [if_neg h2, if_neg]
    rintro ⟨z1, z2⟩
    rcases Nat.lt_or_ge p k with q | q
    · exact h2 ⟨q, z2⟩
    · have : p = k := by omega
      subst this
      rw [h] at z2; cases z2
def gUn (f : Nat → Int32) (set : Int32) (n k : Nat) : Nat → Int32 := fun p => if p < k ∧ hasB set p = true then 0 else gOr f set n p
theorem gUn_0 (f : Nat → Int32) (set : Int32) (n : Nat) : gUn f set n 0 = gOr f set n := by
  funext p; simp [gUn]
theorem gUn_t {f : Nat → Int32} {set : Int32} {n k : Nat} (h : hasB set k = true) : va_up (gUn f set n k) k 0 = gUn f set n (k + 1) := by
  funext p
  by_cases q : p = k
  · subst q; rw [va_upS]; simp [gUn, h]
  · rw [va_upN q]
    unfold gUn
    by_cases h2 : p < k ∧ hasB set p = true
    · rw [if_pos h2, if_pos ⟨by omega, h2.2⟩]
    · rw [if_neg h2, if_neg (fun z => h2 ⟨by omega, z.2⟩)]
theorem gUn_f {f : Nat → Int32} {set : Int32} {n k : Nat} (h : hasB set k = false) : gUn f set n k = gUn f set n (k + 1) := by
  funext p
  unfold gUn
  by_cases h2 : p < k ∧ hasB set p = true
  · rw [if_pos h2, if_pos ⟨by omega, h2.2⟩]
  · rw [if_neg h2, if_neg]
    rintro ⟨z1, z2⟩
    rcases Nat.lt_or_ge p k with q | q
    · exact h2 ⟨q, z2⟩
    · have : p = k := by omega
      subst this
      rw [h] at z2; cases z2
theorem gUn_n {f : Nat → Int32} {set : Int32} {n : Nat} (h : ∀ p, p < n → hasB set p = true → f p = 0) : gUn f set n n = f := by
  funext p
  unfold gUn
  by_cases h2 : p < n ∧ hasB set p = true
  · rw [if_pos h2, h p h2.1 h2.2]
  · rw [if_neg h2]
    unfold gOr
    rw [if_neg h2]
/-- the best of the sets below n: the first that is better than those before it -/
def okW (bt_ : Nat → Nat → Bool) : Option Nat → Nat → Bool
  | none, _ => true
  | some c, s => bt_ s c
def wdS (ok fr : Nat → Bool) (bt_ : Nat → Nat → Bool) : Nat → Option Nat
  | 0 => none
  | s + 1 => if (ok s && okW bt_ (wdS ok fr bt_ s) s && fr s) = true then some s else wdS ok fr bt_ s
def encV (d : Int32) : Option Nat → Int32
  | none => d
  | some s => nI s
theorem wdS_lt (ok fr : Nat → Bool) (bt_ : Nat → Nat → Bool) : ∀ {n c : Nat}, wdS ok fr bt_ n = some c → c < n
  | 0, c, h => by cases h
  | n + 1, c, h => by
    unfold wdS at h
    split at h
    · cases h; omega
    · have := wdS_lt ok fr bt_ h
      omega
theorem wdS_some {ok fr : Nat → Bool} {bt_ : Nat → Nat → Bool} {h : Nat} (h1 : ok h = true) (h2 : fr h = true) : ∀ {n : Nat}, h < n → ∃ c, wdS ok fr bt_ n = some c
  | 0, q => by omega
  | n + 1, q => by
    rcases Nat.lt_or_ge h n with z | z
    · obtain ⟨c, hc⟩ := wdS_some h1 h2 (n := n) z
      unfold wdS
      split
      · exact ⟨_, rfl⟩
      · exact ⟨c, hc⟩
    · have e : h = n := by omega
      subst e
      cases hb : wdS ok fr bt_ h with
      | none =>
        refine ⟨h, ?_⟩
        unfold wdS
        rw [hb]
        simp [h1, h2, okW]
      | some c =>
        unfold wdS
        split
        · exact ⟨_, rfl⟩
        · exact ⟨c, hb⟩
theorem encV_neg {b : Option Nat} {d : Int32} (h : encV d b < 0) (hb : ∀ c, b = some c → c < 2 ^ 31) : b = none := by
  cases b with
  | none => rfl
  | some c => exact absurd h (nI_pos (hb c rfl))
theorem encV_pos {b : Option Nat} {d : Int32} (h : ¬ encV d b < 0) (hd : d < 0) : ∃ c, b = some c := by
  cases b with
  | none => exact absurd hd h
  | some c => exact ⟨c, rfl⟩
def subB (here : Int32) (s : Nat) : Bool := decide ((nI s &&& (here ^^^ (-1))) = 0)
def wdW (T : Tw) (q : Nat) (place day here : Int32) : Nat → Option Nat := wdS (subB here) (fun s => frB T q place day (nI s) (T.2.2.2 8 q)) (fun s c => decide (nI (onesN s) < nI (onesN c)))
def bkW (T : Tw) (q : Nat) (place day here : Int32) : Nat → Option Nat := wdS (fun s => subB here s && !decide (T.2.2.2 8 q < nI (onesN s))) (fun s => frB T q place day (nI s) (T.2.2.2 8 q - nI (onesN s))) (fun s c => decide (wgtV T (nI s) < wgtV T (nI c)))
def r_words (g : MSt) (nM : Nat) (q what : Int32) : Int32 := if (inB q 0 (g.1 1 - 1) && inB what 0 1) = true then (let b := wdW (mT g nM) q.toNatClampNeg (g.2.1 2 q.toNatClampNeg) (g.1 14) (keptV (mT g nM) q.toNatClampNeg (g.2.1 2 q.toNatClampNeg) (g.1 14)) (2 ^ nM); if what = 0 then nI (onesN (b.getD 0)) else nI (b.getD 0)) else -1
def r_breaks (g : MSt) (nM : Nat) (q what : Int32) : Int32 := if (inB q 0 (g.1 1 - 1) && inB what 0 1) = true then (match bkW (mT g nM) q.toNatClampNeg (g.2.1 2 q.toNatClampNeg) (g.1 14) (keptV (mT g nM) q.toNatClampNeg (g.2.1 2 q.toNatClampNeg) (g.1 14)) (2 ^ nM) with | none => -2 | some c => if what = 1 then nI c else wgtV (mT g nM) (nI c)) else -1
theorem bt_kept {T : Tw} {q : Nat} {place day : Int32} (hT : T.1 ≤ 32) {i : Nat} (hi : i < 32) : bt (keptV T q place day) i = (decide (i < T.1) && (decide (T.2.2.2 0 i = nI q) && decide (T.2.2.2 2 i = place) && onB T.2.2.2 i day)) := b_bits _ hT hi
theorem kept_gone {T : Tw} {q : Nat} {place day here : Int32} {s p : Nat} (hh : here = keptV T q place day) (hT : T.1 ≤ 32) (hs : subB here s = true) (hp : p < T.1) (h : hasB (nI s) p = true) : T.2.2.2 7 p = 0 := by
  have h1 := sub_bt.mp (of_decide_eq_true hs) p (by omega) (by rw [← hasB_bt _ (by omega)]; exact h)
  rw [hh, bt_kept hT (by omega)] at h1
  simp only [Bool.and_eq_true, decide_eq_true_eq, onB] at h1
  exact h1.2.2.1
theorem frB_here {T : Tw} {q : Nat} {place day here boots : Int32} (hh : here = keptV T q place day) (hT : T.1 ≤ 32) : frB T q place day here boots = true := by
  unfold frB heldB
  rw [Bool.not_eq_true', decide_eq_false_iff_not]
  intro h
  obtain ⟨p, hp, h1⟩ := cntB_pos.mp h
  have hp : p < T.1 := hp
  simp only [Bool.and_eq_true, decide_eq_true_eq, holdsB, onB] at h1
  obtain ⟨a1, ⟨a2, a3, a4⟩, -⟩ := h1
  have a1 : T.2.2.2 0 p = nI q := a1
  have a2 : T.2.2.2 2 p = place := a2
  have a3 : gOr (T.2.2.2 7) here T.1 p = 0 := a3
  have a4 : inB day (T.2.2.2 4 p) (T.2.2.2 5 p) = true := a4
  unfold gOr at a3
  split at a3
  · exact absurd a3 (by decide)
  · rename_i hn
    apply hn
    refine ⟨hp, ?_⟩
    rw [hasB_bt _ (by omega), hh, bt_kept hT (by omega)]
    simp [hp, a1, a2, onB, a3, a4]
theorem wdW_some {T : Tw} {q : Nat} {place day here : Int32} (hh : here = keptV T q place day) (hT : T.1 ≤ 31) : ∃ c, wdW T q place day here (2 ^ T.1) = some c ∧ c < 2 ^ T.1 := by
  obtain ⟨m, h1, h2⟩ := bits_nat (fun p => decide (T.2.2.2 0 p = nI q) && decide (T.2.2.2 2 p = place) && onB T.2.2.2 p day) (n := T.1) hT
  have h3 : here = nI m := hh.trans h2
  obtain ⟨c, hc⟩ := wdS_some (ok := subB here) (fr := fun s => frB T q place day (nI s) (T.2.2.2 8 q)) (bt_ := fun s c => decide (nI (onesN s) < nI (onesN c))) (h := m) (by
    unfold subB
    rw [decide_eq_true_iff, sub_bt, h3]
    exact fun i _ h => h) (by
    show frB T q place day (nI m) _ = true
    rw [← h3]
    exact frB_here hh (by omega)) h1
  exact ⟨c, hc, wdS_lt _ _ _ hc⟩
theorem msS_id (g : MSt) (k : Nat) : msS g k (g.1 k) = g := by
  show (va_up g.1 k (g.1 k), g.2) = g
  rw [va_up_id]
theorem ms_id2 (g : MSt) (a b : Nat) : msS (msS g a (g.1 a)) b (g.1 b) = g := by
  rw [msS_id]; exact msS_id g b
theorem mss1 (g : MSt) (a : Nat) (x x2 : Int32) : msS (msS g a x) a x2 = msS g a x2 := by
  refine Prod.ext ?_ rfl
  funext k
  by_cases h : k = a
  · subst h; simp [va_up]
  · simp [va_up, h]
theorem mss2 (g : MSt) {a b : Nat} (hab : a ≠ b) (x x2 y y2 : Int32) : msS (msS (msS (msS g a x) b y) a x2) b y2 = msS (msS g a x2) b y2 := by
  refine Prod.ext ?_ rfl
  funext k
  by_cases h1 : k = b
  · subst h1; simp [va_up]
  · by_cases h2 : k = a
    · subst h2; simp [va_up, h1]
    · simp [va_up, h1, h2]
/-- a route: place, days held, promises kept -/
def rtS (T : Tw) (one t : Nat) (el : Nat → Nat) (q0 : Nat) : Nat → Nat × Int32 × Int32
  | 0 => (q0, 0, keptV T one (nI q0) (nI t))
  | k + 1 => if heldB T one (nI (rtS T one t el q0 k).1) (nI (dayN t k)) = true then ((rtS T one t el q0 k).1, (rtS T one t el q0 k).2.1 + 1, (rtS T one t el q0 k).2.2 ||| keptV T one (nI (rtS T one t el q0 k).1) (nI (dayN t (k + 1)))) else (stepN (rtS T one t el q0 k).1 (el k), (rtS T one t el q0 k).2.1, (rtS T one t el q0 k).2.2 ||| keptV T one (nI (stepN (rtS T one t el q0 k).1 (el k))) (nI (dayN t (k + 1))))
theorem rtS_lt (T : Tw) (one t : Nat) (el : Nat → Nat) {q0 : Nat} (h : q0 < 25) : ∀ k, (rtS T one t el q0 k).1 < 25
  | 0 => h
  | k + 1 => by
    have ih := rtS_lt T one t el h k
    unfold rtS
    split
    · exact ih
    · exact stepN_lt ih
theorem rtS_t {T : Tw} {one t : Nat} {el : Nat → Nat} {q0 k : Nat} (h : heldB T one (nI (rtS T one t el q0 k).1) (nI (dayN t k)) = true) : rtS T one t el q0 (k + 1) = ((rtS T one t el q0 k).1, (rtS T one t el q0 k).2.1 + 1, (rtS T one t el q0 k).2.2 ||| keptV T one (nI (rtS T one t el q0 k).1) (nI (dayN t (k + 1)))) := by
  rw [rtS, if_pos h]
theorem rtS_f {T : Tw} {one t : Nat} {el : Nat → Nat} {q0 k : Nat} (h : heldB T one (nI (rtS T one t el q0 k).1) (nI (dayN t k)) = false) : rtS T one t el q0 (k + 1) = (stepN (rtS T one t el q0 k).1 (el k), (rtS T one t el q0 k).2.1, (rtS T one t el q0 k).2.2 ||| keptV T one (nI (stepN (rtS T one t el q0 k).1 (el k))) (nI (dayN t (k + 1)))) := by
  rw [rtS, if_neg (by rw [h]; decide)]
def elN (g : MSt) (s k : Nat) : Nat := (elV g s k).toNatClampNeg
def minI (a b : Int32) : Int32 := if b ≤ a then b else a
def r_route (g : MSt) (nM t : Nat) (s n q what : Int32) : Int32 :=
  if (inB s 0 5 && inB n 0 30 && inB q 0 (g.1 1 - 1) && inB what 0 3) = true then
    (if 0 ≤ flt g s.toNatClampNeg then
      (let r := rtS (mT g nM) q.toNatClampNeg t (elN g s.toNatClampNeg) (g.2.1 2 q.toNatClampNeg).toNatClampNeg (minI (nI (stepsN g s.toNatClampNeg (g.2.1 64 s.toNatClampNeg).toNatClampNeg)) n).toNatClampNeg
       if what = 0 then nI r.1 else if what = 1 then r.2.1 else if what = 2 then wgtV (mT g nM) r.2.2 else r.2.2)
     else flt g s.toNatClampNeg) else -1
theorem stepsF_le (g : MSt) (s n : Nat) : ∀ f k, k ≤ stepsF g s n f k ∧ (k ≤ n → stepsF g s n f k ≤ n) ∧ (k ≤ 30 → stepsF g s n f k ≤ 30) ∧ ∀ j, k ≤ j → j < stepsF g s n f k → inB (elV g s j) 0 4 = true
  | 0, k => ⟨Nat.le_refl _, fun h => h, fun h => h, fun j h1 h2 => by unfold stepsF at h2; omega⟩
  | f + 1, k => by
    unfold stepsF
    split
    · exact ⟨Nat.le_refl _, fun h => h, fun h => h, fun j h1 h2 => by omega⟩
    · split
      · exact ⟨Nat.le_refl _, fun h => h, fun h => h, fun j h1 h2 => by omega⟩
      · split
        · rename_i h1 h2 h3
          obtain ⟨a1, a2, a3, a4⟩ := stepsF_le g s n f (k + 1)
          refine ⟨by omega, fun _ => a2 (by omega), fun _ => a3 (by omega), fun j q1 q2 => ?_⟩
          rcases Nat.lt_or_ge k j with z | z
          · exact a4 j z q2
          · have : j = k := by omega
            subst this
            exact h3
        · exact ⟨Nat.le_refl _, fun h => h, fun h => h, fun j h1 h2 => by omega⟩
theorem elN_st {g : MSt} {s n j : Nat} (h : j < stepsN g s n) : elV g s j = nI (elN g s j) ∧ elN g s j < 5 := by
  obtain ⟨m, hm, he⟩ := inB_exc (n := 4) ((stepsF_le g s n 31 0).2.2.2 j (Nat.zero_le _) h) rfl (by omega)
  have e : elN g s j = m := by unfold elN; rw [he]; exact nN_nI (by omega)
  exact ⟨by rw [e, he], by omega⟩
theorem flt_row {g : MSt} {nb s : Nat} (h : SHI g nb) (hnb : nb ≤ 50) (hs : s < 6) (hf : 0 ≤ flt g s) : ∃ n, n ≤ 60 ∧ g.2.1 64 s = nI n ∧ g.2.1 63 s = -2 := by
  unfold flt at hf
  split at hf
  · exact absurd hf (by decide)
  · split at hf
    · rename_i h1 h2
      obtain ⟨so, n, q1, q2, q3, q4, -⟩ := SHI_row h hnb hs h1 (by rw [h2]; decide)
      exact ⟨n, q2, q4, h2⟩
    · exact absurd hf (by decide)
theorem nI_one : nI 1 = 1 := rfl
theorem ltc {c : Int32} {n i : Nat} (h : c < nI i) (hc : c = nI n) (hn : n < 2 ^ 31) (hi : i < 2 ^ 31) : n < i := by
  rw [hc, nI_ltI hn hi] at h; exact h
theorem nltc {c : Int32} {n i : Nat} (h : ¬ c < nI i) (hc : c = nI n) (hn : n < 2 ^ 31) (hi : i < 2 ^ 31) : i ≤ n := by
  rw [hc, nI_ltI hn hi] at h; omega
theorem wdS_n {ok fr : Nat → Bool} {bt_ : Nat → Nat → Bool} {s : Nat} (h : (ok s && okW bt_ (wdS ok fr bt_ s) s && fr s) = false) : wdS ok fr bt_ (s + 1) = wdS ok fr bt_ s := by
  rw [wdS, if_neg (by rw [h]; decide)]
theorem wdS_y {ok fr : Nat → Bool} {bt_ : Nat → Nat → Bool} {s : Nat} (h : (ok s && okW bt_ (wdS ok fr bt_ s) s && fr s) = true) : wdS ok fr bt_ (s + 1) = some s := by
  rw [wdS, if_pos h]
theorem wdW_n1 {T : Tw} {q : Nat} {place day here : Int32} {s : Nat} (h : subB here s = false) : wdW T q place day here (s + 1) = wdW T q place day here s := wdS_n (by rw [h, Bool.false_and, Bool.false_and])
theorem wdW_n2 {T : Tw} {q : Nat} {place day here : Int32} {s c : Nat} (hb : wdW T q place day here s = some c) (h : ¬ nI (onesN s) < nI (onesN c)) : wdW T q place day here (s + 1) = wdW T q place day here s := wdS_n (by
  have hb : wdS (subB here) (fun s => frB T q place day (nI s) (T.2.2.2 8 q)) (fun s c => decide (nI (onesN s) < nI (onesN c))) s = some c := hb
  rw [hb]
  simp [okW, h])
theorem wdW_n3 {T : Tw} {q : Nat} {place day here : Int32} {s : Nat} (h : frB T q place day (nI s) (T.2.2.2 8 q) = false) : wdW T q place day here (s + 1) = wdW T q place day here s := wdS_n (by rw [h, Bool.and_false])
theorem wdW_y {T : Tw} {q : Nat} {place day here : Int32} {s : Nat} (h1 : subB here s = true) (h2 : ∀ c, wdW T q place day here s = some c → nI (onesN s) < nI (onesN c)) (h : frB T q place day (nI s) (T.2.2.2 8 q) = true) : wdW T q place day here (s + 1) = some s := wdS_y (by
  rw [h, h1]
  cases hb : wdS (subB here) (fun s => frB T q place day (nI s) (T.2.2.2 8 q)) (fun s c => decide (nI (onesN s) < nI (onesN c))) s with
  | none => rfl
  | some c => simp [okW, h2 c hb])
theorem bkW_n1 {T : Tw} {q : Nat} {place day here : Int32} {s : Nat} (h : subB here s = false) : bkW T q place day here (s + 1) = bkW T q place day here s := wdS_n (by rw [h, Bool.false_and, Bool.false_and, Bool.false_and])
theorem bkW_n0 {T : Tw} {q : Nat} {place day here : Int32} {s : Nat} (h : T.2.2.2 8 q < nI (onesN s)) : bkW T q place day here (s + 1) = bkW T q place day here s := wdS_n (by rw [decide_eq_true h]; simp)
theorem bkW_n2 {T : Tw} {q : Nat} {place day here : Int32} {s c : Nat} (hb : bkW T q place day here s = some c) (h : ¬ wgtV T (nI s) < wgtV T (nI c)) : bkW T q place day here (s + 1) = bkW T q place day here s := wdS_n (by
  have hb : wdS (fun s => subB here s && !decide (T.2.2.2 8 q < nI (onesN s))) (fun s => frB T q place day (nI s) (T.2.2.2 8 q - nI (onesN s))) (fun s c => decide (wgtV T (nI s) < wgtV T (nI c))) s = some c := hb
  rw [hb]
  simp [okW, h])
theorem bkW_n3 {T : Tw} {q : Nat} {place day here : Int32} {s : Nat} (h : frB T q place day (nI s) (T.2.2.2 8 q - nI (onesN s)) = false) : bkW T q place day here (s + 1) = bkW T q place day here s := wdS_n (by rw [h, Bool.and_false])
theorem bkW_y {T : Tw} {q : Nat} {place day here : Int32} {s : Nat} (h1 : subB here s = true) (h0 : ¬ T.2.2.2 8 q < nI (onesN s)) (h2 : ∀ c, bkW T q place day here s = some c → wgtV T (nI s) < wgtV T (nI c)) (h : frB T q place day (nI s) (T.2.2.2 8 q - nI (onesN s)) = true) : bkW T q place day here (s + 1) = some s := wdS_y (by
  rw [h, h1, decide_eq_false h0]
  cases hb : wdS (fun s => subB here s && !decide (T.2.2.2 8 q < nI (onesN s))) (fun s => frB T q place day (nI s) (T.2.2.2 8 q - nI (onesN s))) (fun s c => decide (wgtV T (nI s) < wgtV T (nI c))) s with
  | none => rfl
  | some c => simp [okW, h2 c hb])
theorem bkW_lt {T : Tw} {q : Nat} {place day here : Int32} {n c : Nat} (h : bkW T q place day here n = some c) : c < n := wdS_lt _ _ _ h
/-- those promised to a set are gone too -/
def toB (F : FT) (set : Int32) (p : Nat) : Bool := decide (F 7 p = 0) && hasB set (F 1 p).toNatClampNeg
def nobB (T : Tw) (pl : Nat → Int32) (nP : Nat) (day : Int32) : Bool := decide (cntB (fun p => heldB T p (pl p) day) nP = 0)
def alB (T : Tw) (pl : Nat → Int32) (nP : Nat) (day set : Int32) : Bool := nobB (tS T 7 (gOr (T.2.2.2 7) (bitsB (toB T.2.2.2 set) T.1) T.1)) pl nP day
def alW (T : Tw) (pl : Nat → Int32) (nP : Nat) (day : Int32) : Nat → Option Nat := wdS (fun _ => true) (fun s => alB T pl nP day (nI s)) (fun s c => decide (nI (onesN s) < nI (onesN c)))
theorem alW_n2 {T : Tw} {pl : Nat → Int32} {nP : Nat} {day : Int32} {s c : Nat} (hb : alW T pl nP day s = some c) (h : ¬ nI (onesN s) < nI (onesN c)) : alW T pl nP day (s + 1) = alW T pl nP day s := wdS_n (by
  have hb : wdS (fun _ => true) (fun s => alB T pl nP day (nI s)) (fun s c => decide (nI (onesN s) < nI (onesN c))) s = some c := hb
  rw [hb]
  simp [okW, h])
theorem alW_n3 {T : Tw} {pl : Nat → Int32} {nP : Nat} {day : Int32} {s : Nat} (h : alB T pl nP day (nI s) = false) : alW T pl nP day (s + 1) = alW T pl nP day s := wdS_n (by rw [h, Bool.and_false])
theorem alW_y {T : Tw} {pl : Nat → Int32} {nP : Nat} {day : Int32} {s : Nat} (h2 : ∀ c, alW T pl nP day s = some c → nI (onesN s) < nI (onesN c)) (h : alB T pl nP day (nI s) = true) : alW T pl nP day (s + 1) = some s := wdS_y (by
  rw [h]
  cases hb : wdS (fun _ => true) (fun s => alB T pl nP day (nI s)) (fun s c => decide (nI (onesN s) < nI (onesN c))) s with
  | none => rfl
  | some c => simp [okW, h2 c hb])
theorem alW_lt {T : Tw} {pl : Nat → Int32} {nP : Nat} {day : Int32} {n c : Nat} (h : alW T pl nP day n = some c) : c < n := wdS_lt _ _ _ h
def r_all (g : MSt) (nP nM : Nat) (what : Int32) : Int32 := if inB what 0 1 = true then (let b := alW (mT g nM) (g.2.1 2) nP (g.1 14) (2 ^ nP); if what = 0 then nI (onesN (b.getD 0)) else nI (b.getD 0)) else -1
theorem toB_gone {F : FT} {set : Int32} {n p : Nat} (hn : n ≤ 32) (hp : p < n) (h : hasB (bitsB (toB F set) n) p = true) : F 7 p = 0 := by
  rw [hasB_bt _ (by omega), b_bits _ hn (by omega)] at h
  simp only [toB, Bool.and_eq_true, decide_eq_true_eq] at h
  exact h.2.1
theorem alB_full {T : Tw} {pl : Nat → Int32} {nP : Nat} {day : Int32} (hT : T.1 ≤ 31) (hP : nP ≤ 6) (hto : ∀ p, p < T.1 → ∃ b, b < nP ∧ T.2.2.2 1 p = nI b) : alB T pl nP day (nI (2 ^ nP - 1)) = true := by
  unfold alB nobB
  rw [decide_eq_true_iff]
  apply cntB_0
  intro q hq
  unfold heldB
  rw [decide_eq_false_iff_not]
  intro h
  obtain ⟨p, hp, h1⟩ := cntB_pos.mp h
  have hp : p < T.1 := hp
  simp only [Bool.and_eq_true, decide_eq_true_eq, holdsB, onB] at h1
  obtain ⟨-, ⟨-, a3, -⟩, -⟩ := h1
  have a3 : gOr (T.2.2.2 7) (bitsB (toB T.2.2.2 (nI (2 ^ nP - 1))) T.1) T.1 p = 0 := a3
  unfold gOr at a3
  split at a3
  · exact absurd a3 (by decide)
  · rename_i hn
    apply hn
    refine ⟨hp, ?_⟩
    obtain ⟨b, hb, e⟩ := hto p hp
    rw [hasB_bt _ (by omega), b_bits _ (by omega) (by omega)]
    simp only [hp, decide_true, Bool.true_and, toB, a3]
    rw [e, nN_nI (by omega), hasB_bt _ (by omega), b_nI (by omega), Nat.testBit_two_pow_sub_one]
    simp [hb]
theorem alW_some {T : Tw} {pl : Nat → Int32} {nP : Nat} {day : Int32} (hT : T.1 ≤ 31) (hP : nP ≤ 6) (hto : ∀ p, p < T.1 → ∃ b, b < nP ∧ T.2.2.2 1 p = nI b) : ∃ c, alW T pl nP day (2 ^ nP) = some c ∧ c < 2 ^ nP := by
  have hpos : 0 < 2 ^ nP := Nat.pow_pos (by omega)
  obtain ⟨c, hc⟩ := wdS_some (ok := fun _ => true) (fr := fun s => alB T pl nP day (nI s)) (bt_ := fun s c => decide (nI (onesN s) < nI (onesN c))) (h := 2 ^ nP - 1) rfl (alB_full hT hP hto) (n := 2 ^ nP) (by omega)
  exact ⟨c, hc, wdS_lt _ _ _ hc⟩
