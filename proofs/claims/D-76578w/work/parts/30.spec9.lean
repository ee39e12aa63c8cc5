/-! SPEC 9: odds, rounds, the best route -/
theorem msS_id3 (g : MSt) (a b c : Nat) : msS (msS (msS g a (g.1 a)) b (g.1 b)) c (g.1 c) = g := by
  rw [ms_id2]; exact msS_id g c
theorem msL_id (g : MSt) (k : Nat) : msL g k (g.2.2.1 k) = g := by
  show (g.1, g.2.1, va_up g.2.2.1 k (g.2.2.1 k), g.2.2.2) = g
  rw [va_up_id]
theorem msL_id2 (g : MSt) (a b : Nat) : msL (msL g a (g.2.2.1 a)) b (g.2.2.1 b) = g := by
  rw [msL_id]; exact msL_id g b
def gfF (one : Nat) (pl day here : Int32) : Nat → Tw → Nat → Nat × Nat → Nat × Nat
  | 0, T, _, st => (if heldB T one pl day = true then st.1 else st.1 + 1, st.2 + 1)
  | f + 1, T, p, st => if hasB here p = true then gfF one pl day here f (tS T 6 (va_up (T.2.2.2 6) p 1)) (p + 1) (gfF one pl day here f (tS T 6 (va_up (T.2.2.2 6) p 0)) (p + 1) st) else gfF one pl day here f T (p + 1) st
theorem gfF_b (one : Nat) (pl day here : Int32) : ∀ (f : Nat) (T : Tw) (p : Nat) (st : Nat × Nat), st.1 ≤ (gfF one pl day here f T p st).1 ∧ (gfF one pl day here f T p st).1 + st.2 ≤ st.1 + (gfF one pl day here f T p st).2 ∧ st.2 < (gfF one pl day here f T p st).2 ∧ (gfF one pl day here f T p st).2 ≤ st.2 + 2 ^ f
  | 0, T, p, st => by
    unfold gfF
    refine ⟨?_, ?_, ?_, ?_⟩
    · dsimp only
      split <;> omega
    · dsimp only
      split <;> omega
    · show st.2 < st.2 + 1
      omega
    · show st.2 + 1 ≤ st.2 + 2 ^ 0
      omega
  | f + 1, T, p, st => by
    unfold gfF
    have h2 : (2 : Nat) ^ (f + 1) = 2 ^ f + 2 ^ f := by rw [Nat.pow_succ]; omega
    split
    · obtain ⟨a1, a2, a3, a4⟩ := gfF_b one pl day here f (tS T 6 (va_up (T.2.2.2 6) p 0)) (p + 1) st
      obtain ⟨b1, b2, b3, b4⟩ := gfF_b one pl day here f (tS T 6 (va_up (T.2.2.2 6) p 1)) (p + 1) (gfF one pl day here f (tS T 6 (va_up (T.2.2.2 6) p 0)) (p + 1) st)
      exact ⟨by omega, by omega, by omega, by omega⟩
    · obtain ⟨a1, a2, a3, a4⟩ := gfF_b one pl day here f T (p + 1) st
      have : 0 < 2 ^ f := Nat.pow_pos (by omega)
      exact ⟨a1, a2, a3, by omega⟩
def gfR (g : MSt) (F : Nat → Int32) (x y : Int64) : MSt := msL (msL (msA g 11 F) 45 x) 46 y
theorem gfR_46 (g : MSt) (F : Nat → Int32) (x y z : Int64) : msL (gfR g F x y) 46 z = gfR g F x z := by
  refine Prod.ext rfl (Prod.ext rfl (Prod.ext ?_ rfl))
  show va_up (va_up (va_up g.2.2.1 45 x) 46 y) 46 z = va_up (va_up g.2.2.1 45 x) 46 z
  rw [bx_uu]
theorem gfR_45 (g : MSt) (F : Nat → Int32) (x y z : Int64) : msL (gfR g F x y) 45 z = gfR g F z y := by
  refine Prod.ext rfl (Prod.ext rfl (Prod.ext ?_ rfl))
  show va_up (va_up (va_up g.2.2.1 45 x) 46 y) 45 z = va_up (va_up g.2.2.1 45 z) 46 y
  rw [va_up_comm _ (by decide), bx_uu]
theorem gfR_11 (g : MSt) (F G : Nat → Int32) (x y : Int64) : msA (gfR g F x y) 11 G = gfR g G x y := by
  refine Prod.ext rfl (Prod.ext ?_ rfl)
  show va_up (va_up g.2.1 11 F) 11 G = va_up g.2.1 11 G
  rw [bx_uu]
theorem gfR_id (g : MSt) (x y : Int64) : gfR g (g.2.1 11) x y = msL (msL g 45 x) 46 y := by
  rw [gfR, msA_id]
theorem mT_gfR (g : MSt) (F : Nat → Int32) (x y : Int64) (nM : Nat) : mT (gfR g F x y) nM = tS (mT g nM) 6 F := by
  rw [← mT_forgot]; rfl
theorem tS_66 (T : Tw) (k : Nat) (F G : Nat → Int32) : tS (tS T k F) k G = tS T k G := by
  show (T.1, T.2.1, T.2.2.1, va_up (va_up T.2.2.2 k F) k G) = _
  rw [bx_uu]; rfl
theorem tS_6a (T : Tw) (k : Nat) (F : Nat → Int32) : (tS T k F).2.2.2 k = F := by
  show va_up T.2.2.2 k F k = F
  rw [va_up, if_pos rfl]
def lowV (a b : Nat) (part : Int32) : Int64 := if a = 0 then part.toInt64 else if part = 0 then lN (a / Nat.gcd a b) else lN (b / Nat.gcd a b)
def oddsP (g : MSt) (nM q : Nat) : Nat × Nat := gfF q (g.2.1 2 q) (g.1 14) (keptV (mT g nM) q (g.2.1 2 q) (g.1 14)) nM (mT g nM) 0 (0, 0)
def r_odds (g : MSt) (nM : Nat) (q part : Int32) : Int64 := if (inB q 0 (g.1 1 - 1) && inB part 0 1) = true then lowV (oddsP g nM q.toNatClampNeg).1 (oddsP g nM q.toNatClampNeg).2 part else -9223372036854775808
/-- n steps of a fold -/
def foldN {α : Type} (h : α → Nat → α) (s : α) : Nat → α
  | 0 => s
  | q + 1 => h (foldN h s q) q
abbrev FR : Type := (Nat → Int32) × (Nat → Int32) × Int32
def grF (home : Nat) : Nat → Nat → Nat → Int32 → Int32 → FR → FR
  | 0, at_, k, _, far, st => if st.2.2 < 0 ∨ far + nI (farN at_ home) < st.2.2 then (st.1, cpF st.2.1 st.1 k, far + nI (farN at_ home)) else st
  | f + 1, at_, k, left, far, st => foldN (fun s q => if hasB left q = true then grF home f q (k + 1) (left &&& (oneV q ^^^ (-1))) (far + nI (farN at_ q)) (va_up s.1 k (nI q), s.2) else s) st 25
def grS (g : MSt) (st : FR) : MSt := msS (msA (msA g 41 st.1) 42 st.2.1) 44 st.2.2
theorem grS_41 (g : MSt) (st : FR) (f : Nat → Int32) : msA (grS g st) 41 f = grS g (f, st.2) := by
  refine Prod.ext rfl (Prod.ext ?_ rfl)
  show va_up (va_up (va_up g.2.1 41 st.1) 42 st.2.1) 41 f = va_up (va_up g.2.1 41 f) 42 st.2.1
  rw [va_up_comm _ (by decide), bx_uu]
theorem grS_42 (g : MSt) (st : FR) (f : Nat → Int32) : msA (grS g st) 42 f = grS g (st.1, f, st.2.2) := by
  refine Prod.ext rfl (Prod.ext ?_ rfl)
  show va_up (va_up (va_up g.2.1 41 st.1) 42 st.2.1) 42 f = va_up (va_up g.2.1 41 st.1) 42 f
  rw [bx_uu]
theorem grS_44 (g : MSt) (st : FR) (v : Int32) : msS (grS g st) 44 v = grS g (st.1, st.2.1, v) := by
  refine Prod.ext ?_ rfl
  show va_up (va_up g.1 44 st.2.2) 44 v = va_up g.1 44 v
  rw [bx_uu]
def gbF (T : Tw) (one t : Nat) : Nat → Nat → Nat → Int32 → FR → FR
  | 0, pl, k, kept, st => if wgtV T (kept ||| keptV T one (nI pl) (nI (dayN t k))) ≤ st.2.2 then st else (st.1, cpF st.2.1 st.1 k, wgtV T (kept ||| keptV T one (nI pl) (nI (dayN t k))))
  | f + 1, pl, k, kept, st => foldN (fun s w => gbF T one t f (if heldB T one (nI pl) (nI (dayN t k)) = true then pl else stepN pl w) (k + 1) (kept ||| keptV T one (nI pl) (nI (dayN t k))) (va_up s.1 k (nI w), s.2)) st 5
def gbS (g : MSt) (st : FR) : MSt := msS (msA (msA g 38 st.1) 39 st.2.1) 40 st.2.2
theorem gbS_38 (g : MSt) (st : FR) (f : Nat → Int32) : msA (gbS g st) 38 f = gbS g (f, st.2) := by
  refine Prod.ext rfl (Prod.ext ?_ rfl)
  show va_up (va_up (va_up g.2.1 38 st.1) 39 st.2.1) 38 f = va_up (va_up g.2.1 38 f) 39 st.2.1
  rw [va_up_comm _ (by decide), bx_uu]
theorem gbS_39 (g : MSt) (st : FR) (f : Nat → Int32) : msA (gbS g st) 39 f = gbS g (st.1, f, st.2.2) := by
  refine Prod.ext rfl (Prod.ext ?_ rfl)
  show va_up (va_up (va_up g.2.1 38 st.1) 39 st.2.1) 39 f = va_up (va_up g.2.1 38 st.1) 39 f
  rw [bx_uu]
theorem gbS_40 (g : MSt) (st : FR) (v : Int32) : msS (gbS g st) 40 v = gbS g (st.1, st.2.1, v) := by
  refine Prod.ext ?_ rfl
  show va_up (va_up g.1 40 st.2.2) 40 v = va_up g.1 40 v
  rw [bx_uu]
theorem gbS_id (g : MSt) : gbS g (g.2.1 38, g.2.1 39, g.1 40) = g := by
  show msS (msA (msA g 38 (g.2.1 38)) 39 (g.2.1 39)) 40 (g.1 40) = g
  rw [msA_id, msA_id, msS_id]
theorem grS_id (g : MSt) : grS g (g.2.1 41, g.2.1 42, g.1 44) = g := by
  show msS (msA (msA g 41 (g.2.1 41)) 42 (g.2.1 42)) 44 (g.1 44) = g
  rw [msA_id, msA_id, msS_id]
def bestP (g : MSt) (nM t q l : Nat) : FR := gbF (mT g nM) q t l (g.2.1 2 q).toNatClampNeg 0 0 (g.2.1 38, g.2.1 39, -1)
def r_best (g : MSt) (nM t : Nat) (q l k : Int32) : Int32 := if (inB q 0 (g.1 1 - 1) && inB l 0 4 && inB k (-1) (l - 1)) = true then (if 0 ≤ k then (bestP g nM t q.toNatClampNeg l.toNatClampNeg).2.1 k.toNatClampNeg else (bestP g nM t q.toNatClampNeg l.toNatClampNeg).2.2) else -1
def gbH (T : Tw) (one t f pl k : Nat) (K : Int32) (s : FR) (w : Nat) : FR := gbF T one t f (if heldB T one (nI pl) (nI (dayN t k)) = true then pl else stepN pl w) (k + 1) K (va_up s.1 k (nI w), s.2)
theorem gbF_s (T : Tw) (one t f pl k : Nat) (kept : Int32) (st : FR) : gbF T one t (f + 1) pl k kept st = foldN (gbH T one t f pl k (kept ||| keptV T one (nI pl) (nI (dayN t k)))) st 5 := rfl
theorem gbH_t {T : Tw} {one t f pl k : Nat} (K : Int32) (st : FR) (w : Nat) (h : heldB T one (nI pl) (nI (dayN t k)) = true) : foldN (gbH T one t f pl k K) st (w + 1) = gbF T one t f pl (k + 1) K (va_up (foldN (gbH T one t f pl k K) st w).1 k (nI w), (foldN (gbH T one t f pl k K) st w).2) := by
  rw [foldN, gbH, if_pos h]
theorem gbH_f {T : Tw} {one t f pl k : Nat} (K : Int32) (st : FR) (w : Nat) (h : heldB T one (nI pl) (nI (dayN t k)) = false) : foldN (gbH T one t f pl k K) st (w + 1) = gbF T one t f (stepN pl w) (k + 1) K (va_up (foldN (gbH T one t f pl k K) st w).1 k (nI w), (foldN (gbH T one t f pl k K) st w).2) := by
  rw [foldN, gbH, if_neg (by rw [h]; decide)]
def grH (home f k : Nat) (at_ : Nat) (left far : Int32) (s : FR) (q : Nat) : FR := if hasB left q = true then grF home f q (k + 1) (left &&& (oneV q ^^^ (-1))) (far + nI (farN at_ q)) (va_up s.1 k (nI q), s.2) else s
theorem grF_s (home f at_ k : Nat) (left far : Int32) (st : FR) : grF home (f + 1) at_ k left far st = foldN (grH home f k at_ left far) st 25 := rfl
theorem grH_t {home f k at_ : Nat} {left far : Int32} (st : FR) {q : Nat} (h : hasB left q = true) : foldN (grH home f k at_ left far) st (q + 1) = grF home f q (k + 1) (left &&& (oneV q ^^^ (-1))) (far + nI (farN at_ q)) (va_up (foldN (grH home f k at_ left far) st q).1 k (nI q), (foldN (grH home f k at_ left far) st q).2) := by
  rw [foldN, grH, if_pos h]
theorem grH_f {home f k at_ : Nat} {left far : Int32} (st : FR) {q : Nat} (h : hasB left q = false) : foldN (grH home f k at_ left far) st (q + 1) = foldN (grH home f k at_ left far) st q := by
  rw [foldN, grH, if_neg (by rw [h]; decide)]
/-- popcount -/
def popN (s : Nat) : Nat := if h : s = 0 then 0 else s % 2 + popN (s / 2)
termination_by s
decreasing_by omega
theorem popN_2 (s : Nat) : popN s = s % 2 + popN (s / 2) := by
  by_cases h : s = 0
  · subst h; simp [popN]
  · rw [popN, dif_neg h]
theorem popN_p : ∀ s : Nat, s ≠ 0 → popN (s &&& (s - 1)) + 1 = popN s := by
  intro s
  induction s using Nat.strongRecOn with
  | _ s ih =>
    intro h
    rw [popN_2 (s &&& (s - 1)), popN_2 s, Nat.and_div_two]
    have e1 : (s &&& (s - 1)) % 2 = 0 := by
      have := Nat.and_mod_two_pow (a := s) (b := s - 1) (n := 1)
      rw [Nat.pow_one] at this
      rw [this]
      rcases Nat.mod_two_eq_zero_or_one s with h1 | h1
      · rw [h1, Nat.zero_and]
      · rw [show (s - 1) % 2 = 0 by omega, Nat.and_zero]
    rw [e1]
    rcases Nat.mod_two_eq_zero_or_one s with h1 | h1
    · rw [show (s - 1) / 2 = s / 2 - 1 by omega, h1]
      have := ih (s / 2) (by omega) (by omega)
      omega
    · rw [show (s - 1) / 2 = s / 2 by omega, h1, Nat.and_self]
      omega
theorem onesN_pop : ∀ s : Nat, onesN s = popN s := by
  intro s
  induction s using Nat.strongRecOn with
  | _ s ih =>
    by_cases h : s = 0
    · subst h; simp [onesN_0, popN]
    · rw [onesN_s h, ih _ (and_pred h), popN_p s h]
theorem popN_or : ∀ (k m : Nat), popN (m ||| 2 ^ k) ≤ popN m + 1
  | 0, m => by
    rw [popN_2 (m ||| 2 ^ 0), popN_2 m, Nat.or_div_two, show 2 ^ 0 / 2 = 0 by decide, Nat.or_zero]
    have : (m ||| 2 ^ 0) % 2 < 2 := Nat.mod_lt _ (by decide)
    omega
  | k + 1, m => by
    rw [popN_2 (m ||| 2 ^ (k + 1)), popN_2 m, Nat.or_div_two, show 2 ^ (k + 1) / 2 = 2 ^ k by rw [Nat.pow_succ]; omega]
    have e := Nat.or_mod_two_pow (a := m) (b := 2 ^ (k + 1)) (n := 1)
    rw [Nat.pow_one, show 2 ^ (k + 1) % 2 = 0 by rw [Nat.pow_succ]; omega, Nat.or_zero] at e
    have := popN_or k (m / 2)
    omega
theorem onesN_or (k m : Nat) : onesN (m ||| 2 ^ k) ≤ onesN m + 1 := by
  rw [onesN_pop, onesN_pop]; exact popN_or k m
def fdS (T : Tw) (pl : Nat → Int32) (day : Int32) : Nat → Nat
  | 0 => 0
  | j + 1 => if heldB T j (pl j) day = true then fdS T pl day j ||| 2 ^ (pl j).toNatClampNeg else fdS T pl day j
theorem fdS_t {T : Tw} {pl : Nat → Int32} {day : Int32} {j : Nat} (h : heldB T j (pl j) day = true) : fdS T pl day (j + 1) = fdS T pl day j ||| 2 ^ (pl j).toNatClampNeg := by
  rw [fdS, if_pos h]
theorem fdS_f {T : Tw} {pl : Nat → Int32} {day : Int32} {j : Nat} (h : heldB T j (pl j) day = false) : fdS T pl day (j + 1) = fdS T pl day j := by
  rw [fdS, if_neg (by rw [h]; decide)]
theorem fdS_ok {T : Tw} {pl : Nat → Int32} {day : Int32} {n : Nat} (hp : ∀ j, j < n → (pl j).toNatClampNeg < 25) : ∀ j, j ≤ n → fdS T pl day j < 2 ^ 25 ∧ onesN (fdS T pl day j) ≤ j
  | 0, _ => ⟨by show 0 < 2 ^ 25; decide, by show onesN 0 ≤ 0; rw [onesN_0]; exact Nat.le_refl _⟩
  | j + 1, h => by
    obtain ⟨h1, h2⟩ := fdS_ok (T := T) (day := day) hp j (by omega)
    rw [fdS]
    split
    · refine ⟨Nat.or_lt_two_pow h1 (Nat.pow_lt_pow_right (by decide) (hp j (by omega))), ?_⟩
      have := onesN_or (pl j).toNatClampNeg (fdS T pl day j)
      omega
    · exact ⟨h1, by omega⟩
def feedN (g : MSt) (nP nM : Nat) : Nat := fdS (mT g nM) (g.2.1 2) (g.1 14) nP
def feedP (g : MSt) (nP nM pl : Nat) : FR := grF pl (onesN (feedN g nP nM)) pl 0 (nI (feedN g nP nM)) 0 (g.2.1 41, g.2.1 42, -1)
def r_feeds (g : MSt) (nP nM : Nat) (place k : Int32) : Int32 := if (inB place 0 24 && decide (-1 ≤ k)) = true then (if 0 ≤ k then (if nI (onesN (feedN g nP nM)) ≤ k then -2 else (feedP g nP nM place.toNatClampNeg).2.1 k.toNatClampNeg) else (feedP g nP nM place.toNatClampNeg).2.2) else -1
theorem nI_below {v : Int32} {n : Nat} (h0 : 0 ≤ v) (hn : n ≤ 1000) (h : ¬ nI n ≤ v) : ∃ j, j < n ∧ v = nI j := by
  obtain ⟨j, hj, rfl⟩ := nI_of (x := v) (by rw [Int32.not_lt]; exact h0)
  rw [nI_leI (by omega) (by omega)] at h
  exact ⟨j, by omega, rfl⟩
