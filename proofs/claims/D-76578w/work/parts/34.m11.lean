/-! walks of the model 11 -/
theorem hdX5_goRound : hdV yX5_goRound 5 := by decide +kernel
abbrev QM_goRound (D : DD) (o : Nat) (ad : Nat → Nat) (g : MSt) (home : Nat) (at_ : Nat) (k : Nat) (left : Int32) (far : Int32) (f : Nat) (A : Nat → Int32) (B : Nat → Int32) (v : Int32) (rM : Nat) : Heap → Prop := fun h => MS D o ad (grS g (grF home f at_ k left far (A, B, v))) h
set_option maxHeartbeats 4000000 in
set_option maxRecDepth 100000 in
theorem cM_goRound (l : Launch) (D : DD) (o : Nat) (ad : Nat → Nat) (g : MSt) (home : Nat) (at_ : Nat) (k : Nat) (left : Int32) (far : Int32) (f : Nat) (A : Nat → Int32) (B : Nat → Int32) (v : Int32) (rM : Nat) (hrM : g.1 43 = nI rM) (hr6 : rM ≤ 6) (hkf : k + f = rM) (hho : home < 25) (hat : at_ < 25) (ihR : ∀ f2, f2 + 1 = f → ∀ (g : MSt) (home : Nat) (at_ : Nat) (k : Nat) (left : Int32) (far : Int32) (A : Nat → Int32) (B : Nat → Int32) (v : Int32) (rM : Nat), (g.1 43 = nI rM) → (rM ≤ 6) → (k + f2 = rM) → (home < 25) → (at_ < 25) → CTv l (EM D) yX5_goRound cX5_goRound 8 (4 + f2) (80 + 40 * f2) 0 0 (MA o ad) [.ref o, .int (nI home), .int (nI at_), .int (nI k), .int left, .int far] (MS D o ad (grS g (A, B, v))) (QM_goRound D o ad g home at_ k left far f2 A B v rM)) : CTv l (EM D) yX5_goRound cX5_goRound 8 (4 + f) (80 + 40 * f) 0 0 (MA o ad) [.ref o, .int (nI home), .int (nI at_), .int (nI k), .int left, .int far] (MS D o ad (grS g (A, B, v))) (QM_goRound D o ad g home at_ k left far f A B v rM) := by sorry
theorem goRound_ (l : Launch) (D : DD) (o : Nat) (ad : Nat → Nat) : ∀ f : Nat, ∀ (g : MSt) (home : Nat) (at_ : Nat) (k : Nat) (left : Int32) (far : Int32) (A : Nat → Int32) (B : Nat → Int32) (v : Int32) (rM : Nat), (g.1 43 = nI rM) → (rM ≤ 6) → (k + f = rM) → (home < 25) → (at_ < 25) → CTv l (EM D) yX5_goRound cX5_goRound 8 (4 + f) (80 + 40 * f) 0 0 (MA o ad) [.ref o, .int (nI home), .int (nI at_), .int (nI k), .int left, .int far] (MS D o ad (grS g (A, B, v))) (QM_goRound D o ad g home at_ k left far f A B v rM) := by
  intro f
  induction f with
  | zero => exact fun g home at_ k left far A B v rM a1 a2 a3 a4 a5 => cM_goRound l D o ad g home at_ k left far 0 A B v rM a1 a2 a3 a4 a5 (fun f2 h => by omega)
  | succ f ih => exact fun g home at_ k left far A B v rM a1 a2 a3 a4 a5 => cM_goRound l D o ad g home at_ k left far (f + 1) A B v rM a1 a2 a3 a4 a5 (fun f2 h => by cases h; exact ih)
def cG_goRound (l : Launch) (D : DD) (o : Nat) (ad : Nat → Nat) (g : MSt) (home at_ k : Nat) (left far : Int32) (f : Nat) (A B : Nat → Int32) (v : Int32) (rM : Nat) := goRound_ l D o ad f g home at_ k left far A B v rM
abbrev QM_feeds (D : DD) (o : Nat) (ad : Nat → Nat) (g : MSt) (place : Int32) (kk : Int32) (nP : Nat) (nM : Nat) (t : Nat) (nL : Nat) : Int32 → Heap → Prop := fun r h => ∃ (v0 : Int32), ∃ (v1 : Nat → Int32), ∃ (v2 : Nat → Int32), ∃ (v3 : Int32), r = r_feeds g nP nM place kk ∧ MS D o ad (grS (msS g 43 v0) (v1, v2, v3)) h
set_option maxHeartbeats 4000000 in
set_option maxRecDepth 100000 in
theorem cM_feeds (l : Launch) (D : DD) (o : Nat) (ad : Nat → Nat) (g : MSt) (place : Int32) (kk : Int32) (nP : Nat) (nM : Nat) (t : Nat) (nL : Nat) (hT : TI g nP nM t) (hI : HI g nM nL) : CTi l (EM D) yX5_feeds cX5_feeds 5 .int 30 700 0 0 (MA o ad) [.ref o, .int place, .int kk] (MS D o ad g) (QM_feeds D o ad g place kk nP nM t nL) := by sorry
theorem hdX5_feeds : hdV yX5_feeds 2 := by decide +kernel
