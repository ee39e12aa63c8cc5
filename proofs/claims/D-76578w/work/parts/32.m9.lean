/-! walks of the model 9 -/
theorem hdX5_goForgot : hdV yX5_goForgot 3 := by decide +kernel
abbrev QM_goForgot (D : DD) (o : Nat) (ad : Nat → Nat) (g : MSt) (one : Nat) (here : Int32) (p : Nat) (f : Nat) (F : Nat → Int32) (a : Nat) (b : Nat) (nM : Nat) (nL : Nat) : Heap → Prop := fun h => MS D o ad (gfR g F (lN (gfF one (g.2.1 2 one) (g.1 14) here f (tS (mT g nM) 6 F) p (a, b)).1) (lN (gfF one (g.2.1 2 one) (g.1 14) here f (tS (mT g nM) 6 F) p (a, b)).2)) h
set_option maxHeartbeats 4000000 in
set_option maxRecDepth 100000 in
theorem cM_goForgot (l : Launch) (D : DD) (o : Nat) (ad : Nat → Nat) (g : MSt) (one : Nat) (here : Int32) (p : Nat) (f : Nat) (F : Nat → Int32) (a : Nat) (b : Nat) (nM : Nat) (nL : Nat) (hI : HI g nM nL) (hpf : p + f = nM) (ho : one < 6) (ihG : ∀ f2, f2 + 1 = f → ∀ (g : MSt) (one : Nat) (here : Int32) (p : Nat) (F : Nat → Int32) (a : Nat) (b : Nat) (nM : Nat) (nL : Nat), (HI g nM nL) → (p + f2 = nM) → (one < 6) → CTv l (EM D) yX5_goForgot cX5_goForgot 5 (10 + f2) (200 + 30 * f2) 0 0 (MA o ad) [.ref o, .int (nI one), .int here, .int (nI p)] (MS D o ad (gfR g F (lN a) (lN b))) (QM_goForgot D o ad g one here p f2 F a b nM nL)) : CTv l (EM D) yX5_goForgot cX5_goForgot 5 (10 + f) (200 + 30 * f) 0 0 (MA o ad) [.ref o, .int (nI one), .int here, .int (nI p)] (MS D o ad (gfR g F (lN a) (lN b))) (QM_goForgot D o ad g one here p f F a b nM nL) := by sorry
theorem goForgot_ (l : Launch) (D : DD) (o : Nat) (ad : Nat → Nat) : ∀ f : Nat, ∀ (g : MSt) (one : Nat) (here : Int32) (p : Nat) (F : Nat → Int32) (a : Nat) (b : Nat) (nM : Nat) (nL : Nat), (HI g nM nL) → (p + f = nM) → (one < 6) → CTv l (EM D) yX5_goForgot cX5_goForgot 5 (10 + f) (200 + 30 * f) 0 0 (MA o ad) [.ref o, .int (nI one), .int here, .int (nI p)] (MS D o ad (gfR g F (lN a) (lN b))) (QM_goForgot D o ad g one here p f F a b nM nL) := by
  intro f
  induction f with
  | zero => exact fun g one here p F a b nM nL a1 a2 a3 => cM_goForgot l D o ad g one here p 0 F a b nM nL a1 a2 a3 (fun f2 h => by omega)
  | succ f ih => exact fun g one here p F a b nM nL a1 a2 a3 => cM_goForgot l D o ad g one here p (f + 1) F a b nM nL a1 a2 a3 (fun f2 h => by cases h; exact ih)
def cG_goForgot (l : Launch) (D : DD) (o : Nat) (ad : Nat → Nat) (g : MSt) (one : Nat) (here : Int32) (p f : Nat) (F : Nat → Int32) (a b nM nL : Nat) := goForgot_ l D o ad f g one here p F a b nM nL
abbrev QM_lowest (D : DD) (H0 : Heap) (x : Int64) (y : Int64) (part : Int32) (a : Nat) (b : Nat) : Int64 → Heap → Prop := fun r h => r = lowV a b part ∧ H0 = h
set_option maxHeartbeats 4000000 in
set_option maxRecDepth 100000 in
theorem cM_lowest (l : Launch) (D : DD) (H0 : Heap) (x : Int64) (y : Int64) (part : Int32) (a : Nat) (b : Nat) (hx_ : x = lN a) (hy_ : y = lN b) (ha : a < 2 ^ 62) (hb_ : b < 2 ^ 62) : CTl l (EM D) yX5_lowest cX5_lowest 11 0 0 0 0 (fun _ => False) [.long x, .long y, .int part] (fun h => h = H0) (QM_lowest D H0 x y part a b) := by sorry
theorem hdX5_lowest : hdS yX5_lowest 3 := by decide +kernel
abbrev QM_odds (D : DD) (o : Nat) (ad : Nat → Nat) (g : MSt) (q : Int32) (part : Int32) (nP : Nat) (nM : Nat) (t : Nat) (nL : Nat) : Int64 → Heap → Prop := fun r h => ∃ (v1 : Int64), ∃ (v2 : Int64), r = r_odds g nM q part ∧ MS D o ad (msL (msL g 45 v1) 46 v2) h
set_option maxHeartbeats 4000000 in
set_option maxRecDepth 100000 in
theorem cM_odds (l : Launch) (D : DD) (o : Nat) (ad : Nat → Nat) (g : MSt) (q : Int32) (part : Int32) (nP : Nat) (nM : Nat) (t : Nat) (nL : Nat) (hT : TI g nP nM t) (hI : HI g nM nL) : CTl l (EM D) yX5_odds cX5_odds 3 30 700 0 0 (MA o ad) [.ref o, .int q, .int part] (MS D o ad g) (QM_odds D o ad g q part nP nM t nL) := by sorry
theorem hdX5_odds : hdV yX5_odds 2 := by decide +kernel
