/-! walks of the model 6b -/
abbrev QM_route (D : DD) (o : Nat) (ad : Nat → Nat) (g : MSt) (s : Int32) (n : Int32) (q : Int32) (what : Int32) (nP : Nat) (nM : Nat) (t : Nat) (nL : Nat) (nb : Nat) : Int32 → Heap → Prop := fun r h => ∃ (v1 : Int32), ∃ (v2 : Int32), r = r_route g nM t s n q what ∧ MS D o ad (msS (msS g 36 v1) 37 v2) h
set_option maxHeartbeats 4000000 in
set_option maxRecDepth 100000 in
theorem cM_route (l : Launch) (D : DD) (o : Nat) (ad : Nat → Nat) (g : MSt) (s : Int32) (n : Int32) (q : Int32) (what : Int32) (nP : Nat) (nM : Nat) (t : Nat) (nL : Nat) (nb : Nat) (hT : TI g nP nM t) (hI : HI g nM nL) (hS_ : SHI g nb) (hnb2 : nb ≤ 50) : CTi l (EM D) yX5_route cX5_route 8 .int 7 166 0 0 (MA o ad) [.ref o, .int s, .int n, .int q, .int what] (MS D o ad g) (QM_route D o ad g s n q what nP nM t nL nb) := by sorry
theorem hdX5_route : hdV yX5_route 4 := by decide +kernel
abbrev QM_rued (D : DD) (o : Nat) (ad : Nat → Nat) (g : MSt) (q : Int32) (x : Int32) (nP : Nat) (nM : Nat) (t : Nat) (nL : Nat) : Int32 → Heap → Prop := fun r h => r = r_rued g nM t q x ∧ MS D o ad g h
set_option maxHeartbeats 4000000 in
set_option maxRecDepth 100000 in
theorem cM_rued (l : Launch) (D : DD) (o : Nat) (ad : Nat → Nat) (g : MSt) (q : Int32) (x : Int32) (nP : Nat) (nM : Nat) (t : Nat) (nL : Nat) (hT : TI g nP nM t) (hI : HI g nM nL) : CTi l (EM D) yX5_rued cX5_rued 7 .int 8 192 0 0 (MA o ad) [.ref o, .int q, .int x] (MS D o ad g) (QM_rued D o ad g q x nP nM t nL) := by sorry
theorem hdX5_rued : hdV yX5_rued 2 := by decide +kernel
