/-! walks of the model 4 -/
abbrev QM_bitsOf (D : DD) (H0 : Heap) (z : Nat) : Int32 → Heap → Prop := fun r h => r = nI (onesN z) ∧ H0 = h
set_option maxHeartbeats 4000000 in
set_option maxRecDepth 100000 in
theorem cM_bitsOf (l : Launch) (D : DD) (H0 : Heap) (z : Nat) (hz_ : z < 2 ^ 25) : CTi l (EM D) yX5_bitsOf cX5_bitsOf 3 .int 0 0 0 0 (fun _ => False) [.int (nI z)] (fun h => h = H0) (QM_bitsOf D H0 z) := by sorry
theorem hdX5_bitsOf : hdS yX5_bitsOf 1 := by decide +kernel
abbrev QM_stepped (D : DD) (H0 : Heap) (q : Nat) (v : Nat) : Int32 → Heap → Prop := fun r h => r = nI (stepN q v) ∧ H0 = h
set_option maxHeartbeats 4000000 in
set_option maxRecDepth 100000 in
theorem cM_stepped (l : Launch) (D : DD) (H0 : Heap) (q : Nat) (v : Nat) (hq_ : q < 25) (hv_ : v < 5) : CTi l (EM D) yX5_stepped cX5_stepped 4 .int 1 22 0 0 (fun _ => False) [.int (nI q), .int (nI v)] (fun h => h = H0) (QM_stepped D H0 q v) := by sorry
theorem hdX5_stepped : hdS yX5_stepped 2 := by decide +kernel
abbrev QM_farOf (D : DD) (H0 : Heap) (a : Nat) (b : Nat) : Int32 → Heap → Prop := fun r h => r = nI (farN a b) ∧ H0 = h
set_option maxHeartbeats 4000000 in
set_option maxRecDepth 100000 in
theorem cM_farOf (l : Launch) (D : DD) (H0 : Heap) (a : Nat) (b : Nat) (ha_ : a < 25) (hb_ : b < 25) : CTi l (EM D) yX5_farOf cX5_farOf 4 .int 0 0 0 0 (fun _ => False) [.int (nI a), .int (nI b)] (fun h => h = H0) (QM_farOf D H0 a b) := by sorry
theorem hdX5_farOf : hdS yX5_farOf 2 := by decide +kernel
abbrev QM_twoOf (D : DD) (H0 : Heap) (w_ : Int32) (a : Int32) (b : Int32) : Int32 → Heap → Prop := fun r h => r = twoV w_ a b ∧ H0 = h
set_option maxHeartbeats 4000000 in
set_option maxRecDepth 100000 in
theorem cM_twoOf (l : Launch) (D : DD) (H0 : Heap) (w_ : Int32) (a : Int32) (b : Int32) : CTi l (EM D) yX5_twoOf cX5_twoOf 3 .int 0 0 0 0 (fun _ => False) [.int w_, .int a, .int b] (fun h => h = H0) (QM_twoOf D H0 w_ a b) := by sorry
theorem hdX5_twoOf : hdS yX5_twoOf 3 := by decide +kernel
abbrev QM_worked (D : DD) (o : Nat) (ad : Nat → Nat) (g : MSt) (p : Nat) (a : Nat) (b : Nat) (fa : Nat → Int32) : Int32 → Heap → Prop := fun r h => ∃ (pi : Nat → Int32), r = valV fa (codeSl g a b) ∧ MH D o ad (mscr g fa pi) h
set_option maxHeartbeats 4000000 in
set_option maxRecDepth 100000 in
theorem cM_worked (l : Launch) (D : DD) (o : Nat) (ad : Nat → Nat) (g : MSt) (p : Nat) (a : Nat) (b : Nat) (fa : Nat → Int32) (hp_ : p < 1) (hab : a ≤ b) (hb130 : b ≤ 130) (hbal : balV 0 (codeSl g a b) = some 1) : CTi l (EM D) yX5_worked cX5_worked 7 .int 1 22 0 0 (MA o ad) [.ref o, .int (nI p), .int (nI a), .int (nI b)] (fun h => ∃ pi, MH D o ad (mscr g fa pi) h) (QM_worked D o ad g p a b fa) := by sorry
theorem hdX5_worked : hdV yX5_worked 3 := by decide +kernel
abbrev QM_gives (D : DD) (o : Nat) (ad : Nat → Nat) (g : MSt) (p : Nat) (fa : Nat → Int32) (nL : Nat) : Int32 → Heap → Prop := fun r h => ∃ (pi : Nat → Int32), r = givesV fa (mLines g) ∧ MH D o ad (mscr g fa pi) h
set_option maxHeartbeats 4000000 in
set_option maxRecDepth 100000 in
theorem cM_gives (l : Launch) (D : DD) (o : Nat) (ad : Nat → Nat) (g : MSt) (p : Nat) (fa : Nat → Int32) (nL : Nat) (hp_ : p < 1) (hL0 : g.2.1 30 0 = nI nL) (hL61 : nL ≤ 61) (hL : ∀ l, l < nL → g.2.1 31 l = nI (lnT g l) ∧ g.2.1 32 l = nI (lnE g l) ∧ lnA g l ≤ lnT g l ∧ lnT g l ≤ lnE g l ∧ lnE g l ≤ 130 ∧ (lnA g l < lnT g l → balV 0 (codeSl g (lnA g l) (lnT g l)) = some 1) ∧ balV 0 (codeSl g (lnT g l) (lnE g l)) = some 1) : CTi l (EM D) yX5_gives cX5_gives 4 .int 2 48 0 0 (MA o ad) [.ref o, .int (nI p)] (fun h => ∃ pi, MH D o ad (mscr g fa pi) h) (QM_gives D o ad g p fa nL) := by sorry
theorem hdX5_gives : hdV yX5_gives 1 := by decide +kernel
