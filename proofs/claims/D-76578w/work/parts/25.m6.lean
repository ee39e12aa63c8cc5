/-! walks of the model 6 -/
abbrev QM_heldToward (D : DD) (o : Nat) (ad : Nat → Nat) (g : MSt) (set : Int32) (nM : Nat) (nL : Nat) (nP : Nat) : Int32 → Heap → Prop := fun r h => r = hdTw (mT g nM) (g.2.1 2) set (g.1 14) nM ∧ MS D o ad g h
set_option maxHeartbeats 4000000 in
set_option maxRecDepth 100000 in
theorem cM_heldToward (l : Launch) (D : DD) (o : Nat) (ad : Nat → Nat) (g : MSt) (set : Int32) (nM : Nat) (nL : Nat) (nP : Nat) (hto : ∀ p, p < nM → ∃ b, b < nP ∧ g.2.1 6 p = nI b) (hP6 : nP ≤ 6) (hI : HI g nM nL) : CTi l (EM D) yX5_heldToward cX5_heldToward 4 .int 5 118 0 0 (MA o ad) [.ref o, .int set] (MS D o ad g) (QM_heldToward D o ad g set nM nL nP) := by sorry
theorem hdX5_heldToward : hdV yX5_heldToward 1 := by decide +kernel
abbrev QM_ring (D : DD) (o : Nat) (ad : Nat → Nat) (g : MSt) (nP : Nat) (nM : Nat) (t : Nat) (nL : Nat) : Int32 → Heap → Prop := fun r h => r = rgB (mT g nM) (g.2.1 2) (g.1 14) nP nP ∧ MS D o ad g h
set_option maxHeartbeats 4000000 in
set_option maxRecDepth 100000 in
theorem cM_ring (l : Launch) (D : DD) (o : Nat) (ad : Nat → Nat) (g : MSt) (nP : Nat) (nM : Nat) (t : Nat) (nL : Nat) (hT : TI g nP nM t) (hI : HI g nM nL) : CTi l (EM D) yX5_ring cX5_ring 5 .int 6 141 0 0 (MA o ad) [.ref o] (MS D o ad g) (QM_ring D o ad g nP nM t nL) := by sorry
theorem hdX5_ring : hdV yX5_ring 0 := by decide +kernel
abbrev QM_areShelves (D : DD) (H0 : Heap) (s : Int32) : Int32 → Heap → Prop := fun r h => r = bI (areShB s) ∧ H0 = h
set_option maxHeartbeats 4000000 in
set_option maxRecDepth 100000 in
theorem cM_areShelves (l : Launch) (D : DD) (H0 : Heap) (s : Int32) : CTi l (EM D) yX5_areShelves cX5_areShelves 1 .boolean 2 42 0 0 (fun _ => False) [.int s] (fun h => h = H0) (QM_areShelves D H0 s) := by sorry
theorem hdX5_areShelves : hdS yX5_areShelves 1 := by decide +kernel
abbrev QM_judge (D : DD) (o : Nat) (ad : Nat → Nat) (g : MSt) (ss : Int32) (q : Int32) (nP : Nat) (nM : Nat) (t : Nat) (nL : Nat) (nb : Nat) : Int32 → Heap → Prop := fun r h => r = r_judge g nM t ss q ∧ MS D o ad g h
set_option maxHeartbeats 4000000 in
set_option maxRecDepth 100000 in
theorem cM_judge (l : Launch) (D : DD) (o : Nat) (ad : Nat → Nat) (g : MSt) (ss : Int32) (q : Int32) (nP : Nat) (nM : Nat) (t : Nat) (nL : Nat) (nb : Nat) (hT : TI g nP nM t) (hI : HI g nM nL) (hS_ : SHI g nb) (hnb2 : nb ≤ 50) : CTi l (EM D) yX5_judge cX5_judge 7 .int 7 166 0 0 (MA o ad) [.ref o, .int ss, .int q] (MS D o ad g) (QM_judge D o ad g ss q nP nM t nL nb) := by sorry
theorem hdX5_judge : hdV yX5_judge 2 := by decide +kernel
abbrev QM_canBe (D : DD) (o : Nat) (ad : Nat → Nat) (g : MSt) (s : Nat) (q : Nat) (nP : Nat) (nM : Nat) (t : Nat) (nL : Nat) (n : Nat) : Int32 → Heap → Prop := fun r h => r = bI (cbB g (mT g nM) t s q) ∧ MS D o ad g h
set_option maxHeartbeats 4000000 in
set_option maxRecDepth 100000 in
theorem cM_canBe (l : Launch) (D : DD) (o : Nat) (ad : Nat → Nat) (g : MSt) (s : Nat) (q : Nat) (nP : Nat) (nM : Nat) (t : Nat) (nL : Nat) (n : Nat) (hT : TI g nP nM t) (hI : HI g nM nL) (hs_ : s < 6) (hn_ : g.2.1 64 s = nI n) (hn60 : n ≤ 60) (hq : q < nP) : CTi l (EM D) yX5_canBe cX5_canBe 6 .boolean 8 192 0 0 (MA o ad) [.ref o, .int (nI s), .int (nI q)] (MS D o ad g) (QM_canBe D o ad g s q nP nM t nL n) := by sorry
theorem hdX5_canBe : hdV yX5_canBe 2 := by decide +kernel
abbrev QM_can (D : DD) (o : Nat) (ad : Nat → Nat) (g : MSt) (s : Int32) (q : Int32) (nP : Nat) (nM : Nat) (t : Nat) (nL : Nat) (nb : Nat) : Int32 → Heap → Prop := fun r h => r = r_can g nM t s q ∧ MS D o ad g h
set_option maxHeartbeats 4000000 in
set_option maxRecDepth 100000 in
theorem cM_can (l : Launch) (D : DD) (o : Nat) (ad : Nat → Nat) (g : MSt) (s : Int32) (q : Int32) (nP : Nat) (nM : Nat) (t : Nat) (nL : Nat) (nb : Nat) (hT : TI g nP nM t) (hI : HI g nM nL) (hS_ : SHI g nb) (hnb2 : nb ≤ 50) : CTi l (EM D) yX5_can cX5_can 3 .int 9 217 0 0 (MA o ad) [.ref o, .int s, .int q] (MS D o ad g) (QM_can D o ad g s q nP nM t nL nb) := by sorry
theorem hdX5_can : hdV yX5_can 2 := by decide +kernel
abbrev QM_who (D : DD) (o : Nat) (ad : Nat → Nat) (g : MSt) (s : Int32) (nP : Nat) (nM : Nat) (t : Nat) (nL : Nat) (nb : Nat) : Int32 → Heap → Prop := fun r h => r = r_who g nP nM t s ∧ MS D o ad g h
set_option maxHeartbeats 4000000 in
set_option maxRecDepth 100000 in
theorem cM_who (l : Launch) (D : DD) (o : Nat) (ad : Nat → Nat) (g : MSt) (s : Int32) (nP : Nat) (nM : Nat) (t : Nat) (nL : Nat) (nb : Nat) (hT : TI g nP nM t) (hI : HI g nM nL) (hS_ : SHI g nb) (hnb2 : nb ≤ 50) : CTi l (EM D) yX5_who cX5_who 4 .int 9 217 0 0 (MA o ad) [.ref o, .int s] (MS D o ad g) (QM_who D o ad g s nP nM t nL nb) := by sorry
theorem hdX5_who : hdV yX5_who 1 := by decide +kernel
abbrev QM_step (D : DD) (o : Nat) (ad : Nat → Nat) (g : MSt) (q : Int32) (w_ : Int32) (nP : Nat) (nM : Nat) (t : Nat) (nL : Nat) : Int32 → Heap → Prop := fun r h => r = r_step g nM q w_ ∧ MS D o ad (n_step g nM q w_) h
set_option maxHeartbeats 4000000 in
set_option maxRecDepth 100000 in
theorem cM_step (l : Launch) (D : DD) (o : Nat) (ad : Nat → Nat) (g : MSt) (q : Int32) (w_ : Int32) (nP : Nat) (nM : Nat) (t : Nat) (nL : Nat) (hT : TI g nP nM t) (hI : HI g nM nL) : CTi l (EM D) yX5_step cX5_step 3 .int 7 166 0 0 (MA o ad) [.ref o, .int q, .int w_] (MS D o ad g) (QM_step D o ad g q w_ nP nM t nL) := by sorry
theorem hdX5_step : hdV yX5_step 2 := by decide +kernel
abbrev QM_pull (D : DD) (o : Nat) (ad : Nat → Nat) (g : MSt) (m : Int32) (nP : Nat) (nM : Nat) (t : Nat) (nL : Nat) : Int32 → Heap → Prop := fun r h => r = r_pull g nM m ∧ MS D o ad (n_pull g nM m) h
set_option maxHeartbeats 4000000 in
set_option maxRecDepth 100000 in
theorem cM_pull (l : Launch) (D : DD) (o : Nat) (ad : Nat → Nat) (g : MSt) (m : Int32) (nP : Nat) (nM : Nat) (t : Nat) (nL : Nat) (hT : TI g nP nM t) (hI : HI g nM nL) : CTi l (EM D) yX5_pull cX5_pull 3 .int 5 118 0 0 (MA o ad) [.ref o, .int m] (MS D o ad g) (QM_pull D o ad g m nP nM t nL) := by sorry
theorem hdX5_pull : hdV yX5_pull 1 := by decide +kernel
