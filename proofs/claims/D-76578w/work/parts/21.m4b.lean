/-! walks of the model 4 -/
abbrev QM_hardOn (D : DD) (o : Nat) (ad : Nat → Nat) (g : MSt) (p : Nat) (day : Int32) (nM : Nat) (nL : Nat) : Int32 → Heap → Prop := fun r h => r = hardV nM (mLaw g) (mF g) p day ∧ MS D o ad g h
set_option maxHeartbeats 4000000 in
set_option maxRecDepth 100000 in
theorem cM_hardOn (l : Launch) (D : DD) (o : Nat) (ad : Nat → Nat) (g : MSt) (p : Nat) (day : Int32) (nM : Nat) (nL : Nat) (hp : p < nM) (hI : HI g nM nL) : CTi l (EM D) yX5_hardOn cX5_hardOn 5 .int 3 71 0 0 (MA o ad) [.ref o, .int (nI p), .int day] (MS D o ad g) (QM_hardOn D o ad g p day nM nL) := by sorry
theorem hdX5_hardOn : hdV yX5_hardOn 2 := by decide +kernel
abbrev QM_holdsAt (D : DD) (o : Nat) (ad : Nat → Nat) (g : MSt) (p : Nat) (place : Int32) (day : Int32) (nM : Nat) (nL : Nat) : Int32 → Heap → Prop := fun r h => r = bI (holdsB (mT g nM) p place day) ∧ MS D o ad g h
set_option maxHeartbeats 4000000 in
set_option maxRecDepth 100000 in
theorem cM_holdsAt (l : Launch) (D : DD) (o : Nat) (ad : Nat → Nat) (g : MSt) (p : Nat) (place : Int32) (day : Int32) (nM : Nat) (nL : Nat) (hp : p < nM) (hI : HI g nM nL) : CTi l (EM D) yX5_holdsAt cX5_holdsAt 4 .boolean 4 95 0 0 (MA o ad) [.ref o, .int (nI p), .int place, .int day] (MS D o ad g) (QM_holdsAt D o ad g p place day nM nL) := by sorry
theorem hdX5_holdsAt : hdV yX5_holdsAt 3 := by decide +kernel
abbrev QM_heldBy (D : DD) (o : Nat) (ad : Nat → Nat) (g : MSt) (q : Nat) (place : Int32) (day : Int32) (nM : Nat) (nL : Nat) : Int32 → Heap → Prop := fun r h => r = nI (heldN (mT g nM) q place day nM) ∧ MS D o ad g h
set_option maxHeartbeats 4000000 in
set_option maxRecDepth 100000 in
theorem cM_heldBy (l : Launch) (D : DD) (o : Nat) (ad : Nat → Nat) (g : MSt) (q : Nat) (place : Int32) (day : Int32) (nM : Nat) (nL : Nat) (hI : HI g nM nL) : CTi l (EM D) yX5_heldBy cX5_heldBy 6 .int 5 118 0 0 (MA o ad) [.ref o, .int (nI q), .int place, .int day] (MS D o ad g) (QM_heldBy D o ad g q place day nM nL) := by sorry
theorem hdX5_heldBy : hdV yX5_heldBy 3 := by decide +kernel
abbrev QM_isHeld (D : DD) (o : Nat) (ad : Nat → Nat) (g : MSt) (q : Nat) (place : Int32) (day : Int32) (nM : Nat) (nL : Nat) : Int32 → Heap → Prop := fun r h => r = bI (heldB (mT g nM) q place day) ∧ MS D o ad g h
set_option maxHeartbeats 4000000 in
set_option maxRecDepth 100000 in
theorem cM_isHeld (l : Launch) (D : DD) (o : Nat) (ad : Nat → Nat) (g : MSt) (q : Nat) (place : Int32) (day : Int32) (nM : Nat) (nL : Nat) (hI : HI g nM nL) : CTi l (EM D) yX5_isHeld cX5_isHeld 4 .boolean 6 143 0 0 (MA o ad) [.ref o, .int (nI q), .int place, .int day] (MS D o ad g) (QM_isHeld D o ad g q place day nM nL) := by sorry
theorem hdX5_isHeld : hdV yX5_isHeld 3 := by decide +kernel
abbrev QM_hardestNow (D : DD) (o : Nat) (ad : Nat → Nat) (g : MSt) (q : Nat) (nM : Nat) (nL : Nat) : Int32 → Heap → Prop := fun r h => r = hdstV (mT g nM) q (g.2.1 2 q) (g.1 14) nM ∧ MS D o ad g h
set_option maxHeartbeats 4000000 in
set_option maxRecDepth 100000 in
theorem cM_hardestNow (l : Launch) (D : DD) (o : Nat) (ad : Nat → Nat) (g : MSt) (q : Nat) (nM : Nat) (nL : Nat) (hI : HI g nM nL) (hq : q < 6) : CTi l (EM D) yX5_hardestNow cX5_hardestNow 4 .int 4 95 0 0 (MA o ad) [.ref o, .int (nI q)] (MS D o ad g) (QM_hardestNow D o ad g q nM nL) := by sorry
theorem hdX5_hardestNow : hdV yX5_hardestNow 1 := by decide +kernel
abbrev QM_held (D : DD) (o : Nat) (ad : Nat → Nat) (g : MSt) (q : Int32) (what : Int32) (nP : Nat) (nM : Nat) (t : Nat) (nL : Nat) : Int32 → Heap → Prop := fun r h => r = r_held g nM q what ∧ MS D o ad g h
set_option maxHeartbeats 4000000 in
set_option maxRecDepth 100000 in
theorem cM_held (l : Launch) (D : DD) (o : Nat) (ad : Nat → Nat) (g : MSt) (q : Int32) (what : Int32) (nP : Nat) (nM : Nat) (t : Nat) (nL : Nat) (hT : TI g nP nM t) (hI : HI g nM nL) : CTi l (EM D) yX5_held cX5_held 3 .int 6 143 0 0 (MA o ad) [.ref o, .int q, .int what] (MS D o ad g) (QM_held D o ad g q what nP nM t nL) := by sorry
theorem hdX5_held : hdV yX5_held 2 := by decide +kernel
abbrev QM_hard (D : DD) (o : Nat) (ad : Nat → Nat) (g : MSt) (m : Int32) (nP : Nat) (nM : Nat) (t : Nat) (nL : Nat) : Int32 → Heap → Prop := fun r h => r = r_hard g nM m ∧ MS D o ad g h
set_option maxHeartbeats 4000000 in
set_option maxRecDepth 100000 in
theorem cM_hard (l : Launch) (D : DD) (o : Nat) (ad : Nat → Nat) (g : MSt) (m : Int32) (nP : Nat) (nM : Nat) (t : Nat) (nL : Nat) (hT : TI g nP nM t) (hI : HI g nM nL) : CTi l (EM D) yX5_hard cX5_hard 2 .int 4 95 0 0 (MA o ad) [.ref o, .int m] (MS D o ad g) (QM_hard D o ad g m nP nM t nL) := by sorry
theorem hdX5_hard : hdV yX5_hard 1 := by decide +kernel
abbrev QM_rowFault (D : DD) (o : Nat) (ad : Nat → Nat) (g : MSt) (s : Nat) : Int32 → Heap → Prop := fun r h => r = flt g s ∧ MS D o ad g h
set_option maxHeartbeats 4000000 in
set_option maxRecDepth 100000 in
theorem cM_rowFault (l : Launch) (D : DD) (o : Nat) (ad : Nat → Nat) (g : MSt) (s : Nat) (hs_ : s < 6) : CTi l (EM D) yX5_rowFault cX5_rowFault 2 .int 0 0 0 0 (MA o ad) [.ref o, .int (nI s)] (MS D o ad g) (QM_rowFault D o ad g s) := by sorry
theorem hdX5_rowFault : hdV yX5_rowFault 1 := by decide +kernel
abbrev QM_at (D : DD) (o : Nat) (ad : Nat → Nat) (g : MSt) (s : Nat) (k : Nat) : Int32 → Heap → Prop := fun r h => r = elV g s k ∧ MS D o ad g h
set_option maxHeartbeats 4000000 in
set_option maxRecDepth 100000 in
theorem cM_at (l : Launch) (D : DD) (o : Nat) (ad : Nat → Nat) (g : MSt) (s : Nat) (k : Nat) (hs_ : s < 6) (hk_ : k < 60) : CTi l (EM D) yX5_at cX5_at 3 .int 0 0 0 0 (MA o ad) [.ref o, .int (nI s), .int (nI k)] (MS D o ad g) (QM_at D o ad g s k) := by sorry
theorem hdX5_at : hdV yX5_at 2 := by decide +kernel
abbrev QM_stepsOf (D : DD) (o : Nat) (ad : Nat → Nat) (g : MSt) (s : Nat) (n : Nat) : Int32 → Heap → Prop := fun r h => r = nI (stepsN g s n) ∧ MS D o ad g h
set_option maxHeartbeats 4000000 in
set_option maxRecDepth 100000 in
theorem cM_stepsOf (l : Launch) (D : DD) (o : Nat) (ad : Nat → Nat) (g : MSt) (s : Nat) (n : Nat) (hs_ : s < 6) (hn_ : g.2.1 64 s = nI n) (hn60 : n ≤ 60) : CTi l (EM D) yX5_stepsOf cX5_stepsOf 3 .int 1 22 0 0 (MA o ad) [.ref o, .int (nI s)] (MS D o ad g) (QM_stepsOf D o ad g s n) := by sorry
theorem hdX5_stepsOf : hdV yX5_stepsOf 1 := by decide +kernel
abbrev QM_keptAt (D : DD) (o : Nat) (ad : Nat → Nat) (g : MSt) (q : Nat) (place : Int32) (day : Int32) (nM : Nat) : Int32 → Heap → Prop := fun r h => r = keptV (mT g nM) q place day ∧ MS D o ad g h
set_option maxHeartbeats 4000000 in
set_option maxRecDepth 100000 in
theorem cM_keptAt (l : Launch) (D : DD) (o : Nat) (ad : Nat → Nat) (g : MSt) (q : Nat) (place : Int32) (day : Int32) (nM : Nat) (hnM : g.1 4 = nI nM) (hn12 : nM ≤ 12) : CTi l (EM D) yX5_keptAt cX5_keptAt 6 .int 2 44 0 0 (MA o ad) [.ref o, .int (nI q), .int place, .int day] (MS D o ad g) (QM_keptAt D o ad g q place day nM) := by sorry
theorem hdX5_keptAt : hdV yX5_keptAt 3 := by decide +kernel
abbrev QM_weightsOf (D : DD) (o : Nat) (ad : Nat → Nat) (g : MSt) (b : Int32) (nM : Nat) : Int32 → Heap → Prop := fun r h => r = wgtV (mT g nM) b ∧ MS D o ad g h
set_option maxHeartbeats 4000000 in
set_option maxRecDepth 100000 in
theorem cM_weightsOf (l : Launch) (D : DD) (o : Nat) (ad : Nat → Nat) (g : MSt) (b : Int32) (nM : Nat) (hnM : g.1 4 = nI nM) (hn12 : nM ≤ 12) : CTi l (EM D) yX5_weightsOf cX5_weightsOf 4 .int 1 21 0 0 (MA o ad) [.ref o, .int b] (MS D o ad g) (QM_weightsOf D o ad g b nM) := by sorry
theorem hdX5_weightsOf : hdV yX5_weightsOf 1 := by decide +kernel
