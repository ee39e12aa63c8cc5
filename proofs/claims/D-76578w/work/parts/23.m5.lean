/-! walks of the model 5 -/
abbrev QM_hereOf (D : DD) (o : Nat) (ad : Nat → Nat) (g : MSt) (q : Nat) (nM : Nat) : Int32 → Heap → Prop := fun r h => r = keptV (mT g nM) q (g.2.1 2 q) (g.1 14) ∧ MS D o ad g h
set_option maxHeartbeats 4000000 in
set_option maxRecDepth 100000 in
theorem cM_hereOf (l : Launch) (D : DD) (o : Nat) (ad : Nat → Nat) (g : MSt) (q : Nat) (nM : Nat) (hnM : g.1 4 = nI nM) (hn12 : nM ≤ 12) (hq : q < 6) : CTi l (EM D) yX5_hereOf cX5_hereOf 2 .int 3 69 0 0 (MA o ad) [.ref o, .int (nI q)] (MS D o ad g) (QM_hereOf D o ad g q nM) := by sorry
theorem hdX5_hereOf : hdV yX5_hereOf 1 := by decide +kernel
abbrev QM_dayFrom (D : DD) (o : Nat) (ad : Nat → Nat) (g : MSt) (q : Nat) (set : Int32) (day : Int32) (nM : Nat) (nL : Nat) : Int32 → Heap → Prop := fun r h => r = dfV (mT g nM) q set day 25 ∧ MS D o ad g h
set_option maxHeartbeats 4000000 in
set_option maxRecDepth 100000 in
theorem cM_dayFrom (l : Launch) (D : DD) (o : Nat) (ad : Nat → Nat) (g : MSt) (q : Nat) (set : Int32) (day : Int32) (nM : Nat) (nL : Nat) (hI : HI g nM nL) : CTi l (EM D) yX5_dayFrom cX5_dayFrom 7 .int 7 166 0 0 (MA o ad) [.ref o, .int (nI q), .int set, .int day] (MS D o ad g) (QM_dayFrom D o ad g q set day nM nL) := by sorry
theorem hdX5_dayFrom : hdV yX5_dayFrom 3 := by decide +kernel
abbrev QM_soonest (D : DD) (o : Nat) (ad : Nat → Nat) (g : MSt) (q : Int32) (place : Int32) (nP : Nat) (nM : Nat) (t : Nat) (nL : Nat) : Int32 → Heap → Prop := fun r h => r = r_soonest g nM t q place ∧ MS D o ad g h
set_option maxHeartbeats 4000000 in
set_option maxRecDepth 100000 in
theorem cM_soonest (l : Launch) (D : DD) (o : Nat) (ad : Nat → Nat) (g : MSt) (q : Int32) (place : Int32) (nP : Nat) (nM : Nat) (t : Nat) (nL : Nat) (hT : TI g nP nM t) (hI : HI g nM nL) : CTi l (EM D) yX5_soonest cX5_soonest 5 .int 8 192 0 0 (MA o ad) [.ref o, .int q, .int place] (MS D o ad g) (QM_soonest D o ad g q place nP nM t nL) := by sorry
theorem hdX5_soonest : hdV yX5_soonest 2 := by decide +kernel
abbrev QM_free (D : DD) (o : Nat) (ad : Nat → Nat) (g : MSt) (q : Int32) (nP : Nat) (nM : Nat) (t : Nat) (nL : Nat) : Int32 → Heap → Prop := fun r h => r = r_free g nM q ∧ MS D o ad g h
set_option maxHeartbeats 4000000 in
set_option maxRecDepth 100000 in
theorem cM_free (l : Launch) (D : DD) (o : Nat) (ad : Nat → Nat) (g : MSt) (q : Int32) (nP : Nat) (nM : Nat) (t : Nat) (nL : Nat) (hT : TI g nP nM t) (hI : HI g nM nL) : CTi l (EM D) yX5_free cX5_free 4 .int 7 166 0 0 (MA o ad) [.ref o, .int q] (MS D o ad g) (QM_free D o ad g q nP nM t nL) := by sorry
theorem hdX5_free : hdV yX5_free 1 := by decide +kernel
abbrev QM_freesBy (D : DD) (o : Nat) (ad : Nat → Nat) (g : MSt) (q : Nat) (set : Int32) (boots : Int32) (nM : Nat) (nL : Nat) : Int32 → Heap → Prop := fun r h => r = bI (frB (mT g nM) q (g.2.1 2 q) (g.1 14) set boots) ∧ MS D o ad g h
set_option maxHeartbeats 4000000 in
set_option maxRecDepth 100000 in
theorem cM_freesBy (l : Launch) (D : DD) (o : Nat) (ad : Nat → Nat) (g : MSt) (q : Nat) (set : Int32) (boots : Int32) (nM : Nat) (nL : Nat) (hI : HI g nM nL) (hq : q < 6) (hz : ∀ p, p < nM → hasB set p = true → g.2.1 12 p = 0) : CTi l (EM D) yX5_freesBy cX5_freesBy 7 .boolean 7 166 0 0 (MA o ad) [.ref o, .int (nI q), .int set, .int boots] (MS D o ad g) (QM_freesBy D o ad g q set boots nM nL) := by sorry
theorem hdX5_freesBy : hdV yX5_freesBy 3 := by decide +kernel
abbrev QM_words (D : DD) (o : Nat) (ad : Nat → Nat) (g : MSt) (q : Int32) (what : Int32) (nP : Nat) (nM : Nat) (t : Nat) (nL : Nat) : Int32 → Heap → Prop := fun r h => r = r_words g nM q what ∧ MS D o ad g h
set_option maxHeartbeats 4000000 in
set_option maxRecDepth 100000 in
theorem cM_words (l : Launch) (D : DD) (o : Nat) (ad : Nat → Nat) (g : MSt) (q : Int32) (what : Int32) (nP : Nat) (nM : Nat) (t : Nat) (nL : Nat) (hT : TI g nP nM t) (hI : HI g nM nL) : CTi l (EM D) yX5_words cX5_words 6 .int 8 192 0 0 (MA o ad) [.ref o, .int q, .int what] (MS D o ad g) (QM_words D o ad g q what nP nM t nL) := by sorry
theorem hdX5_words : hdV yX5_words 2 := by decide +kernel
abbrev QM_breaks (D : DD) (o : Nat) (ad : Nat → Nat) (g : MSt) (q : Int32) (what : Int32) (nP : Nat) (nM : Nat) (t : Nat) (nL : Nat) : Int32 → Heap → Prop := fun r h => r = r_breaks g nM q what ∧ MS D o ad g h
set_option maxHeartbeats 4000000 in
set_option maxRecDepth 100000 in
theorem cM_breaks (l : Launch) (D : DD) (o : Nat) (ad : Nat → Nat) (g : MSt) (q : Int32) (what : Int32) (nP : Nat) (nM : Nat) (t : Nat) (nL : Nat) (hT : TI g nP nM t) (hI : HI g nM nL) : CTi l (EM D) yX5_breaks cX5_breaks 6 .int 8 192 0 0 (MA o ad) [.ref o, .int q, .int what] (MS D o ad g) (QM_breaks D o ad g q what nP nM t nL) := by sorry
theorem hdX5_breaks : hdV yX5_breaks 2 := by decide +kernel
abbrev QM_nobodyHeld (D : DD) (o : Nat) (ad : Nat → Nat) (g : MSt) (nP : Nat) (nM : Nat) (nL : Nat) : Int32 → Heap → Prop := fun r h => r = bI (nobB (mT g nM) (g.2.1 2) nP (g.1 14)) ∧ MS D o ad g h
set_option maxHeartbeats 4000000 in
set_option maxRecDepth 100000 in
theorem cM_nobodyHeld (l : Launch) (D : DD) (o : Nat) (ad : Nat → Nat) (g : MSt) (nP : Nat) (nM : Nat) (nL : Nat) (hP_ : g.1 1 = nI nP) (hP6 : nP ≤ 6) (hI : HI g nM nL) : CTi l (EM D) yX5_nobodyHeld cX5_nobodyHeld 2 .boolean 7 166 0 0 (MA o ad) [.ref o] (MS D o ad g) (QM_nobodyHeld D o ad g nP nM nL) := by sorry
theorem hdX5_nobodyHeld : hdV yX5_nobodyHeld 0 := by decide +kernel
abbrev QM_promisedTo (D : DD) (o : Nat) (ad : Nat → Nat) (g : MSt) (set : Int32) (nM : Nat) (nP : Nat) : Int32 → Heap → Prop := fun r h => r = bitsB (toB (mF g) set) nM ∧ MS D o ad g h
set_option maxHeartbeats 4000000 in
set_option maxRecDepth 100000 in
theorem cM_promisedTo (l : Launch) (D : DD) (o : Nat) (ad : Nat → Nat) (g : MSt) (set : Int32) (nM : Nat) (nP : Nat) (hnM : g.1 4 = nI nM) (hn12 : nM ≤ 12) (hto : ∀ p, p < nM → ∃ b, b < nP ∧ g.2.1 6 p = nI b) (hP6 : nP ≤ 6) : CTi l (EM D) yX5_promisedTo cX5_promisedTo 4 .int 1 21 0 0 (MA o ad) [.ref o, .int set] (MS D o ad g) (QM_promisedTo D o ad g set nM nP) := by sorry
theorem hdX5_promisedTo : hdV yX5_promisedTo 1 := by decide +kernel
abbrev QM_allFree (D : DD) (o : Nat) (ad : Nat → Nat) (g : MSt) (set : Int32) (nP : Nat) (nM : Nat) (nL : Nat) : Int32 → Heap → Prop := fun r h => r = bI (alB (mT g nM) (g.2.1 2) nP (g.1 14) set) ∧ MS D o ad g h
set_option maxHeartbeats 4000000 in
set_option maxRecDepth 100000 in
theorem cM_allFree (l : Launch) (D : DD) (o : Nat) (ad : Nat → Nat) (g : MSt) (set : Int32) (nP : Nat) (nM : Nat) (nL : Nat) (hP_ : g.1 1 = nI nP) (hP6 : nP ≤ 6) (hto : ∀ p, p < nM → ∃ b, b < nP ∧ g.2.1 6 p = nI b) (hI : HI g nM nL) : CTi l (EM D) yX5_allFree cX5_allFree 5 .boolean 8 187 0 0 (MA o ad) [.ref o, .int set] (MS D o ad g) (QM_allFree D o ad g set nP nM nL) := by sorry
theorem hdX5_allFree : hdV yX5_allFree 1 := by decide +kernel
abbrev QM_all (D : DD) (o : Nat) (ad : Nat → Nat) (g : MSt) (what : Int32) (nP : Nat) (nM : Nat) (t : Nat) (nL : Nat) : Int32 → Heap → Prop := fun r h => r = r_all g nP nM what ∧ MS D o ad g h
set_option maxHeartbeats 4000000 in
set_option maxRecDepth 100000 in
theorem cM_all (l : Launch) (D : DD) (o : Nat) (ad : Nat → Nat) (g : MSt) (what : Int32) (nP : Nat) (nM : Nat) (t : Nat) (nL : Nat) (hT : TI g nP nM t) (hI : HI g nM nL) : CTi l (EM D) yX5_all cX5_all 4 .int 9 211 0 0 (MA o ad) [.ref o, .int what] (MS D o ad g) (QM_all D o ad g what nP nM t nL) := by sorry
theorem hdX5_all : hdV yX5_all 1 := by decide +kernel
