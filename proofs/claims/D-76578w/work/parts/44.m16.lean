/-! walks of the model 16: bodies -/
abbrev QM_plainHolds (D : DD) (o : Nat) (ad : Nat → Nat) (g : MSt) (b : Nat) (x : Int32) (n_ : Nat) (κ : Int32) : Int32 → Heap → Prop := fun r h => r = x + nI b ∧ MS D o ad (ranL g n_ ([1])) h
set_option maxHeartbeats 4000000 in
set_option maxRecDepth 100000 in
theorem cM_plainHolds (l : Launch) (D : DD) (o : Nat) (ad : Nat → Nat) (g : MSt) (b : Nat) (x : Int32) (n_ : Nat) (κ : Int32) (hr1 : g.1 61 = nI n_) (hr2 : n_ < 990) (hb50 : b < 50) (hk : g.2.1 60 b = κ) : CTi l (EM D) yX5_plainHolds cX5_plainHolds 3 .int 1 21 0 0 (MA o ad) [.ref o, .int (nI b), .int x] (MS D o ad g) (QM_plainHolds D o ad g b x n_ κ) := by sorry
theorem hdX5_plainHolds : hdV yX5_plainHolds 2 := by decide +kernel
abbrev QM_pittHolds (D : DD) (o : Nat) (ad : Nat → Nat) (g : MSt) (b : Nat) (x : Int32) (n_ : Nat) (κ : Int32) : Int32 → Heap → Prop := fun r h => r = (x + nI b) * 2 ∧ MS D o ad (ranL g n_ ([70, 1])) h
set_option maxHeartbeats 4000000 in
set_option maxRecDepth 100000 in
theorem cM_pittHolds (l : Launch) (D : DD) (o : Nat) (ad : Nat → Nat) (g : MSt) (b : Nat) (x : Int32) (n_ : Nat) (κ : Int32) (hr1 : g.1 61 = nI n_) (hr2 : n_ < 985) (hb50 : b < 50) (hk : g.2.1 60 b = κ) : CTi l (EM D) yX5_pittHolds cX5_pittHolds 3 .int 2 43 0 0 (MA o ad) [.ref o, .int (nI b), .int x] (MS D o ad g) (QM_pittHolds D o ad g b x n_ κ) := by sorry
theorem hdX5_pittHolds : hdV yX5_pittHolds 2 := by decide +kernel
abbrev QM_holding (D : DD) (o : Nat) (ad : Nat → Nat) (g : MSt) (b : Nat) (x : Int32) (n_ : Nat) (κ : Int32) : Int32 → Heap → Prop := fun r h => r = hoV κ x (nI b) ∧ MS D o ad (ranL g n_ (hoL κ)) h
set_option maxHeartbeats 4000000 in
set_option maxRecDepth 100000 in
theorem cM_holding (l : Launch) (D : DD) (o : Nat) (ad : Nat → Nat) (g : MSt) (b : Nat) (x : Int32) (n_ : Nat) (κ : Int32) (hr1 : g.1 61 = nI n_) (hr2 : n_ < 980) (hb50 : b < 50) (hk : g.2.1 60 b = κ) : CTi l (EM D) yX5_holding cX5_holding 3 .int 3 65 0 0 (MA o ad) [.ref o, .int (nI b), .int x] (MS D o ad g) (QM_holding D o ad g b x n_ κ) := by sorry
theorem hdX5_holding : hdV yX5_holding 2 := by decide +kernel
abbrev QM_plainPulls (D : DD) (o : Nat) (ad : Nat → Nat) (g : MSt) (b : Nat) (x : Int32) (n_ : Nat) (κ : Int32) : Int32 → Heap → Prop := fun r h => r = ppV κ x (nI b) ∧ MS D o ad (ranL g n_ (ppL κ)) h
set_option maxHeartbeats 4000000 in
set_option maxRecDepth 100000 in
theorem cM_plainPulls (l : Launch) (D : DD) (o : Nat) (ad : Nat → Nat) (g : MSt) (b : Nat) (x : Int32) (n_ : Nat) (κ : Int32) (hr1 : g.1 61 = nI n_) (hr2 : n_ < 970) (hb50 : b < 50) (hk : g.2.1 60 b = κ) : CTi l (EM D) yX5_plainPulls cX5_plainPulls 3 .int 4 87 0 0 (MA o ad) [.ref o, .int (nI b), .int x] (MS D o ad g) (QM_plainPulls D o ad g b x n_ κ) := by sorry
theorem hdX5_plainPulls : hdV yX5_plainPulls 2 := by decide +kernel
abbrev QM_lacePulls (D : DD) (o : Nat) (ad : Nat → Nat) (g : MSt) (b : Nat) (x : Int32) (n_ : Nat) (κ : Int32) : Int32 → Heap → Prop := fun r h => r = lpV κ x (nI b) ∧ MS D o ad (ranL g n_ (lpL κ)) h
set_option maxHeartbeats 4000000 in
set_option maxRecDepth 100000 in
theorem cM_lacePulls (l : Launch) (D : DD) (o : Nat) (ad : Nat → Nat) (g : MSt) (b : Nat) (x : Int32) (n_ : Nat) (κ : Int32) (hr1 : g.1 61 = nI n_) (hr2 : n_ < 960) (hb50 : b < 50) (hk : g.2.1 60 b = κ) : CTi l (EM D) yX5_lacePulls cX5_lacePulls 3 .int 5 109 0 0 (MA o ad) [.ref o, .int (nI b), .int x] (MS D o ad g) (QM_lacePulls D o ad g b x n_ κ) := by sorry
theorem hdX5_lacePulls : hdV yX5_lacePulls 2 := by decide +kernel
abbrev QM_plainFrees (D : DD) (o : Nat) (ad : Nat → Nat) (g : MSt) (b : Nat) (x : Int32) (n_ : Nat) (κ : Int32) : Int32 → Heap → Prop := fun r h => r = x ^^^ nI b ∧ MS D o ad (ranL g n_ ([11])) h
set_option maxHeartbeats 4000000 in
set_option maxRecDepth 100000 in
theorem cM_plainFrees (l : Launch) (D : DD) (o : Nat) (ad : Nat → Nat) (g : MSt) (b : Nat) (x : Int32) (n_ : Nat) (κ : Int32) (hr1 : g.1 61 = nI n_) (hr2 : n_ < 990) (hb50 : b < 50) (hk : g.2.1 60 b = κ) : CTi l (EM D) yX5_plainFrees cX5_plainFrees 3 .int 1 21 0 0 (MA o ad) [.ref o, .int (nI b), .int x] (MS D o ad g) (QM_plainFrees D o ad g b x n_ κ) := by sorry
theorem hdX5_plainFrees : hdV yX5_plainFrees 2 := by decide +kernel
abbrev QM_heelFrees (D : DD) (o : Nat) (ad : Nat → Nat) (g : MSt) (b : Nat) (x : Int32) (n_ : Nat) (κ : Int32) : Int32 → Heap → Prop := fun r h => r = hfV x (nI b) ∧ MS D o ad (ranL g n_ ([40, 11])) h
set_option maxHeartbeats 4000000 in
set_option maxRecDepth 100000 in
theorem cM_heelFrees (l : Launch) (D : DD) (o : Nat) (ad : Nat → Nat) (g : MSt) (b : Nat) (x : Int32) (n_ : Nat) (κ : Int32) (hr1 : g.1 61 = nI n_) (hr2 : n_ < 980) (hb50 : b < 50) (hk : g.2.1 60 b = κ) : CTi l (EM D) yX5_heelFrees cX5_heelFrees 3 .int 2 43 0 0 (MA o ad) [.ref o, .int (nI b), .int x] (MS D o ad g) (QM_heelFrees D o ad g b x n_ κ) := by sorry
theorem hdX5_heelFrees : hdV yX5_heelFrees 2 := by decide +kernel
abbrev QM_freeing (D : DD) (o : Nat) (ad : Nat → Nat) (g : MSt) (b : Nat) (x : Int32) (n_ : Nat) (κ : Int32) : Int32 → Heap → Prop := fun r h => r = frV κ x (nI b) ∧ MS D o ad (ranL g n_ (frL κ)) h
set_option maxHeartbeats 4000000 in
set_option maxRecDepth 100000 in
theorem cM_freeing (l : Launch) (D : DD) (o : Nat) (ad : Nat → Nat) (g : MSt) (b : Nat) (x : Int32) (n_ : Nat) (κ : Int32) (hr1 : g.1 61 = nI n_) (hr2 : n_ < 950) (hb50 : b < 50) (hk : g.2.1 60 b = κ) : CTi l (EM D) yX5_freeing cX5_freeing 4 .int 4 87 0 0 (MA o ad) [.ref o, .int (nI b), .int x] (MS D o ad g) (QM_freeing D o ad g b x n_ κ) := by sorry
theorem hdX5_freeing : hdV yX5_freeing 2 := by decide +kernel
abbrev QM_pulling (D : DD) (o : Nat) (ad : Nat → Nat) (g : MSt) (b : Nat) (x : Int32) (n_ : Nat) (κ : Int32) : Int32 → Heap → Prop := fun r h => r = puV κ x (nI b) ∧ MS D o ad (ranL g n_ (puL κ)) h
set_option maxHeartbeats 4000000 in
set_option maxRecDepth 100000 in
theorem cM_pulling (l : Launch) (D : DD) (o : Nat) (ad : Nat → Nat) (g : MSt) (b : Nat) (x : Int32) (n_ : Nat) (κ : Int32) (hr1 : g.1 61 = nI n_) (hr2 : n_ < 930) (hb50 : b < 50) (hk : g.2.1 60 b = κ) : CTi l (EM D) yX5_pulling cX5_pulling 4 .int 6 131 0 0 (MA o ad) [.ref o, .int (nI b), .int x] (MS D o ad g) (QM_pulling D o ad g b x n_ κ) := by sorry
theorem hdX5_pulling : hdV yX5_pulling 2 := by decide +kernel
abbrev QM_plainTells (D : DD) (o : Nat) (ad : Nat → Nat) (g : MSt) (b : Nat) (x : Int32) (n_ : Nat) (κ : Int32) : Int32 → Heap → Prop := fun r h => r = ptV κ x (nI b) ∧ MS D o ad (ranL g n_ (ptL κ)) h
set_option maxHeartbeats 4000000 in
set_option maxRecDepth 100000 in
theorem cM_plainTells (l : Launch) (D : DD) (o : Nat) (ad : Nat → Nat) (g : MSt) (b : Nat) (x : Int32) (n_ : Nat) (κ : Int32) (hr1 : g.1 61 = nI n_) (hr2 : n_ < 900) (hb50 : b < 50) (hk : g.2.1 60 b = κ) : CTi l (EM D) yX5_plainTells cX5_plainTells 4 .int 7 154 0 0 (MA o ad) [.ref o, .int (nI b), .int x] (MS D o ad g) (QM_plainTells D o ad g b x n_ κ) := by sorry
theorem hdX5_plainTells : hdV yX5_plainTells 2 := by decide +kernel
abbrev QM_telling (D : DD) (o : Nat) (ad : Nat → Nat) (g : MSt) (b : Nat) (x : Int32) (n_ : Nat) (κ : Int32) : Int32 → Heap → Prop := fun r h => r = teV κ x (nI b) ∧ MS D o ad (ranL g n_ (teL κ)) h
set_option maxHeartbeats 4000000 in
set_option maxRecDepth 100000 in
theorem cM_telling (l : Launch) (D : DD) (o : Nat) (ad : Nat → Nat) (g : MSt) (b : Nat) (x : Int32) (n_ : Nat) (κ : Int32) (hr1 : g.1 61 = nI n_) (hr2 : n_ < 890) (hb50 : b < 50) (hk : g.2.1 60 b = κ) : CTi l (EM D) yX5_telling cX5_telling 3 .int 8 177 0 0 (MA o ad) [.ref o, .int (nI b), .int x] (MS D o ad g) (QM_telling D o ad g b x n_ κ) := by sorry
theorem hdX5_telling : hdV yX5_telling 2 := by decide +kernel
abbrev QM_act (D : DD) (o : Nat) (ad : Nat → Nat) (g : MSt) (b : Int32) (w : Int32) (x : Int32) (nb : Nat) : Int32 → Heap → Prop := fun r h => r = r_act g b w x ∧ MS D o ad (n_act g b w) h
set_option maxHeartbeats 4000000 in
set_option maxRecDepth 100000 in
theorem cM_act (l : Launch) (D : DD) (o : Nat) (ad : Nat → Nat) (g : MSt) (b : Int32) (w : Int32) (x : Int32) (nb : Nat) (hnb : g.1 59 = nI nb) (hb50 : nb ≤ 50) : CTi l (EM D) yX5_act cX5_act 4 .int 9 199 0 0 (MA o ad) [.ref o, .int b, .int w, .int x] (MS D o ad g) (QM_act D o ad g b w x nb) := by sorry
theorem hdX5_act : hdV yX5_act 3 := by decide +kernel
