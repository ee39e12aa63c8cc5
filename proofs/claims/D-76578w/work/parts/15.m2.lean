/-! walks of the model 2 -/
abbrev QM_valueAt (D : DD) (o : Nat) (ad : Nat → Nat) (g : MSt) (wh : Nat) (aj : Nat) : Int32 → Heap → Prop := fun r h => r = valueV g wh aj ∧ MS D o ad g h
set_option maxHeartbeats 4000000 in
set_option maxRecDepth 100000 in
theorem cM_valueAt (l : Launch) (D : DD) (o : Nat) (ad : Nat → Nat) (g : MSt) (wh : Nat) (aj : Nat) (ho : wh < 10) (hat : aj < wLen wh) : CTi l (EM D) yX5_valueAt cX5_valueAt 3 .int 0 0 0 0 (MA o ad) [.ref o, .int (nI wh), .int (nI aj)] (MS D o ad g) (QM_valueAt D o ad g wh aj) := by sorry
theorem hdX5_valueAt : hdV yX5_valueAt 2 := by decide +kernel
abbrev QM_lays (D : DD) (o : Nat) (ad : Nat → Nat) (g : MSt) (wh : Nat) (aj : Nat) (v : Int32) : Heap → Prop := fun h => MS D o ad (laysS g wh aj v) h
set_option maxHeartbeats 4000000 in
set_option maxRecDepth 100000 in
theorem cM_lays (l : Launch) (D : DD) (o : Nat) (ad : Nat → Nat) (g : MSt) (wh : Nat) (aj : Nat) (v : Int32) (ho : wh < 10) (hat : aj < wLen wh) : CTv l (EM D) yX5_lays cX5_lays 4 0 0 0 0 (MA o ad) [.ref o, .int (nI wh), .int (nI aj), .int v] (MS D o ad g) (QM_lays D o ad g wh aj v) := by sorry
theorem hdX5_lays : hdV yX5_lays 3 := by decide +kernel
abbrev QM_changes (D : DD) (o : Nat) (ad : Nat → Nat) (g : MSt) (wh : Nat) (aj : Nat) (v : Int32) (d : Nat) : Int32 → Heap → Prop := fun r h => r = valueV g wh aj ∧ MS D o ad (chS g wh aj v d) h
set_option maxHeartbeats 4000000 in
set_option maxRecDepth 100000 in
theorem cM_changes (l : Launch) (D : DD) (o : Nat) (ad : Nat → Nat) (g : MSt) (wh : Nat) (aj : Nat) (v : Int32) (d : Nat) (ho : wh < 10) (hat : aj < wLen wh) (hd : g.1 16 = nI d) (hd40 : d ≤ 40) : CTi l (EM D) yX5_changes cX5_changes 6 .int 1 23 0 0 (MA o ad) [.ref o, .int (nI wh), .int (nI aj), .int v] (MS D o ad g) (QM_changes D o ad g wh aj v d) := by sorry
theorem hdX5_changes : hdV yX5_changes 3 := by decide +kernel
