/-! walks of the model 15 -/
abbrev QM_line (D : DD) (o : Nat) (ad : Nat → Nat) (g : MSt) (p : PT) (L : Nat) (m : Nat) (T : Nat → Int32) (E : Nat → Int32) : Heap → Prop := fun h => MS D o ad (pS (lQ g (va_up (g.2.1 30) 1 (nI (lnS (lkV (g.2.1 22) L) L p m T E).2.1)) (lnS (lkV (g.2.1 22) L) L p m T E).2.2.1 (lnS (lkV (g.2.1 22) L) L p m T E).2.2.2) (lnS (lkV (g.2.1 22) L) L p m T E).1) h
set_option maxHeartbeats 4000000 in
set_option maxRecDepth 100000 in
theorem cM_line (l : Launch) (D : DD) (o : Nat) (ad : Nat → Nat) (g : MSt) (p : PT) (L : Nat) (m : Nat) (T : Nat → Int32) (E : Nat → Int32) (hL : g.1 23 = nI L) (hL120 : L ≤ 120) (hok : okP L (nI (6 - 6)) p) (hm : m ≤ 60) : CTv l (EM D) yX5_line cX5_line 2 60 1500 0 0 (MA o ad) [.ref o] (MS D o ad (pS (lQ g (va_up (g.2.1 30) 1 (nI m)) T E) p)) (QM_line D o ad g p L m T E) := by sorry
theorem hdX5_line : hdV yX5_line 0 := by decide +kernel
