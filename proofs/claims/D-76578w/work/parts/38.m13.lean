/-! walks of the model 13 -/
abbrev QM_look (D : DD) (o : Nat) (ad : Nat → Nat) (g : MSt) (p : PT) (L : Nat) (pos : Nat) : Int32 → Heap → Prop := fun r h => r = lkV (g.2.1 22) L pos ∧ MS D o ad (pS g p) h
set_option maxHeartbeats 4000000 in
set_option maxRecDepth 100000 in
theorem cM_look (l : Launch) (D : DD) (o : Nat) (ad : Nat → Nat) (g : MSt) (p : PT) (L : Nat) (pos : Nat) (hL : g.1 23 = nI L) (hL120 : L ≤ 120) (hh : PT.h p = pos) (hp : pos ≤ 1000) : CTi l (EM D) yX5_look cX5_look 1 .int 0 0 0 0 (MA o ad) [.ref o] (MS D o ad (pS g p)) (QM_look D o ad g p L pos) := by sorry
theorem hdX5_look : hdV yX5_look 0 := by decide +kernel
abbrev QM_wrong (D : DD) (o : Nat) (ad : Nat → Nat) (g : MSt) (p : PT) : Heap → Prop := fun h => MS D o ad (pS g (PT.wrong p)) h
set_option maxHeartbeats 4000000 in
set_option maxRecDepth 100000 in
theorem cM_wrong (l : Launch) (D : DD) (o : Nat) (ad : Nat → Nat) (g : MSt) (p : PT) : CTv l (EM D) yX5_wrong cX5_wrong 1 0 0 0 0 (MA o ad) [.ref o] (MS D o ad (pS g p)) (QM_wrong D o ad g p) := by sorry
theorem hdX5_wrong : hdV yX5_wrong 0 := by decide +kernel
abbrev QM_addStep (D : DD) (o : Nat) (ad : Nat → Nat) (g : MSt) (what : Int32) (v : Int32) (p : PT) : Heap → Prop := fun h => MS D o ad (pS g (PT.add p what v)) h
set_option maxHeartbeats 4000000 in
set_option maxRecDepth 100000 in
theorem cM_addStep (l : Launch) (D : DD) (o : Nat) (ad : Nat → Nat) (g : MSt) (what : Int32) (v : Int32) (p : PT) (hn : p.n ≤ 125) (hw : vp_nar .byte (what).toInt8.toInt32 = what) : CTv l (EM D) yX5_addStep cX5_addStep 3 0 0 0 0 (MA o ad) [.ref o, .int what, .int v] (MS D o ad (pS g p)) (QM_addStep D o ad g what v p) := by sorry
theorem hdX5_addStep : hdV yX5_addStep 2 := by decide +kernel
abbrev QM_nameOf (D : DD) (H0 : Heap) (b : Int32) : Int32 → Heap → Prop := fun r h => r = nmV b ∧ H0 = h
set_option maxHeartbeats 4000000 in
set_option maxRecDepth 100000 in
theorem cM_nameOf (l : Launch) (D : DD) (H0 : Heap) (b : Int32) : CTi l (EM D) yX5_nameOf cX5_nameOf 1 .int 0 0 0 0 (fun _ => False) [.int b] (fun h => h = H0) (QM_nameOf D H0 b) := by sorry
theorem hdX5_nameOf : hdS yX5_nameOf 1 := by decide +kernel
abbrev QM_opens (D : DD) (o : Nat) (ad : Nat → Nat) (g : MSt) (p : PT) : Int32 → Heap → Prop := fun r h => r = bI (!decide (p.op = 6)) ∧ MS D o ad (pS g (if p.op = 6 then PT.wrong p else PT.into p)) h
set_option maxHeartbeats 4000000 in
set_option maxRecDepth 100000 in
theorem cM_opens (l : Launch) (D : DD) (o : Nat) (ad : Nat → Nat) (g : MSt) (p : PT) : CTi l (EM D) yX5_opens cX5_opens 1 .boolean 1 20 0 0 (MA o ad) [.ref o] (MS D o ad (pS g p)) (QM_opens D o ad g p) := by sorry
theorem hdX5_opens : hdV yX5_opens 0 := by decide +kernel
abbrev QM_figure (D : DD) (o : Nat) (ad : Nat → Nat) (g : MSt) (p : PT) (L : Nat) (o_ : Int32) : Heap → Prop := fun h => MS D o ad (pS g (figS (lkV (g.2.1 22) L) p)) h
set_option maxHeartbeats 4000000 in
set_option maxRecDepth 100000 in
theorem cM_figure (l : Launch) (D : DD) (o : Nat) (ad : Nat → Nat) (g : MSt) (p : PT) (L : Nat) (o_ : Int32) (hL : g.1 23 = nI L) (hL120 : L ≤ 120) (hok : okP L o_ p) : CTv l (EM D) yX5_figure cX5_figure 3 1 22 0 0 (MA o ad) [.ref o] (MS D o ad (pS g p)) (QM_figure D o ad g p L o_) := by sorry
theorem hdX5_figure : hdV yX5_figure 0 := by decide +kernel
