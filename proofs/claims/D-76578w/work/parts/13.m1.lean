/-! walks of the model 1-/
abbrev QM_in (D : DD) (H0 : Heap) (v : Int32) (lo : Int32) (hi : Int32) : Int32 → Heap → Prop := fun r h => r = bI (inB v lo hi) ∧ H0 = h
set_option maxHeartbeats 4000000 in
set_option maxRecDepth 100000 in
theorem cM_in (l : Launch) (D : DD) (H0 : Heap) (v : Int32) (lo : Int32) (hi : Int32) : CTi l (EM D) yX5_in cX5_in 3 .boolean 0 0 0 0 (fun _ => False) [.int v, .int lo, .int hi] (fun h => h = H0) (QM_in D H0 v lo hi) := by sorry
theorem hdX5_in : hdS yX5_in 3 := by decide +kernel
abbrev QM_has (D : DD) (H0 : Heap) (set : Int32) (k : Nat) : Int32 → Heap → Prop := fun r h => r = bI (hasB set k) ∧ H0 = h
set_option maxHeartbeats 4000000 in
set_option maxRecDepth 100000 in
theorem cM_has (l : Launch) (D : DD) (H0 : Heap) (set : Int32) (k : Nat) : CTi l (EM D) yX5_has cX5_has 2 .boolean 0 0 0 0 (fun _ => False) [.int set, .int (nI k)] (fun h => h = H0) (QM_has D H0 set k) := by sorry
theorem hdX5_has : hdS yX5_has 2 := by decide +kernel
abbrev QM_isPlaceOf (D : DD) (H0 : Heap) (v : Int32) : Int32 → Heap → Prop := fun r h => r = bI (inB v 0 24) ∧ H0 = h
set_option maxHeartbeats 4000000 in
set_option maxRecDepth 100000 in
theorem cM_isPlaceOf (l : Launch) (D : DD) (H0 : Heap) (v : Int32) : CTi l (EM D) yX5_isPlaceOf cX5_isPlaceOf 1 .boolean 1 22 0 0 (fun _ => False) [.int v] (fun h => h = H0) (QM_isPlaceOf D H0 v) := by sorry
theorem hdX5_isPlaceOf : hdS yX5_isPlaceOf 1 := by decide +kernel
abbrev QM_isShelf (D : DD) (H0 : Heap) (v : Int32) : Int32 → Heap → Prop := fun r h => r = bI (inB v 0 5) ∧ H0 = h
set_option maxHeartbeats 4000000 in
set_option maxRecDepth 100000 in
theorem cM_isShelf (l : Launch) (D : DD) (H0 : Heap) (v : Int32) : CTi l (EM D) yX5_isShelf cX5_isShelf 1 .boolean 1 22 0 0 (fun _ => False) [.int v] (fun h => h = H0) (QM_isShelf D H0 v) := by sorry
theorem hdX5_isShelf : hdS yX5_isShelf 1 := by decide +kernel
abbrev QM_isOne (D : DD) (o : Nat) (ad : Nat → Nat) (g : MSt) (v : Int32) : Int32 → Heap → Prop := fun r h => r = bI (inB v 0 (g.1 1 - 1)) ∧ MS D o ad g h
set_option maxHeartbeats 4000000 in
set_option maxRecDepth 100000 in
theorem cM_isOne (l : Launch) (D : DD) (o : Nat) (ad : Nat → Nat) (g : MSt) (v : Int32) : CTi l (EM D) yX5_isOne cX5_isOne 2 .boolean 1 22 0 0 (MA o ad) [.ref o, .int v] (MS D o ad g) (QM_isOne D o ad g v) := by sorry
theorem hdX5_isOne : hdV yX5_isOne 1 := by decide +kernel
abbrev QM_isPromise (D : DD) (o : Nat) (ad : Nat → Nat) (g : MSt) (v : Int32) : Int32 → Heap → Prop := fun r h => r = bI (inB v 0 (g.1 4 - 1)) ∧ MS D o ad g h
set_option maxHeartbeats 4000000 in
set_option maxRecDepth 100000 in
theorem cM_isPromise (l : Launch) (D : DD) (o : Nat) (ad : Nat → Nat) (g : MSt) (v : Int32) : CTi l (EM D) yX5_isPromise cX5_isPromise 2 .boolean 1 22 0 0 (MA o ad) [.ref o, .int v] (MS D o ad g) (QM_isPromise D o ad g v) := by sorry
theorem hdX5_isPromise : hdV yX5_isPromise 1 := by decide +kernel
abbrev QM_areTwo (D : DD) (o : Nat) (ad : Nat → Nat) (g : MSt) (a : Int32) (b : Int32) : Int32 → Heap → Prop := fun r h => r = bI (twoB g a b) ∧ MS D o ad g h
set_option maxHeartbeats 4000000 in
set_option maxRecDepth 100000 in
theorem cM_areTwo (l : Launch) (D : DD) (o : Nat) (ad : Nat → Nat) (g : MSt) (a : Int32) (b : Int32) : CTi l (EM D) yX5_areTwo cX5_areTwo 3 .boolean 2 43 0 0 (MA o ad) [.ref o, .int a, .int b] (MS D o ad g) (QM_areTwo D o ad g a b) := by sorry
theorem hdX5_areTwo : hdV yX5_areTwo 2 := by decide +kernel
abbrev QM_isOn (D : DD) (o : Nat) (ad : Nat → Nat) (g : MSt) (p : Nat) (day : Int32) : Int32 → Heap → Prop := fun r h => r = bI (onB (mF g) p day) ∧ MH D o ad g h
set_option maxHeartbeats 4000000 in
set_option maxRecDepth 100000 in
theorem cM_isOn (l : Launch) (D : DD) (o : Nat) (ad : Nat → Nat) (g : MSt) (p : Nat) (day : Int32) (hp : p < 12) : CTi l (EM D) yX5_isOn cX5_isOn 3 .boolean 1 22 0 0 (MA o ad) [.ref o, .int (nI p), .int day] (MH D o ad g) (QM_isOn D o ad g p day) := by sorry
theorem cS_isOn (l : Launch) (D : DD) (o : Nat) (ad : Nat → Nat) (g : MSt) (p : Nat) (day : Int32) (hp : p < 12) : CTi l (EM D) yX5_isOn cX5_isOn 3 .boolean 1 22 0 0 (MA o ad) [.ref o, .int (nI p), .int day] (MS D o ad g) (fun r h => r = bI (onB (mF g) p day) ∧ MS D o ad g h) := by sorry
theorem hdX5_isOn : hdV yX5_isOn 2 := by decide +kernel
abbrev QM_dayOn (D : DD) (o : Nat) (ad : Nat → Nat) (g : MSt) (k : Nat) (t : Nat) : Int32 → Heap → Prop := fun r h => r = nI (dayN t k) ∧ MS D o ad g h
set_option maxHeartbeats 4000000 in
set_option maxRecDepth 100000 in
theorem cM_dayOn (l : Launch) (D : DD) (o : Nat) (ad : Nat → Nat) (g : MSt) (k : Nat) (t : Nat) (ht : t ≤ 99) (htd : g.1 14 = nI t) (hk : k ≤ 99) : CTi l (EM D) yX5_dayOn cX5_dayOn 2 .int 0 0 0 0 (MA o ad) [.ref o, .int (nI k)] (MS D o ad g) (QM_dayOn D o ad g k t) := by sorry
theorem hdX5_dayOn : hdV yX5_dayOn 1 := by decide +kernel
abbrev QM_othersWith (D : DD) (o : Nat) (ad : Nat → Nat) (g : MSt) (p : Nat) (day : Int32) (nM : Nat) : Int32 → Heap → Prop := fun r h => r = nI (cntB (othB (mF g) p day) nM) ∧ MH D o ad g h
set_option maxHeartbeats 4000000 in
set_option maxRecDepth 100000 in
theorem cM_othersWith (l : Launch) (D : DD) (o : Nat) (ad : Nat → Nat) (g : MSt) (p : Nat) (day : Int32) (nM : Nat) (hp : p < 12) (hn : nM ≤ 12) (hnM : g.1 4 = nI nM) : CTi l (EM D) yX5_othersWith cX5_othersWith 5 .int 2 44 0 0 (MA o ad) [.ref o, .int (nI p), .int day] (MH D o ad g) (QM_othersWith D o ad g p day nM) := by sorry
theorem cS_othersWith (l : Launch) (D : DD) (o : Nat) (ad : Nat → Nat) (g : MSt) (p : Nat) (day : Int32) (nM : Nat) (hp : p < 12) (hn : nM ≤ 12) (hnM : g.1 4 = nI nM) : CTi l (EM D) yX5_othersWith cX5_othersWith 5 .int 2 44 0 0 (MA o ad) [.ref o, .int (nI p), .int day] (MS D o ad g) (fun r h => r = nI (cntB (othB (mF g) p day) nM) ∧ MS D o ad g h) := by sorry
theorem hdX5_othersWith : hdV yX5_othersWith 2 := by decide +kernel
