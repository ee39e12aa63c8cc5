/-! walks of the model 12 -/
abbrev QM_promises (D : DD) (o : Nat) (ad : Nat → Nat) (g : MSt) (s : Int32) (at_ : Int32) (n : Int32) (nP : Nat) (nM : Nat) (t : Nat) (nb : Nat) : Int32 → Heap → Prop := fun r h => r = r_promises g nM s at_ n ∧ MS D o ad (n_promises g nM s at_ n) h
set_option maxHeartbeats 4000000 in
set_option maxRecDepth 100000 in
theorem cM_promises (l : Launch) (D : DD) (o : Nat) (ad : Nat → Nat) (g : MSt) (s : Int32) (at_ : Int32) (n : Int32) (nP : Nat) (nM : Nat) (t : Nat) (nb : Nat) (hT : TI g nP nM t) (hS_ : SHI g nb) (hnb2 : nb ≤ 50) : CTi l (EM D) yX5_promises cX5_promises 8 .int 3 65 0 0 (MA o ad) [.ref o, .int s, .int at_, .int n] (MS D o ad g) (QM_promises D o ad g s at_ n nP nM t nb) := by sorry
theorem hdX5_promises : hdV yX5_promises 3 := by decide +kernel
