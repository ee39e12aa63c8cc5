/-! walks of the model 8 -/
def cT_manBest (l : Launch) (D : DD) (o : Nat) (ad : Nat → Nat) (g : MSt) (pl dk left nM nL t mn gl : Nat) := (turns_ l D o ad left).1 g pl dk nM nL t mn gl
def cT_byStep (l : Launch) (D : DD) (o : Nat) (ad : Nat → Nat) (g : MSt) (w_ pl dk left nM nL t mn gl : Nat) (hI : HI g nM nL) (ht : t ≤ 99) (htd : g.1 14 = nI t) (hmn : g.1 47 = nI mn) (hgl : g.1 49 = nI gl) (hgl25 : gl < 25) (hpl : pl < 25) (hdk : dk + left ≤ 99) (hw : w_ < 5) (hle : 1 ≤ left) := cM_byStep l D o ad g w_ pl dk left nM nL t mn gl hI ht htd hmn hgl hgl25 hpl hdk hw hle (fun l2 _ => (turns_ l D o ad l2).2)
abbrev QM_byTurns (D : DD) (o : Nat) (ad : Nat → Nat) (g : MSt) (ab : Int32) (place : Int32) (n : Int32) (what : Int32) (nP : Nat) (nM : Nat) (t : Nat) (nL : Nat) : Int32 → Heap → Prop := fun r h => ∃ (v1 : Int32), ∃ (v2 : Int32), ∃ (v3 : Int32), r = r_byTurns g nM t ab place n what ∧ MS D o ad (msS (msS (msS g 47 v1) 48 v2) 49 v3) h
set_option maxHeartbeats 4000000 in
set_option maxRecDepth 100000 in
theorem cM_byTurns (l : Launch) (D : DD) (o : Nat) (ad : Nat → Nat) (g : MSt) (ab : Int32) (place : Int32) (n : Int32) (what : Int32) (nP : Nat) (nM : Nat) (t : Nat) (nL : Nat) (hT : TI g nP nM t) (hI : HI g nM nL) : CTi l (EM D) yX5_byTurns cX5_byTurns 8 .int 20 600 0 0 (MA o ad) [.ref o, .int ab, .int place, .int n, .int what] (MS D o ad g) (QM_byTurns D o ad g ab place n what nP nM t nL) := by sorry
theorem hdX5_byTurns : hdV yX5_byTurns 4 := by decide +kernel
