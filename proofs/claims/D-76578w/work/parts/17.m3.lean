/-! walks of the model 3 -/
abbrev QM_isPlace (D : DD) (o : Nat) (ad : Nat → Nat) (g : MSt) (n : Int32) (what : Int32) : Int32 → Heap → Prop := fun r h => r = bI (isPlB g n what) ∧ MS D o ad g h
set_option maxHeartbeats 4000000 in
set_option maxRecDepth 100000 in
theorem cM_isPlace (l : Launch) (D : DD) (o : Nat) (ad : Nat → Nat) (g : MSt) (n : Int32) (what : Int32) : CTi l (EM D) yX5_isPlace cX5_isPlace 3 .boolean 2 43 0 0 (MA o ad) [.ref o, .int n, .int what] (MS D o ad g) (QM_isPlace D o ad g n what) := by sorry
theorem hdX5_isPlace : hdV yX5_isPlace 2 := by decide +kernel
abbrev QM_mayHave (D : DD) (H0 : Heap) (what : Int32) (v : Int32) : Int32 → Heap → Prop := fun r h => r = bI (mayB what v) ∧ H0 = h
set_option maxHeartbeats 4000000 in
set_option maxRecDepth 100000 in
theorem cM_mayHave (l : Launch) (D : DD) (H0 : Heap) (what : Int32) (v : Int32) : CTi l (EM D) yX5_mayHave cX5_mayHave 2 .boolean 2 42 0 0 (fun _ => False) [.int what, .int v] (fun h => h = H0) (QM_mayHave D H0 what v) := by sorry
theorem hdX5_mayHave : hdS yX5_mayHave 2 := by decide +kernel
abbrev QM_mend (D : DD) (o : Nat) (ad : Nat → Nat) (g : MSt) (n : Int32) (what : Int32) (v : Int32) (nP : Nat) (nM : Nat) (t : Nat) (d : Nat) (u : Nat) : Int32 → Heap → Prop := fun r h => r = r_mend g n what v ∧ MS D o ad (n_mend g d n what v) h
set_option maxHeartbeats 4000000 in
set_option maxRecDepth 100000 in
theorem cM_mend (l : Launch) (D : DD) (o : Nat) (ad : Nat → Nat) (g : MSt) (n : Int32) (what : Int32) (v : Int32) (nP : Nat) (nM : Nat) (t : Nat) (d : Nat) (u : Nat) (hT : TI g nP nM t) (hC : CHI g nP nM d u) : CTi l (EM D) yX5_mend cX5_mend 4 .int 3 65 0 0 (MA o ad) [.ref o, .int n, .int what, .int v] (MS D o ad g) (QM_mend D o ad g n what v nP nM t d u) := by sorry
theorem hdX5_mend : hdV yX5_mend 3 := by decide +kernel
abbrev QM_of (D : DD) (o : Nat) (ad : Nat → Nat) (g : MSt) (n : Int32) (what : Int32) (nP : Nat) (nM : Nat) (t : Nat) : Int32 → Heap → Prop := fun r h => r = r_of g n what ∧ MS D o ad g h
set_option maxHeartbeats 4000000 in
set_option maxRecDepth 100000 in
theorem cM_of (l : Launch) (D : DD) (o : Nat) (ad : Nat → Nat) (g : MSt) (n : Int32) (what : Int32) (nP : Nat) (nM : Nat) (t : Nat) (hT : TI g nP nM t) : CTi l (EM D) yX5_of cX5_of 3 .int 3 65 0 0 (MA o ad) [.ref o, .int n, .int what] (MS D o ad g) (QM_of D o ad g n what nP nM t) := by sorry
theorem hdX5_of : hdV yX5_of 2 := by decide +kernel
abbrev QM_undo (D : DD) (o : Nat) (ad : Nat → Nat) (g : MSt) (nP : Nat) (nM : Nat) (t : Nat) (d : Nat) (u : Nat) : Int32 → Heap → Prop := fun r h => r = r_undo d ∧ MS D o ad (n_undo g d u) h
set_option maxHeartbeats 4000000 in
set_option maxRecDepth 100000 in
theorem cM_undo (l : Launch) (D : DD) (o : Nat) (ad : Nat → Nat) (g : MSt) (nP : Nat) (nM : Nat) (t : Nat) (d : Nat) (u : Nat) (hT : TI g nP nM t) (hC : CHI g nP nM d u) : CTi l (EM D) yX5_undo cX5_undo 1 .int 1 23 0 0 (MA o ad) [.ref o] (MS D o ad g) (QM_undo D o ad g nP nM t d u) := by sorry
theorem hdX5_undo : hdV yX5_undo 0 := by decide +kernel
abbrev QM_redo (D : DD) (o : Nat) (ad : Nat → Nat) (g : MSt) (nP : Nat) (nM : Nat) (t : Nat) (d : Nat) (u : Nat) : Int32 → Heap → Prop := fun r h => r = r_redo u ∧ MS D o ad (n_redo g d u) h
set_option maxHeartbeats 4000000 in
set_option maxRecDepth 100000 in
theorem cM_redo (l : Launch) (D : DD) (o : Nat) (ad : Nat → Nat) (g : MSt) (nP : Nat) (nM : Nat) (t : Nat) (d : Nat) (u : Nat) (hT : TI g nP nM t) (hC : CHI g nP nM d u) : CTi l (EM D) yX5_redo cX5_redo 1 .int 1 23 0 0 (MA o ad) [.ref o] (MS D o ad g) (QM_redo D o ad g nP nM t d u) := by sorry
theorem hdX5_redo : hdV yX5_redo 0 := by decide +kernel
abbrev QM_feed (D : DD) (o : Nat) (ad : Nat → Nat) (g : MSt) (v : Int32) (n : Nat) : Int32 → Heap → Prop := fun r h => r = r_feed n v ∧ MS D o ad (n_feed g n v) h
set_option maxHeartbeats 4000000 in
set_option maxRecDepth 100000 in
theorem cM_feed (l : Launch) (D : DD) (o : Nat) (ad : Nat → Nat) (g : MSt) (v : Int32) (n : Nat) (hn : g.1 23 = nI n) (hn2 : n ≤ 120) : CTi l (EM D) yX5_feed cX5_feed 2 .int 1 22 0 0 (MA o ad) [.ref o, .int v] (MS D o ad g) (QM_feed D o ad g v n) := by sorry
theorem hdX5_feed : hdV yX5_feed 1 := by decide +kernel
abbrev QM_addPromise (D : DD) (o : Nat) (ad : Nat → Nat) (g : MSt) (a : Int32) (b : Int32) (q : Int32) (w : Int32) (x : Int32) (nM : Nat) : Int32 → Heap → Prop := fun r h => r = nI nM ∧ MS D o ad (addPS g nM a b q w x) h
set_option maxHeartbeats 4000000 in
set_option maxRecDepth 100000 in
theorem cM_addPromise (l : Launch) (D : DD) (o : Nat) (ad : Nat → Nat) (g : MSt) (a : Int32) (b : Int32) (q : Int32) (w : Int32) (x : Int32) (nM : Nat) (hnM : g.1 4 = nI nM) (hn : nM < 12) : CTi l (EM D) yX5_addPromise cX5_addPromise 7 .int 0 0 0 0 (MA o ad) [.ref o, .int a, .int b, .int q, .int w, .int x] (MS D o ad g) (QM_addPromise D o ad g a b q w x nM) := by sorry
theorem hdX5_addPromise : hdV yX5_addPromise 5 := by decide +kernel
abbrev QM_promise (D : DD) (o : Nat) (ad : Nat → Nat) (g : MSt) (bt : Int32) (wt : Int32) (nP : Nat) (nM : Nat) (t : Nat) : Int32 → Heap → Prop := fun r h => r = r_promise g nM bt wt ∧ MS D o ad (n_promise g nM bt wt) h
set_option maxHeartbeats 4000000 in
set_option maxRecDepth 100000 in
theorem cM_promise (l : Launch) (D : DD) (o : Nat) (ad : Nat → Nat) (g : MSt) (bt : Int32) (wt : Int32) (nP : Nat) (nM : Nat) (t : Nat) (hT : TI g nP nM t) : CTi l (EM D) yX5_promise cX5_promise 3 .int 3 65 0 0 (MA o ad) [.ref o, .int bt, .int wt] (MS D o ad g) (QM_promise D o ad g bt wt nP nM t) := by sorry
theorem hdX5_promise : hdV yX5_promise 2 := by decide +kernel
abbrev QM_person (D : DD) (o : Nat) (ad : Nat → Nat) (g : MSt) (v : Int32) (nP : Nat) (nM : Nat) (t : Nat) : Int32 → Heap → Prop := fun r h => r = r_person nP v ∧ MS D o ad (n_person g nP v) h
set_option maxHeartbeats 4000000 in
set_option maxRecDepth 100000 in
theorem cM_person (l : Launch) (D : DD) (o : Nat) (ad : Nat → Nat) (g : MSt) (v : Int32) (nP : Nat) (nM : Nat) (t : Nat) (hT : TI g nP nM t) : CTi l (EM D) yX5_person cX5_person 2 .int 2 42 0 0 (MA o ad) [.ref o, .int v] (MS D o ad g) (QM_person D o ad g v nP nM t) := by sorry
theorem hdX5_person : hdV yX5_person 1 := by decide +kernel
abbrev QM_letOff (D : DD) (o : Nat) (ad : Nat → Nat) (g : MSt) (m : Int32) (nP : Nat) (nM : Nat) (t : Nat) : Int32 → Heap → Prop := fun r h => r = r_letOff g m ∧ MS D o ad (n_letOff g m) h
set_option maxHeartbeats 4000000 in
set_option maxRecDepth 100000 in
theorem cM_letOff (l : Launch) (D : DD) (o : Nat) (ad : Nat → Nat) (g : MSt) (m : Int32) (nP : Nat) (nM : Nat) (t : Nat) (hT : TI g nP nM t) : CTi l (EM D) yX5_letOff cX5_letOff 2 .int 2 43 0 0 (MA o ad) [.ref o, .int m] (MS D o ad g) (QM_letOff D o ad g m nP nM t) := by sorry
theorem hdX5_letOff : hdV yX5_letOff 1 := by decide +kernel
abbrev QM_forget (D : DD) (o : Nat) (ad : Nat → Nat) (g : MSt) (m : Int32) (nP : Nat) (nM : Nat) (t : Nat) : Int32 → Heap → Prop := fun r h => r = r_forget g m ∧ MS D o ad (n_forget g m) h
set_option maxHeartbeats 4000000 in
set_option maxRecDepth 100000 in
theorem cM_forget (l : Launch) (D : DD) (o : Nat) (ad : Nat → Nat) (g : MSt) (m : Int32) (nP : Nat) (nM : Nat) (t : Nat) (hT : TI g nP nM t) : CTi l (EM D) yX5_forget cX5_forget 2 .int 2 43 0 0 (MA o ad) [.ref o, .int m] (MS D o ad g) (QM_forget D o ad g m nP nM t) := by sorry
theorem hdX5_forget : hdV yX5_forget 1 := by decide +kernel
abbrev QM_day (D : DD) (o : Nat) (ad : Nat → Nat) (g : MSt) (nP : Nat) (nM : Nat) (t : Nat) : Int32 → Heap → Prop := fun r h => r = nI (dayN t 1) ∧ MS D o ad (n_day g t) h
set_option maxHeartbeats 4000000 in
set_option maxRecDepth 100000 in
theorem cM_day (l : Launch) (D : DD) (o : Nat) (ad : Nat → Nat) (g : MSt) (nP : Nat) (nM : Nat) (t : Nat) (hT : TI g nP nM t) : CTi l (EM D) yX5_day cX5_day 1 .int 1 21 0 0 (MA o ad) [.ref o] (MS D o ad g) (QM_day D o ad g nP nM t) := by sorry
theorem hdX5_day : hdV yX5_day 0 := by decide +kernel
abbrev QM_led (D : DD) (o : Nat) (ad : Nat → Nat) (g : MSt) (w : Int32) : Int32 → Heap → Prop := fun r h => r = r_led g w ∧ MS D o ad g h
set_option maxHeartbeats 4000000 in
set_option maxRecDepth 100000 in
theorem cM_led (l : Launch) (D : DD) (o : Nat) (ad : Nat → Nat) (g : MSt) (w : Int32) : CTi l (EM D) yX5_led cX5_led 2 .int 1 22 0 0 (MA o ad) [.ref o, .int w] (MS D o ad g) (QM_led D o ad g w) := by sorry
theorem hdX5_led : hdV yX5_led 1 := by decide +kernel
abbrev QM_image (D : DD) (o : Nat) (ad : Nat → Nat) (g : MSt) (nP : Nat) (nM : Nat) (t : Nat) : Int32 → Heap → Prop := fun r h => r = g.2.1 15 5 ∧ MS D o ad (n_image g nP nM) h
set_option maxHeartbeats 4000000 in
set_option maxRecDepth 100000 in
theorem cM_image (l : Launch) (D : DD) (o : Nat) (ad : Nat → Nat) (g : MSt) (nP : Nat) (nM : Nat) (t : Nat) (hT : TI g nP nM t) : CTi l (EM D) yX5_image cX5_image 2 .int 0 0 0 0 (MA o ad) [.ref o] (MS D o ad g) (QM_image D o ad g nP nM t) := by sorry
theorem hdX5_image : hdV yX5_image 0 := by decide +kernel
abbrev QM_back (D : DD) (o : Nat) (ad : Nat → Nat) (g : MSt) (nP : Nat) (nM : Nat) (t : Nat) (kP : Nat) (kM : Nat) : Int32 → Heap → Prop := fun r h => r = r_back g ∧ MS D o ad (n_back g kP kM) h
set_option maxHeartbeats 4000000 in
set_option maxRecDepth 100000 in
theorem cM_back (l : Launch) (D : DD) (o : Nat) (ad : Nat → Nat) (g : MSt) (nP : Nat) (nM : Nat) (t : Nat) (kP : Nat) (kM : Nat) (hT : TI g nP nM t) (hI : IMI g nP nM kP kM) : CTi l (EM D) yX5_back cX5_back 2 .int 0 0 0 0 (MA o ad) [.ref o] (MS D o ad g) (QM_back D o ad g nP nM t kP kM) := by sorry
theorem hdX5_back : hdV yX5_back 0 := by decide +kernel
abbrev QM_trace (D : DD) (o : Nat) (ad : Nat → Nat) (g : MSt) (i : Int32) : Int32 → Heap → Prop := fun r h => r = r_trace g i ∧ MS D o ad g h
set_option maxHeartbeats 4000000 in
set_option maxRecDepth 100000 in
theorem cM_trace (l : Launch) (D : DD) (o : Nat) (ad : Nat → Nat) (g : MSt) (i : Int32) : CTi l (EM D) yX5_trace cX5_trace 2 .int 0 0 0 0 (MA o ad) [.ref o, .int i] (MS D o ad g) (QM_trace D o ad g i) := by sorry
theorem hdX5_trace : hdV yX5_trace 1 := by decide +kernel
abbrev QM_isBody (D : DD) (o : Nat) (ad : Nat → Nat) (g : MSt) (b : Int32) : Int32 → Heap → Prop := fun r h => r = bI (inB b 0 (g.1 59 - 1)) ∧ MS D o ad g h
set_option maxHeartbeats 4000000 in
set_option maxRecDepth 100000 in
theorem cM_isBody (l : Launch) (D : DD) (o : Nat) (ad : Nat → Nat) (g : MSt) (b : Int32) : CTi l (EM D) yX5_isBody cX5_isBody 2 .boolean 1 22 0 0 (MA o ad) [.ref o, .int b] (MS D o ad g) (QM_isBody D o ad g b) := by sorry
theorem hdX5_isBody : hdV yX5_isBody 1 := by decide +kernel
abbrev QM_body (D : DD) (o : Nat) (ad : Nat → Nat) (g : MSt) (k : Int32) (nb : Nat) : Int32 → Heap → Prop := fun r h => r = r_body nb k ∧ MS D o ad (n_body g nb k) h
set_option maxHeartbeats 4000000 in
set_option maxRecDepth 100000 in
theorem cM_body (l : Launch) (D : DD) (o : Nat) (ad : Nat → Nat) (g : MSt) (k : Int32) (nb : Nat) (hnb : g.1 59 = nI nb) (hnb2 : nb ≤ 50) : CTi l (EM D) yX5_body cX5_body 2 .int 1 22 0 0 (MA o ad) [.ref o, .int k] (MS D o ad g) (QM_body D o ad g k nb) := by sorry
theorem hdX5_body : hdV yX5_body 1 := by decide +kernel
abbrev QM_count (D : DD) (o : Nat) (ad : Nat → Nat) (g : MSt) (w : Int32) : Int32 → Heap → Prop := fun r h => r = r_count g w ∧ MS D o ad g h
set_option maxHeartbeats 4000000 in
set_option maxRecDepth 100000 in
theorem cM_count (l : Launch) (D : DD) (o : Nat) (ad : Nat → Nat) (g : MSt) (w : Int32) : CTi l (EM D) yX5_count cX5_count 2 .int 0 0 0 0 (MA o ad) [.ref o, .int w] (MS D o ad g) (QM_count D o ad g w) := by sorry
theorem hdX5_count : hdV yX5_count 1 := by decide +kernel
abbrev QM_keep (D : DD) (o : Nat) (ad : Nat → Nat) (g : MSt) (s : Int32) (b : Int32) : Int32 → Heap → Prop := fun r h => r = r_keep g s b ∧ MS D o ad (n_keep g s b) h
set_option maxHeartbeats 4000000 in
set_option maxRecDepth 100000 in
theorem cM_keep (l : Launch) (D : DD) (o : Nat) (ad : Nat → Nat) (g : MSt) (s : Int32) (b : Int32) : CTi l (EM D) yX5_keep cX5_keep 3 .int 2 43 0 0 (MA o ad) [.ref o, .int s, .int b] (MS D o ad g) (QM_keep D o ad g s b) := by sorry
theorem hdX5_keep : hdV yX5_keep 2 := by decide +kernel
abbrev QM_row (D : DD) (o : Nat) (ad : Nat → Nat) (g : MSt) (s : Int32) (so : Int32) (n : Int32) : Int32 → Heap → Prop := fun r h => r = r_row s so n ∧ MS D o ad (n_row g s so n) h
set_option maxHeartbeats 4000000 in
set_option maxRecDepth 100000 in
theorem cM_row (l : Launch) (D : DD) (o : Nat) (ad : Nat → Nat) (g : MSt) (s : Int32) (so : Int32) (n : Int32) : CTi l (EM D) yX5_row cX5_row 5 .int 2 42 0 0 (MA o ad) [.ref o, .int s, .int so, .int n] (MS D o ad g) (QM_row D o ad g s so n) := by sorry
theorem hdX5_row : hdV yX5_row 3 := by decide +kernel
abbrev QM_whyNoPlace (D : DD) (o : Nat) (ad : Nat → Nat) (g : MSt) (s : Int32) (i : Int32) : Int32 → Heap → Prop := fun r h => r = whyV g s i ∧ MS D o ad g h
set_option maxHeartbeats 4000000 in
set_option maxRecDepth 100000 in
theorem cM_whyNoPlace (l : Launch) (D : DD) (o : Nat) (ad : Nat → Nat) (g : MSt) (s : Int32) (i : Int32) : CTi l (EM D) yX5_whyNoPlace cX5_whyNoPlace 3 .int 2 42 0 0 (MA o ad) [.ref o, .int s, .int i] (MS D o ad g) (QM_whyNoPlace D o ad g s i) := by sorry
theorem hdX5_whyNoPlace : hdV yX5_whyNoPlace 2 := by decide +kernel
abbrev QM_put (D : DD) (o : Nat) (ad : Nat → Nat) (g : MSt) (s : Int32) (i : Int32) (v : Int64) (nb : Nat) : Int32 → Heap → Prop := fun r h => r = r_put g s i ∧ MS D o ad (n_put g s i v) h
set_option maxHeartbeats 4000000 in
set_option maxRecDepth 100000 in
theorem cM_put (l : Launch) (D : DD) (o : Nat) (ad : Nat → Nat) (g : MSt) (s : Int32) (i : Int32) (v : Int64) (nb : Nat) (hS_ : SHI g nb) (hnb2 : nb ≤ 50) : CTi l (EM D) yX5_put cX5_put 7 .int 3 64 0 0 (MA o ad) [.ref o, .int s, .int i, .long v] (MS D o ad g) (QM_put D o ad g s i v nb) := by sorry
theorem hdX5_put : hdV yX5_put 3 := by decide +kernel
abbrev QM_element (D : DD) (o : Nat) (ad : Nat → Nat) (g : MSt) (s : Int32) (i : Int32) (nb : Nat) : Int64 → Heap → Prop := fun r h => r = r_element g s i ∧ MS D o ad g h
set_option maxHeartbeats 4000000 in
set_option maxRecDepth 100000 in
theorem cM_element (l : Launch) (D : DD) (o : Nat) (ad : Nat → Nat) (g : MSt) (s : Int32) (i : Int32) (nb : Nat) (hS_ : SHI g nb) (hnb2 : nb ≤ 50) : CTl l (EM D) yX5_element cX5_element 3 3 64 0 0 (MA o ad) [.ref o, .int s, .int i] (MS D o ad g) (QM_element D o ad g s i nb) := by sorry
theorem hdX5_element : hdV yX5_element 2 := by decide +kernel
abbrev QM_shift (D : DD) (o : Nat) (ad : Nat → Nat) (g : MSt) (s : Int32) (i : Int32) (o2 : Int32) (j : Int32) (n : Int32) (nb : Nat) : Int32 → Heap → Prop := fun r h => r = r_shift g s i o2 j n ∧ MS D o ad (n_shift g s i o2 j n) h
set_option maxHeartbeats 4000000 in
set_option maxRecDepth 100000 in
theorem cM_shift (l : Launch) (D : DD) (o : Nat) (ad : Nat → Nat) (g : MSt) (s : Int32) (i : Int32) (o2 : Int32) (j : Int32) (n : Int32) (nb : Nat) (hS_ : SHI g nb) (hnb2 : nb ≤ 50) : CTi l (EM D) yX5_shift cX5_shift 7 .int 2 42 0 0 (MA o ad) [.ref o, .int s, .int i, .int o2, .int j, .int n] (MS D o ad g) (QM_shift D o ad g s i o2 j n nb) := by sorry
theorem hdX5_shift : hdV yX5_shift 5 := by decide +kernel
abbrev QM_isUnder (D : DD) (H0 : Heap) (k : Int32) (up : Int32) : Int32 → Heap → Prop := fun r h => r = bI (undB k up) ∧ H0 = h
set_option maxHeartbeats 4000000 in
set_option maxRecDepth 100000 in
theorem cM_isUnder (l : Launch) (D : DD) (H0 : Heap) (k : Int32) (up : Int32) : CTi l (EM D) yX5_isUnder cX5_isUnder 2 .boolean 0 0 0 0 (fun _ => False) [.int k, .int up] (fun h => h = H0) (QM_isUnder D H0 k up) := by sorry
theorem hdX5_isUnder : hdS yX5_isUnder 2 := by decide +kernel
abbrev QM_taken (D : DD) (o : Nat) (ad : Nat → Nat) (g : MSt) (s : Int32) (k : Int32) (nb : Nat) : Int32 → Heap → Prop := fun r h => r = r_taken g s k ∧ MS D o ad g h
set_option maxHeartbeats 4000000 in
set_option maxRecDepth 100000 in
theorem cM_taken (l : Launch) (D : DD) (o : Nat) (ad : Nat → Nat) (g : MSt) (s : Int32) (k : Int32) (nb : Nat) (hS_ : SHI g nb) (hnb2 : nb ≤ 50) : CTi l (EM D) yX5_taken cX5_taken 3 .int 2 42 0 0 (MA o ad) [.ref o, .int s, .int k] (MS D o ad g) (QM_taken D o ad g s k nb) := by sorry
theorem hdX5_taken : hdV yX5_taken 2 := by decide +kernel
abbrev QM_ran (D : DD) (o : Nat) (ad : Nat → Nat) (g : MSt) (b : Int32) (r : Nat) : Heap → Prop := fun h => MS D o ad (ranS g r b) h
set_option maxHeartbeats 4000000 in
set_option maxRecDepth 100000 in
theorem cM_ran (l : Launch) (D : DD) (o : Nat) (ad : Nat → Nat) (g : MSt) (b : Int32) (r : Nat) (hr_ : g.1 61 = nI r) (hr2 : r < 1000) : CTv l (EM D) yX5_ran cX5_ran 2 0 0 0 0 (MA o ad) [.ref o, .int b] (MS D o ad g) (QM_ran D o ad g b r) := by sorry
theorem hdX5_ran : hdV yX5_ran 1 := by decide +kernel
