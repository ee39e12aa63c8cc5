/-! walks of the model 17: the text, the law -/
abbrev QM_readText (D : DD) (o : Nat) (ad : Nat → Nat) (g : MSt) (u : Nat) (L : Nat) : Int32 → Heap → Prop := fun r h => r = r_rd g L ∧ MS D o ad (n_rd g L) h
set_option maxHeartbeats 4000000 in
set_option maxRecDepth 100000 in
theorem cM_readText (l : Launch) (D : DD) (o : Nat) (ad : Nat → Nat) (g : MSt) (u : Nat) (L : Nat) (hu : u = 0) (hL : g.1 23 = nI L) (hL120 : L ≤ 120) : CTi l (EM D) yX5_readText cX5_readText 3 .int 61 1600 0 0 (MA o ad) [.ref o, .int (nI u)] (MS D o ad g) (QM_readText D o ad g u L) := by
  refine ct_of plX5 (Nat.le_of_ble_eq_true rfl) ?_
  intro P_ e_ s_ m_ a_ b_ me_ c_ hx hb hr hml hts hown hlk hmeth hE hM ls hl
  have C : CM P_ m_ c_ cX5_readText 3 s_ a_ D := ⟨hx, hb, hml, hown, hts, hE, EM_mov D⟩
  have hS : va_S (MA o ad) s_.heap s_.heap [] := va_S.rf
  generalize hHe : s_.heap = H at hM ⊢
  have hS : va_S (MA o ad) s_.heap H [] := by rw [hHe] at hS; rw [hHe]; exact hS
  have hl : lv_has ls 3 [(0, .ref o), (1, .int (nI u))] := hl
  have hM : MS D o ad (pQ (lQ g (g.2.1 30) (g.2.1 31) (g.2.1 32)) (g.1 24) (g.1 25) (g.1 26) (g.1 27) (g.2.1 28) (g.2.1 29)) H := by rw [lpQ_id]; exact hM
  subst hu
  refine lv_aload_n hx hb dX5_readText_0 rfl (lv_at hl 0 rfl) ?_
  refine lv_iconst (v := 0) hx hb dX5_readText_1 (by decide) ?_
  refine s_pi C hM hS 24 (by decide) (by decide) q1402 dX5_readText_2 (fun H locs hM hS => ?_)
  have hM : MS D o ad (pQ (lQ g (g.2.1 30) (g.2.1 31) (g.2.1 32)) (0 : Int32) (g.1 25) (g.1 26) (g.1 27) (g.2.1 28) (g.2.1 29)) H := by rw [pQ_24] at hM; exact hM
  refine lv_aload_n hx hb dX5_readText_5 rfl (lv_at hl 0 rfl) ?_
  refine lv_iconst (v := -1) hx hb dX5_readText_6 (by decide) ?_
  refine s_pi C hM hS 25 (by decide) (by decide) q1403 dX5_readText_7 (fun H locs hM hS => ?_)
  have hM : MS D o ad (pQ (lQ g (g.2.1 30) (g.2.1 31) (g.2.1 32)) (0 : Int32) ((-1) : Int32) (g.1 26) (g.1 27) (g.2.1 28) (g.2.1 29)) H := by rw [pQ_25] at hM; exact hM
  refine lv_aload_n hx hb dX5_readText_10 rfl (lv_at hl 0 rfl) ?_
  refine lv_iconst (v := 0) hx hb dX5_readText_11 (by decide) ?_
  refine s_pi C hM hS 26 (by decide) (by decide) q1404 dX5_readText_12 (fun H locs hM hS => ?_)
  have hM : MS D o ad (pQ (lQ g (g.2.1 30) (g.2.1 31) (g.2.1 32)) (0 : Int32) ((-1) : Int32) (0 : Int32) (g.1 27) (g.2.1 28) (g.2.1 29)) H := by rw [pQ_26] at hM; exact hM
  refine lv_aload_n hx hb dX5_readText_15 rfl (lv_at hl 0 rfl) ?_
  refine lv_iconst (v := 0) hx hb dX5_readText_16 (by decide) ?_
  refine s_pi C hM hS 27 (by decide) (by decide) q1405 dX5_readText_17 (fun H locs hM hS => ?_)
  have hM : MS D o ad (pQ (lQ g (g.2.1 30) (g.2.1 31) (g.2.1 32)) (0 : Int32) ((-1) : Int32) (0 : Int32) (0 : Int32) (g.2.1 28) (g.2.1 29)) H := by rw [pQ_27] at hM; exact hM
  refine lv_aload_n hx hb dX5_readText_20 rfl (lv_at hl 0 rfl) ?_
  refine s_get C hM 30 (by decide) q1408 (v := .ref (ad 30)) rfl dX5_readText_21 ?_
  refine lv_iconst (v := 1) hx hb dX5_readText_24 (by decide) ?_
  refine lv_iconst (v := 0) hx hb dX5_readText_25 (by decide) ?_
  refine s_ist C hM hS 30 (by decide) (by decide) 1 (show 1 < 2 from by omega) (show (1 : Int32) = nI 1 from rfl) dX5_readText_26 (fun H locs hM hS => ?_)
  have hM : MS D o ad (pQ (lQ g (va_up (g.2.1 30) 1 0) (g.2.1 31) (g.2.1 32)) (0 : Int32) ((-1) : Int32) (0 : Int32) (0 : Int32) (g.2.1 28) (g.2.1 29)) H := by rw [lQ_30] at hM; exact hM
  have hM : MS D o ad (pQ (lQ g (va_up (g.2.1 30) 1 (nI 0)) (g.2.1 31) (g.2.1 32)) (nI (PT.h (p0S (g.2.1 28) (g.2.1 29)))) (PT.fl (p0S (g.2.1 28) (g.2.1 29))) (PT.op (p0S (g.2.1 28) (g.2.1 29))) (nI (PT.n (p0S (g.2.1 28) (g.2.1 29)))) (PT.A (p0S (g.2.1 28) (g.2.1 29))) (PT.W (p0S (g.2.1 28) (g.2.1 29)))) H := hM
  refine lv_aload_n hx hb dX5_readText_27 rfl (lv_at hl 0 rfl) ?_
  refine gov (runV_ C (cM_line l D o ad g (p0S (g.2.1 28) (g.2.1 29)) L 0 (g.2.1 31) (g.2.1 32) hL hL120 (okP_0 _ _) (by omega)) hdX5_line (lw_V q1665 q1667 qs56 q121 q1668) ⟨by simp only [rm_]; omega, by simp only [rm_]; omega⟩ (s_recv C hM) hM rfl hl.1 rfl (Nat.le_of_ble_eq_true rfl) dX5_readText_28 ⟨Nat.le_refl _, Nat.le_refl _⟩) hS (fun _ h => h) (fun H1 locs hq hS _ _ => ?_)
  have hM := hq
  generalize H1 = H at hM hS ⊢
  have hM : MS D o ad (pQ (lQ g (va_up (g.2.1 30) 1 (nI (lnS (lkV (g.2.1 22) L) L (p0S (g.2.1 28) (g.2.1 29)) 0 (g.2.1 31) (g.2.1 32)).2.1)) ((lnS (lkV (g.2.1 22) L) L (p0S (g.2.1 28) (g.2.1 29)) 0 (g.2.1 31) (g.2.1 32)).2.2.1) ((lnS (lkV (g.2.1 22) L) L (p0S (g.2.1 28) (g.2.1 29)) 0 (g.2.1 31) (g.2.1 32)).2.2.2)) (nI (PT.h ((lnS (lkV (g.2.1 22) L) L (p0S (g.2.1 28) (g.2.1 29)) 0 (g.2.1 31) (g.2.1 32)).1))) (PT.fl ((lnS (lkV (g.2.1 22) L) L (p0S (g.2.1 28) (g.2.1 29)) 0 (g.2.1 31) (g.2.1 32)).1)) (PT.op ((lnS (lkV (g.2.1 22) L) L (p0S (g.2.1 28) (g.2.1 29)) 0 (g.2.1 31) (g.2.1 32)).1)) (nI (PT.n ((lnS (lkV (g.2.1 22) L) L (p0S (g.2.1 28) (g.2.1 29)) 0 (g.2.1 31) (g.2.1 32)).1))) (PT.A ((lnS (lkV (g.2.1 22) L) L (p0S (g.2.1 28) (g.2.1 29)) 0 (g.2.1 31) (g.2.1 32)).1)) (PT.W ((lnS (lkV (g.2.1 22) L) L (p0S (g.2.1 28) (g.2.1 29)) 0 (g.2.1 31) (g.2.1 32)).1))) H := hM
  have hok1 := okS_ln (τ := g.2.1 22) hL120 (okP_0 (g.2.1 28) (g.2.1 29)) (m := 0) (g.2.1 31) (g.2.1 32) (Nat.zero_le _) (by omega)
  generalize hs0 : lnS (lkV (g.2.1 22) L) L (p0S (g.2.1 28) (g.2.1 29)) 0 (g.2.1 31) (g.2.1 32) = s0 at hM hok1
  have lp_31 : ∀ (j_ : Nat) (s : LT) (F : Nat), (L - PT.h s.1) < j_ → (okS L s) → (L - PT.h s.1 ≤ F) → (rdL (lkV (g.2.1 22) L) L F s = (rdT g L)) → ∀ (H : Heap) (locs : List Loc) (ls : Array Slot), MS D o ad (pQ (lQ g (va_up (g.2.1 30) 1 (nI s.2.1)) s.2.2.1 s.2.2.2) (nI (PT.h s.1)) (PT.fl s.1) (PT.op s.1) (nI (PT.n s.1)) (PT.A s.1) (PT.W s.1)) H → va_S (MA o ad) s_.heap H locs → lv_has ls 3 [(0, .ref o), (1, .int (nI 0))] → W P_ l e_ (rm_ 61 1600 0 0) s_ m_ a_ b_ me_ c_ H locs 0 0 (MQ b_ (Qi_ (QM_readText D o ad g 0 L) (MA o ad)) a_ s_ 0 0 (MA o ad)) (F0 m_ 31 ls []) := by
    intro j_
    induction j_ with
    | zero => intro s F hj; exact absurd hj (Nat.not_lt_zero _)
    | succ j_ ih_31 =>
      intro s F hj_31   hoS hF hlo H locs ls hM hS hl
      have hl : lv_has ls 3 [(0, .ref o), (1, .int (nI 0))] := hl
      have hoL : PT.h s.1 ≤ L := hoS.1.1
      have hoN : PT.n s.1 ≤ PT.h s.1 + 1 := hoS.1.2.1
      have hm61 : s.2.1 ≤ 61 := hoS.2.1
      refine lv_aload_n hx hb dX5_readText_31 rfl (lv_at hl 0 rfl) ?_
      refine s_get C hM 25 (by decide) q1403 (v := .int (PT.fl s.1)) rfl dX5_readText_32 ?_
      refine lv_if_ge (tgt := 64) hx hb dX5_readText_35 (by decide) (fun c_35 => ?_) (fun c_35 => ?_)
      · skip
        have hout : (rdT g L) = s := by rw [← hlo]; exact rdL_out (Or.inl c_35) F
        refine lv_aload_n hx hb dX5_readText_64 rfl (lv_at hl 0 rfl) ?_
        refine s_get C hM 25 (by decide) q1403 (v := .int (PT.fl s.1)) rfl dX5_readText_65 ?_
        refine lv_if_ge (tgt := 86) hx hb dX5_readText_68 (by decide) (fun c_68 => ?_) (fun c_68 => ?_)
        · skip
          have hrv : rdV g L = PT.fl s.1 := by rw [rdV, hout, if_neg (fun z => z.1 c_35)]
          refine lv_aload_n hx hb dX5_readText_86 rfl (lv_at hl 0 rfl) ?_
          refine lv_iconst (v := 0) hx hb dX5_readText_87 (by decide) ?_
          refine s_pi C hM hS 23 (by decide) (by decide) q1401 dX5_readText_88 (fun H locs hM hS => ?_)
          obtain ⟨rv, hrv2⟩ : ∃ z, rdV g L = z := ⟨_, rfl⟩
          have hM : MS D o ad (tQ g (va_up (g.2.1 30) 1 (nI s.2.1)) s.2.2.1 s.2.2.2 (nI (PT.h s.1)) rv (PT.op s.1) (nI (PT.n s.1)) (PT.A s.1) (PT.W s.1)) H := by rw [← hrv2, hrv]; exact hM
          refine lv_aload_n hx hb dX5_readText_91 rfl (lv_at hl 0 rfl) ?_
          refine s_get C hM 25 (by decide) q1403 (v := .int rv) rfl dX5_readText_92 ?_
          refine lv_if_lt (tgt := 103) hx hb dX5_readText_95 (by decide) (fun c_95 => ?_) (fun c_95 => ?_)
          · rw [← hrv2, hrv] at c_95; exact absurd c_35 (Int32.not_le.2 c_95)
          · skip
            refine lv_aload_n hx hb dX5_readText_98 rfl (lv_at hl 0 rfl) ?_
            refine s_get C hM 25 (by decide) q1403 (v := .int rv) rfl dX5_readText_99 ?_
            exact ci_ret hx hb hr hlk hS rfl ⟨by rw [r_rd, hrv2, if_pos (Int32.not_lt.1 c_95)], by rw [n_rd, hrv2, if_pos (Int32.not_lt.1 c_95), hout]; exact hM⟩ dX5_readText_102
        · exact absurd c_35 c_68
      · skip
        have hokq := hoS.1.2.2 c_35
        have hm2 := hoS.2.2 c_35
        refine lv_aload_n hx hb dX5_readText_38 rfl (lv_at hl 0 rfl) ?_
        refine goi (runV_ C (cM_look l D o ad (lQ g (va_up (g.2.1 30) 1 (nI s.2.1)) s.2.2.1 s.2.2.2) s.1 L (PT.h s.1) hL hL120 rfl (show (PT.h s.1) ≤ 1000 by omega)) hdX5_look (lw_V q1693 q1695 qs63 q121 q1696) ⟨by simp only [rm_]; omega, by simp only [rm_]; omega⟩ (s_recv C hM) hM rfl hl.1 rfl (Nat.le_of_ble_eq_true rfl) dX5_readText_39 ⟨Nat.le_refl _, Nat.le_refl _⟩) hS (fun _ h => h) (fun r_39 H1 locs hq hS _ _ => ?_)
        obtain ⟨hr_, hM⟩ := hq
        have hr_ : r_39 = lkV (g.2.1 22) L (PT.h s.1) := hr_
        replace hr_ := hr_.symm
        subst hr_
        generalize H1 = H at hM hS ⊢
        have hM : MS D o ad (pQ (lQ g (va_up (g.2.1 30) 1 (nI s.2.1)) s.2.2.1 s.2.2.2) (nI (PT.h s.1)) (PT.fl s.1) (PT.op s.1) (nI (PT.n s.1)) (PT.A s.1) (PT.W s.1)) H := hM
        refine lv_bipush (v := 59) hx hb dX5_readText_42 (by decide) ?_
        refine lv_icmp_ne (tgt := 64) hx hb dX5_readText_44 (by decide) (fun c_44 => ?_) (fun c_44 => ?_)
        · skip
          have hout : (rdT g L) = s := by rw [← hlo]; exact rdL_out (Or.inr c_44) F
          refine lv_aload_n hx hb dX5_readText_64 rfl (lv_at hl 0 rfl) ?_
          refine s_get C hM 25 (by decide) q1403 (v := .int (PT.fl s.1)) rfl dX5_readText_65 ?_
          refine lv_if_ge (tgt := 86) hx hb dX5_readText_68 (by decide) (fun c_68 => ?_) (fun c_68 => ?_)
          · exact absurd c_68 c_35
          · skip
            refine lv_aload_n hx hb dX5_readText_71 rfl (lv_at hl 0 rfl) ?_
            refine s_get C hM 24 (by decide) q1402 (v := .int (nI (PT.h s.1))) rfl dX5_readText_72 ?_
            refine lv_aload_n hx hb dX5_readText_75 rfl (lv_at hl 0 rfl) ?_
            refine s_get C hM 23 (by decide) q1401 (v := .int (nI L)) (congrArg Value.int hL) dX5_readText_76 ?_
            refine lv_icmp_ge (tgt := 86) hx hb dX5_readText_79 (by decide) (fun c_79 => ?_) (fun c_79 => ?_)
            · skip
              have hge : ¬ PT.h s.1 < L := by have := cle c_79 rfl (by omega) (by omega); omega
              have hrv : rdV g L = PT.fl s.1 := by rw [rdV, hout, if_neg (fun z => hge z.2)]
              refine lv_aload_n hx hb dX5_readText_86 rfl (lv_at hl 0 rfl) ?_
              refine lv_iconst (v := 0) hx hb dX5_readText_87 (by decide) ?_
              refine s_pi C hM hS 23 (by decide) (by decide) q1401 dX5_readText_88 (fun H locs hM hS => ?_)
              obtain ⟨rv, hrv2⟩ : ∃ z, rdV g L = z := ⟨_, rfl⟩
              have hM : MS D o ad (tQ g (va_up (g.2.1 30) 1 (nI s.2.1)) s.2.2.1 s.2.2.2 (nI (PT.h s.1)) rv (PT.op s.1) (nI (PT.n s.1)) (PT.A s.1) (PT.W s.1)) H := by rw [← hrv2, hrv]; exact hM
              refine lv_aload_n hx hb dX5_readText_91 rfl (lv_at hl 0 rfl) ?_
              refine s_get C hM 25 (by decide) q1403 (v := .int rv) rfl dX5_readText_92 ?_
              refine lv_if_lt (tgt := 103) hx hb dX5_readText_95 (by decide) (fun c_95 => ?_) (fun c_95 => ?_)
              · skip
                have hwl : WL s := by rw [← hout]; exact WL_T hL120 (by rw [hout]; exact c_35)
                have hn121 : PT.n s.1 ≤ 121 := by have := hoS.1.2.1; omega
                refine lv_iconst (v := 0) hx hb dX5_readText_103 (by decide) ?_
                refine lv_topE (show (0 : Int32) = nI 0 from rfl) ?_
                refine lv_istore_n (lv' := [(2, .int (nI 0)), (0, .ref o), (1, .int (nI 0))]) hx hb dX5_readText_104 rfl hl (by decide) rfl (fun ls hl => ?_)
                have lp_105 : ∀ (j_ : Nat) (k : Nat), ((PT.n s.1) - k) < j_ → ∀ (y2 : Int32), y2 = nI k → (k ≤ (PT.n s.1)) → ∀ (H : Heap) (locs : List Loc) (ls : Array Slot), MS D o ad (tQ g (va_up (g.2.1 30) 1 (nI s.2.1)) s.2.2.1 s.2.2.2 (nI (PT.h s.1)) rv (PT.op s.1) (nI (PT.n s.1)) (shF (PT.A s.1) 130 k) (shF (PT.W s.1) 130 k)) H → va_S (MA o ad) s_.heap H locs → lv_has ls 3 [(2, .int y2), (0, .ref o), (1, .int (nI 0))] → W P_ l e_ (rm_ 61 1600 0 0) s_ m_ a_ b_ me_ c_ H locs 0 0 (MQ b_ (Qi_ (QM_readText D o ad g 0 L) (MA o ad)) a_ s_ 0 0 (MA o ad)) (F0 m_ 105 ls []) := by
                  intro j_
                  induction j_ with
                  | zero => intro k hj; exact absurd hj (Nat.not_lt_zero _)
                  | succ j_ ih_105 =>
                    intro k hj_105 y2 hy2 hk H locs ls hM hS hl
                    subst hy2
                    have hl : lv_has ls 3 [(2, .int (nI k)), (0, .ref o), (1, .int (nI 0))] := hl
                    refine lv_iload_n hx hb dX5_readText_105 rfl (lv_at hl 0 rfl) ?_
                    refine lv_aload_n hx hb dX5_readText_106 rfl (lv_at hl 1 rfl) ?_
                    refine s_get C hM 27 (by decide) q1405 (v := .int (nI (PT.n s.1))) rfl dX5_readText_107 ?_
                    refine lv_icmp_ge (tgt := 163) hx hb dX5_readText_110 (by decide) (fun c_110 => ?_) (fun c_110 => ?_)
                    · skip
                      have hkn : k = PT.n s.1 := by have := cle c_110 rfl (by omega) (by omega); omega
                      have hM : MS D o ad (tQ g (va_up (g.2.1 30) 1 (nI s.2.1)) s.2.2.1 s.2.2.2 (nI (PT.h s.1)) rv (PT.op s.1) (nI (PT.n s.1)) (shF (PT.A s.1) 130 (PT.n s.1)) (shF (PT.W s.1) 130 (PT.n s.1))) H := by rw [hkn] at hM; exact hM
                      refine lv_aload_n hx hb dX5_readText_163 rfl (lv_at hl 1 rfl) ?_
                      refine s_get C hM 30 (by decide) q1408 (v := .ref (ad 30)) rfl dX5_readText_164 ?_
                      refine lv_iload_n hx hb dX5_readText_167 rfl (lv_at hl 2 rfl) ?_
                      refine lv_aload_n hx hb dX5_readText_168 rfl (lv_at hl 1 rfl) ?_
                      refine s_get C hM 30 (by decide) q1408 (v := .ref (ad 30)) rfl dX5_readText_169 ?_
                      refine lv_iconst (v := 1) hx hb dX5_readText_172 (by decide) ?_
                      refine s_ild C hM 30 (by decide) (by decide) 1 (show 1 < 2 from by omega) (show (1 : Int32) = nI 1 from rfl) (x := (va_up (g.2.1 30) 1 (nI s.2.1)) 1) rfl dX5_readText_173 ?_
                      refine lv_topE (y := nI s.2.1) (va_upS _ _ _) ?_
                      refine s_ist C hM hS 30 (by decide) (by decide) 0 (show 0 < 2 from by omega) rfl dX5_readText_174 (fun H locs hM hS => ?_)
                      have hM : MS D o ad (tQ g (va_up (va_up (g.2.1 30) 1 (nI s.2.1)) 0 (nI s.2.1)) s.2.2.1 s.2.2.2 (nI (PT.h s.1)) rv (PT.op s.1) (nI (PT.n s.1)) (shF (PT.A s.1) 130 (PT.n s.1)) (shF (PT.W s.1) 130 (PT.n s.1))) H := by rw [tQ_30] at hM; exact hM
                      refine lv_iconst (v := 0) hx hb dX5_readText_175 (by decide) ?_
                      refine lv_topE (show (0 : Int32) = nI 0 from rfl) ?_
                      refine lv_istore_n (lv' := [(2, .int (nI 0)), (0, .ref o), (1, .int (nI 0))]) hx hb dX5_readText_176 rfl hl (by decide) rfl (fun ls hl => ?_)
                      have lp_177 : ∀ (j_ : Nat) (j : Nat), (s.2.1 - j) < j_ → ∀ (y2 : Int32), y2 = nI j → (j ≤ s.2.1) → ∀ (H : Heap) (locs : List Loc) (ls : Array Slot), MS D o ad (tQ g (va_up (va_up (g.2.1 30) 1 (nI s.2.1)) 0 (nI s.2.1)) (shF s.2.2.1 61 j) (shF s.2.2.2 61 j) (nI (PT.h s.1)) rv (PT.op s.1) (nI (PT.n s.1)) (shF (PT.A s.1) 130 (PT.n s.1)) (shF (PT.W s.1) 130 (PT.n s.1))) H → va_S (MA o ad) s_.heap H locs → lv_has ls 3 [(2, .int y2), (0, .ref o), (1, .int (nI 0))] → W P_ l e_ (rm_ 61 1600 0 0) s_ m_ a_ b_ me_ c_ H locs 0 0 (MQ b_ (Qi_ (QM_readText D o ad g 0 L) (MA o ad)) a_ s_ 0 0 (MA o ad)) (F0 m_ 177 ls []) := by
                        intro j_
                        induction j_ with
                        | zero => intro j hj; exact absurd hj (Nat.not_lt_zero _)
                        | succ j_ ih_177 =>
                          intro j hj_177 y2 hy2 hj H locs ls hM hS hl
                          subst hy2
                          have hl : lv_has ls 3 [(2, .int (nI j)), (0, .ref o), (1, .int (nI 0))] := hl
                          refine lv_iload_n hx hb dX5_readText_177 rfl (lv_at hl 0 rfl) ?_
                          refine lv_aload_n hx hb dX5_readText_178 rfl (lv_at hl 1 rfl) ?_
                          refine s_get C hM 30 (by decide) q1408 (v := .ref (ad 30)) rfl dX5_readText_179 ?_
                          refine lv_iload_n hx hb dX5_readText_182 rfl (lv_at hl 2 rfl) ?_
                          refine s_ild C hM 30 (by decide) (by decide) 0 (show 0 < 2 from by omega) rfl (x := (va_up (va_up (g.2.1 30) 1 (nI s.2.1)) 0 (nI s.2.1)) 0) rfl dX5_readText_183 ?_
                          refine lv_topE (y := nI s.2.1) (va_upS _ _ _) ?_
                          refine lv_icmp_ge (tgt := 233) hx hb dX5_readText_184 (by decide) (fun c_184 => ?_) (fun c_184 => ?_)
                          · skip
                            have hjn : j = s.2.1 := by have := cle c_184 rfl (by omega) (by omega); omega
                            have hM : MS D o ad (tQ g (va_up (va_up (g.2.1 30) 1 (nI s.2.1)) 0 (nI s.2.1)) (shF s.2.2.1 61 s.2.1) (shF s.2.2.2 61 s.2.1) (nI (PT.h s.1)) rv (PT.op s.1) (nI (PT.n s.1)) (shF (PT.A s.1) 130 (PT.n s.1)) (shF (PT.W s.1) 130 (PT.n s.1))) H := by rw [hjn] at hM; exact hM
                            refine lv_iconst (v := -1) hx hb dX5_readText_233 (by decide) ?_
                            exact ci_ret hx hb hr hlk hS rfl ⟨by rw [r_rd, hrv2, if_neg (Int32.not_le.2 c_95)], by rw [n_rd, hrv2, if_neg (Int32.not_le.2 c_95), hout]; exact hM⟩ dX5_readText_234
                          · skip
                            have hj1 : j < s.2.1 := cnle c_184 rfl (by omega) (by omega)
                            have hsj := WL_s hwl hn121 hj1
                            refine lv_aload_n hx hb dX5_readText_187 rfl (lv_at hl 1 rfl) ?_
                            refine s_get C hM 31 (by decide) q1409 (v := .ref (ad 31)) rfl dX5_readText_188 ?_
                            refine lv_bipush (v := 61) hx hb dX5_readText_191 (by decide) ?_
                            refine lv_iload_n hx hb dX5_readText_193 rfl (lv_at hl 2 rfl) ?_
                            refine lv_imul hx hb dX5_readText_194 ?_
                            refine lv_topE (show (61 : Int32) * nI 0 = nI 0 from rfl) ?_
                            refine lv_iload_n hx hb dX5_readText_195 rfl (lv_at hl 0 rfl) ?_
                            refine lv_iadd hx hb dX5_readText_196 ?_
                            refine lv_topE (nadd (show nI 0 = nI 0 from rfl) (show nI j = nI j from rfl)) ?_
                            refine lv_topE (y := nI j) (congrArg nI (Nat.zero_add _)) ?_
                            refine lv_aload_n hx hb dX5_readText_197 rfl (lv_at hl 1 rfl) ?_
                            refine s_get C hM 31 (by decide) q1409 (v := .ref (ad 31)) rfl dX5_readText_198 ?_
                            refine lv_bipush (v := 61) hx hb dX5_readText_201 (by decide) ?_
                            refine lv_iload_n hx hb dX5_readText_203 rfl (lv_at hl 0 rfl) ?_
                            refine lv_iadd hx hb dX5_readText_204 ?_
                            refine lv_topE (nadd (show (61 : Int32) = nI 61 from rfl) (show nI j = nI j from rfl)) ?_
                            refine s_sld C hM 31 (by decide) (by decide) (61 + j) (show (61 + j) < 122 from by omega) rfl (x := (shF s.2.2.1 61 j) (61 + j)) rfl dX5_readText_205 ?_
                            refine lv_topE (y := s.2.2.1 (61 + j)) (shF_at _ _ _ _ (by omega)) ?_
                            refine s_sst C hM hS 31 (by decide) (by decide) j (show j < 122 from by omega) rfl dX5_readText_206 (fun H locs hM hS => ?_)
                            have hM : MS D o ad (tQ g (va_up (va_up (g.2.1 30) 1 (nI s.2.1)) 0 (nI s.2.1)) (va_up (shF s.2.2.1 61 j) j (vp_nar .short (s.2.2.1 (61 + j)))) (shF s.2.2.2 61 j) (nI (PT.h s.1)) rv (PT.op s.1) (nI (PT.n s.1)) (shF (PT.A s.1) 130 (PT.n s.1)) (shF (PT.W s.1) 130 (PT.n s.1))) H := by rw [tQ_31] at hM; exact hM
                            have hM : MS D o ad (tQ g (va_up (va_up (g.2.1 30) 1 (nI s.2.1)) 0 (nI s.2.1)) (shF s.2.2.1 61 (j + 1)) (shF s.2.2.2 61 j) (nI (PT.h s.1)) rv (PT.op s.1) (nI (PT.n s.1)) (shF (PT.A s.1) 130 (PT.n s.1)) (shF (PT.W s.1) 130 (PT.n s.1))) H := by rw [hsj.1, shF_s] at hM; exact hM
                            refine lv_aload_n hx hb dX5_readText_207 rfl (lv_at hl 1 rfl) ?_
                            refine s_get C hM 32 (by decide) q1410 (v := .ref (ad 32)) rfl dX5_readText_208 ?_
                            refine lv_bipush (v := 61) hx hb dX5_readText_211 (by decide) ?_
                            refine lv_iload_n hx hb dX5_readText_213 rfl (lv_at hl 2 rfl) ?_
                            refine lv_imul hx hb dX5_readText_214 ?_
                            refine lv_topE (show (61 : Int32) * nI 0 = nI 0 from rfl) ?_
                            refine lv_iload_n hx hb dX5_readText_215 rfl (lv_at hl 0 rfl) ?_
                            refine lv_iadd hx hb dX5_readText_216 ?_
                            refine lv_topE (nadd (show nI 0 = nI 0 from rfl) (show nI j = nI j from rfl)) ?_
                            refine lv_topE (y := nI j) (congrArg nI (Nat.zero_add _)) ?_
                            refine lv_aload_n hx hb dX5_readText_217 rfl (lv_at hl 1 rfl) ?_
                            refine s_get C hM 32 (by decide) q1410 (v := .ref (ad 32)) rfl dX5_readText_218 ?_
                            refine lv_bipush (v := 61) hx hb dX5_readText_221 (by decide) ?_
                            refine lv_iload_n hx hb dX5_readText_223 rfl (lv_at hl 0 rfl) ?_
                            refine lv_iadd hx hb dX5_readText_224 ?_
                            refine lv_topE (nadd (show (61 : Int32) = nI 61 from rfl) (show nI j = nI j from rfl)) ?_
                            refine s_sld C hM 32 (by decide) (by decide) (61 + j) (show (61 + j) < 122 from by omega) rfl (x := (shF s.2.2.2 61 j) (61 + j)) rfl dX5_readText_225 ?_
                            refine lv_topE (y := s.2.2.2 (61 + j)) (shF_at _ _ _ _ (by omega)) ?_
                            refine s_sst C hM hS 32 (by decide) (by decide) j (show j < 122 from by omega) rfl dX5_readText_226 (fun H locs hM hS => ?_)
                            have hM : MS D o ad (tQ g (va_up (va_up (g.2.1 30) 1 (nI s.2.1)) 0 (nI s.2.1)) (shF s.2.2.1 61 (j + 1)) (va_up (shF s.2.2.2 61 j) j (vp_nar .short (s.2.2.2 (61 + j)))) (nI (PT.h s.1)) rv (PT.op s.1) (nI (PT.n s.1)) (shF (PT.A s.1) 130 (PT.n s.1)) (shF (PT.W s.1) 130 (PT.n s.1))) H := by rw [tQ_32] at hM; exact hM
                            have hM : MS D o ad (tQ g (va_up (va_up (g.2.1 30) 1 (nI s.2.1)) 0 (nI s.2.1)) (shF s.2.2.1 61 (j + 1)) (shF s.2.2.2 61 (j + 1)) (nI (PT.h s.1)) rv (PT.op s.1) (nI (PT.n s.1)) (shF (PT.A s.1) 130 (PT.n s.1)) (shF (PT.W s.1) 130 (PT.n s.1))) H := by rw [hsj.2, shF_s] at hM; exact hM
                            refine lv_iinc (v := nI (j + 1)) (lv' := [(2, .int (nI (j + 1))), (0, .ref o), (1, .int (nI 0))]) hx hb dX5_readText_227 hl (k := 0) rfl (iinc1 _) (by decide) rfl (fun ls hl => ?_)
                            refine lv_goto (tgt := 177) hx hb dX5_readText_230 (by decide) ?_
                            exact ih_177 (j + 1) (by omega) (nI (j + 1)) rfl (by omega) _ _ ls hM hS (lv_sub hl [0, 1, 2] rfl)
                      exact lp_177 ((s.2.1 - 0) + 1) 0 (Nat.lt_succ_self _) (nI 0) rfl (by omega) _ _ ls (by rw [shF_0, shF_0]; exact hM) hS (lv_sub hl [0, 1, 2] rfl)
                    · skip
                      have hk1 : k < PT.n s.1 := cnle c_110 rfl (by omega) (by omega)
                      have h8k : vp_nar .byte (PT.A s.1 (130 + k)) = PT.A s.1 (130 + k) := hwl.2.2 k hk1
                      refine lv_aload_n hx hb dX5_readText_113 rfl (lv_at hl 1 rfl) ?_
                      refine s_get C hM 28 (by decide) q1406 (v := .ref (ad 28)) rfl dX5_readText_114 ?_
                      refine lv_sipush (v := 130) hx hb dX5_readText_117 (by decide) ?_
                      refine lv_iload_n hx hb dX5_readText_120 rfl (lv_at hl 2 rfl) ?_
                      refine lv_imul hx hb dX5_readText_121 ?_
                      refine lv_topE (show (130 : Int32) * nI 0 = nI 0 from rfl) ?_
                      refine lv_iload_n hx hb dX5_readText_122 rfl (lv_at hl 0 rfl) ?_
                      refine lv_iadd hx hb dX5_readText_123 ?_
                      refine lv_topE (nadd (show nI 0 = nI 0 from rfl) (show nI k = nI k from rfl)) ?_
                      refine lv_topE (y := nI k) (congrArg nI (Nat.zero_add _)) ?_
                      refine lv_aload_n hx hb dX5_readText_124 rfl (lv_at hl 1 rfl) ?_
                      refine s_get C hM 28 (by decide) q1406 (v := .ref (ad 28)) rfl dX5_readText_125 ?_
                      refine lv_sipush (v := 130) hx hb dX5_readText_128 (by decide) ?_
                      refine lv_iload_n hx hb dX5_readText_131 rfl (lv_at hl 0 rfl) ?_
                      refine lv_iadd hx hb dX5_readText_132 ?_
                      refine lv_topE (nadd (show (130 : Int32) = nI 130 from rfl) (show nI k = nI k from rfl)) ?_
                      refine s_bld C hM 28 (by decide) (by decide) (130 + k) (show (130 + k) < 260 from by omega) rfl (x := (shF (PT.A s.1) 130 k) (130 + k)) rfl dX5_readText_133 ?_
                      refine lv_topE (y := PT.A s.1 (130 + k)) (shF_at _ _ _ _ (by omega)) ?_
                      refine s_bst C hM hS 28 (by decide) (by decide) k (show k < 260 from by omega) rfl dX5_readText_134 (fun H locs hM hS => ?_)
                      have hM : MS D o ad (tQ g (va_up (g.2.1 30) 1 (nI s.2.1)) s.2.2.1 s.2.2.2 (nI (PT.h s.1)) rv (PT.op s.1) (nI (PT.n s.1)) (va_up (shF (PT.A s.1) 130 k) k (vp_nar .byte (PT.A s.1 (130 + k)))) (shF (PT.W s.1) 130 k)) H := by rw [tQ_28] at hM; exact hM
                      have hM : MS D o ad (tQ g (va_up (g.2.1 30) 1 (nI s.2.1)) s.2.2.1 s.2.2.2 (nI (PT.h s.1)) rv (PT.op s.1) (nI (PT.n s.1)) (shF (PT.A s.1) 130 (k + 1)) (shF (PT.W s.1) 130 k)) H := by rw [h8k, shF_s] at hM; exact hM
                      refine lv_aload_n hx hb dX5_readText_135 rfl (lv_at hl 1 rfl) ?_
                      refine s_get C hM 29 (by decide) q1407 (v := .ref (ad 29)) rfl dX5_readText_136 ?_
                      refine lv_sipush (v := 130) hx hb dX5_readText_139 (by decide) ?_
                      refine lv_iload_n hx hb dX5_readText_142 rfl (lv_at hl 2 rfl) ?_
                      refine lv_imul hx hb dX5_readText_143 ?_
                      refine lv_topE (show (130 : Int32) * nI 0 = nI 0 from rfl) ?_
                      refine lv_iload_n hx hb dX5_readText_144 rfl (lv_at hl 0 rfl) ?_
                      refine lv_iadd hx hb dX5_readText_145 ?_
                      refine lv_topE (nadd (show nI 0 = nI 0 from rfl) (show nI k = nI k from rfl)) ?_
                      refine lv_topE (y := nI k) (congrArg nI (Nat.zero_add _)) ?_
                      refine lv_aload_n hx hb dX5_readText_146 rfl (lv_at hl 1 rfl) ?_
                      refine s_get C hM 29 (by decide) q1407 (v := .ref (ad 29)) rfl dX5_readText_147 ?_
                      refine lv_sipush (v := 130) hx hb dX5_readText_150 (by decide) ?_
                      refine lv_iload_n hx hb dX5_readText_153 rfl (lv_at hl 0 rfl) ?_
                      refine lv_iadd hx hb dX5_readText_154 ?_
                      refine lv_topE (nadd (show (130 : Int32) = nI 130 from rfl) (show nI k = nI k from rfl)) ?_
                      refine s_ild C hM 29 (by decide) (by decide) (130 + k) (show (130 + k) < 260 from by omega) rfl (x := (shF (PT.W s.1) 130 k) (130 + k)) rfl dX5_readText_155 ?_
                      refine lv_topE (y := PT.W s.1 (130 + k)) (shF_at _ _ _ _ (by omega)) ?_
                      refine s_ist C hM hS 29 (by decide) (by decide) k (show k < 260 from by omega) rfl dX5_readText_156 (fun H locs hM hS => ?_)
                      have hM : MS D o ad (tQ g (va_up (g.2.1 30) 1 (nI s.2.1)) s.2.2.1 s.2.2.2 (nI (PT.h s.1)) rv (PT.op s.1) (nI (PT.n s.1)) (shF (PT.A s.1) 130 (k + 1)) (va_up (shF (PT.W s.1) 130 k) k (PT.W s.1 (130 + k)))) H := by rw [tQ_29] at hM; exact hM
                      have hM : MS D o ad (tQ g (va_up (g.2.1 30) 1 (nI s.2.1)) s.2.2.1 s.2.2.2 (nI (PT.h s.1)) rv (PT.op s.1) (nI (PT.n s.1)) (shF (PT.A s.1) 130 (k + 1)) (shF (PT.W s.1) 130 (k + 1))) H := by rw [shF_s] at hM; exact hM
                      refine lv_iinc (v := nI (k + 1)) (lv' := [(2, .int (nI (k + 1))), (0, .ref o), (1, .int (nI 0))]) hx hb dX5_readText_157 hl (k := 0) rfl (iinc1 _) (by decide) rfl (fun ls hl => ?_)
                      refine lv_goto (tgt := 105) hx hb dX5_readText_160 (by decide) ?_
                      exact ih_105 (k + 1) (by omega) (nI (k + 1)) rfl (by omega) _ _ ls hM hS (lv_sub hl [0, 1, 2] rfl)
                exact lp_105 (((PT.n s.1) - 0) + 1) 0 (Nat.lt_succ_self _) (nI 0) rfl (by omega) _ _ ls (by rw [shF_0, shF_0]; exact hM) hS (lv_sub hl [0, 1, 2] rfl)
              · rw [← hrv2, hrv] at c_95; exact absurd (Int32.not_lt.1 c_95) c_35
            · skip
              have hlt : PT.h s.1 < L := cnle c_79 rfl (by omega) (by omega)
              refine lv_aload_n hx hb dX5_readText_82 rfl (lv_at hl 0 rfl) ?_
              refine gov (runV_ C (cM_wrong l D o ad (lQ g (va_up (g.2.1 30) 1 (nI s.2.1)) s.2.2.1 s.2.2.2) s.1) hdX5_wrong (lw_V q1708 q1710 qs66 q121 q1711) ⟨by simp only [rm_]; omega, by simp only [rm_]; omega⟩ (s_recv C hM) hM rfl hl.1 rfl (Nat.le_of_ble_eq_true rfl) dX5_readText_83 ⟨Nat.le_refl _, Nat.le_refl _⟩) hS (fun _ h => h) (fun H1 locs hq hS _ _ => ?_)
              have hM := hq
              generalize H1 = H at hM hS ⊢
              have hM : MS D o ad (pQ (lQ g (va_up (g.2.1 30) 1 (nI s.2.1)) s.2.2.1 s.2.2.2) (nI (PT.h s.1)) (wrV (PT.h s.1) (PT.fl s.1)) (PT.op s.1) (nI (PT.n s.1)) (PT.A s.1) (PT.W s.1)) H := hM
              have hrv : rdV g L = nI (PT.h s.1) := by rw [rdV, hout, if_pos ⟨c_35, hlt⟩]
              refine lv_aload_n hx hb dX5_readText_86 rfl (lv_at hl 0 rfl) ?_
              refine lv_iconst (v := 0) hx hb dX5_readText_87 (by decide) ?_
              refine s_pi C hM hS 23 (by decide) (by decide) q1401 dX5_readText_88 (fun H locs hM hS => ?_)
              obtain ⟨rv, hrv2⟩ : ∃ z, rdV g L = z := ⟨_, rfl⟩
              have hM : MS D o ad (tQ g (va_up (g.2.1 30) 1 (nI s.2.1)) s.2.2.1 s.2.2.2 (nI (PT.h s.1)) rv (PT.op s.1) (nI (PT.n s.1)) (PT.A s.1) (PT.W s.1)) H := by rw [wrV, if_neg c_35] at hM; rw [← hrv2, hrv]; exact hM
              refine lv_aload_n hx hb dX5_readText_91 rfl (lv_at hl 0 rfl) ?_
              refine s_get C hM 25 (by decide) q1403 (v := .int rv) rfl dX5_readText_92 ?_
              refine lv_if_lt (tgt := 103) hx hb dX5_readText_95 (by decide) (fun c_95 => ?_) (fun c_95 => ?_)
              · rw [← hrv2, hrv] at c_95; exact absurd c_95 (nI_pos (by omega))
              · skip
                refine lv_aload_n hx hb dX5_readText_98 rfl (lv_at hl 0 rfl) ?_
                refine s_get C hM 25 (by decide) q1403 (v := .int rv) rfl dX5_readText_99 ?_
                exact ci_ret hx hb hr hlk hS rfl ⟨by rw [r_rd, hrv2, if_pos (Int32.not_lt.1 c_95)], by rw [n_rd, hrv2, if_pos (Int32.not_lt.1 c_95), hout]; exact hM⟩ dX5_readText_102
        · skip
          have hlt : PT.h s.1 < L := lkV_lt (by decide) c_44
          obtain ⟨F2, hF2, hlo2⟩ := rdL_in (lk := (lkV (g.2.1 22) L)) (L := L) c_35 c_44 hlt hF
          have hokp := okP_ahead hokq hlt
          have hm60 : s.2.1 ≤ 60 := by omega
          refine lv_aload_n hx hb dX5_readText_47 rfl (lv_at hl 0 rfl) ?_
          refine lv_dup hx hb dX5_readText_48 rfl ?_
          refine s_get C hM 24 (by decide) q1402 (v := .int (nI (PT.h s.1))) rfl dX5_readText_49 ?_
          refine lv_iconst (v := 1) hx hb dX5_readText_52 (by decide) ?_
          refine lv_iadd hx hb dX5_readText_53 ?_
          refine lv_topE (nadd (show nI (PT.h s.1) = nI (PT.h s.1) from rfl) (show (1 : Int32) = nI 1 from rfl)) ?_
          refine s_pi C hM hS 24 (by decide) (by decide) q1402 dX5_readText_54 (fun H locs hM hS => ?_)
          have hM : MS D o ad (pQ (lQ g (va_up (g.2.1 30) 1 (nI s.2.1)) s.2.2.1 s.2.2.2) (nI ((PT.h s.1) + 1)) (PT.fl s.1) (PT.op s.1) (nI (PT.n s.1)) (PT.A s.1) (PT.W s.1)) H := by rw [pQ_24] at hM; exact hM
          have hM : MS D o ad (pQ (lQ g (va_up (g.2.1 30) 1 (nI s.2.1)) s.2.2.1 s.2.2.2) (nI ((PT.h s.1) + 1)) (PT.fl s.1) (PT.op s.1) (nI (PT.n s.1)) (PT.A s.1) (PT.W s.1)) H := hM
          refine lv_aload_n hx hb dX5_readText_57 rfl (lv_at hl 0 rfl) ?_
          refine gov (runV_ C (cM_line l D o ad g (PT.ahead s.1) L s.2.1 s.2.2.1 s.2.2.2 hL hL120 hokp hm60) hdX5_line (lw_V q1665 q1667 qs56 q121 q1668) ⟨by simp only [rm_]; omega, by simp only [rm_]; omega⟩ (s_recv C hM) hM rfl hl.1 rfl (Nat.le_of_ble_eq_true rfl) dX5_readText_58 ⟨Nat.le_refl _, Nat.le_refl _⟩) hS (fun _ h => h) (fun H1 locs hq hS _ _ => ?_)
          have hM := hq
          generalize H1 = H at hM hS ⊢
          have hM : MS D o ad (pQ (lQ g (va_up (g.2.1 30) 1 (nI (lnS (lkV (g.2.1 22) L) L (PT.ahead s.1) s.2.1 s.2.2.1 s.2.2.2).2.1)) ((lnS (lkV (g.2.1 22) L) L (PT.ahead s.1) s.2.1 s.2.2.1 s.2.2.2).2.2.1) ((lnS (lkV (g.2.1 22) L) L (PT.ahead s.1) s.2.1 s.2.2.1 s.2.2.2).2.2.2)) (nI (PT.h ((lnS (lkV (g.2.1 22) L) L (PT.ahead s.1) s.2.1 s.2.2.1 s.2.2.2).1))) (PT.fl ((lnS (lkV (g.2.1 22) L) L (PT.ahead s.1) s.2.1 s.2.2.1 s.2.2.2).1)) (PT.op ((lnS (lkV (g.2.1 22) L) L (PT.ahead s.1) s.2.1 s.2.2.1 s.2.2.2).1)) (nI (PT.n ((lnS (lkV (g.2.1 22) L) L (PT.ahead s.1) s.2.1 s.2.2.1 s.2.2.2).1))) (PT.A ((lnS (lkV (g.2.1 22) L) L (PT.ahead s.1) s.2.1 s.2.2.1 s.2.2.2).1)) (PT.W ((lnS (lkV (g.2.1 22) L) L (PT.ahead s.1) s.2.1 s.2.2.1 s.2.2.2).1))) H := hM
          have hok2 := okS_ln (τ := g.2.1 22) hL120 hokp s.2.2.1 s.2.2.2 (show 2 * s.2.1 ≤ PT.h s.1 + 1 from hm2) hm60
          have hgo : PT.h s.1 + 1 ≤ (lnS (lkV (g.2.1 22) L) L (PT.ahead s.1) s.2.1 s.2.2.1 s.2.2.2).1.h := (goP_ln (τ := g.2.1 22) hL120 hokp s.2.1 s.2.2.1 s.2.2.2).1.1
          generalize hs2 : lnS (lkV (g.2.1 22) L) L (PT.ahead s.1) s.2.1 s.2.2.1 s.2.2.2 = s2 at hM hok2 hgo hlo2
          have hgo2 : PT.h s2.1 ≤ L := hok2.1.1
          refine lv_goto (tgt := 31) hx hb dX5_readText_61 (by decide) ?_
          exact ih_31 s2 F2 (by omega)   hok2 (by omega) (hlo2.symm.trans hlo) _ _ ls hM hS (lv_sub hl [0, 1] rfl)
  exact lp_31 ((L - PT.h s0.1) + 1) s0 (L - PT.h s0.1) (Nat.lt_succ_self _)   hok1 (Nat.le_refl _) (by rw [← hs0]; rfl) _ _ ls hM hS (lv_sub hl [0, 1] rfl)
theorem hdX5_readText : hdV yX5_readText 1 := by decide +kernel
abbrev QM_law (D : DD) (o : Nat) (ad : Nat → Nat) (g : MSt) (L : Nat) : Int32 → Heap → Prop := fun r h => r = r_law g L ∧ MS D o ad (n_law g L) h
set_option maxHeartbeats 4000000 in
set_option maxRecDepth 100000 in
theorem cM_law (l : Launch) (D : DD) (o : Nat) (ad : Nat → Nat) (g : MSt) (L : Nat) (hL : g.1 23 = nI L) (hL120 : L ≤ 120) : CTi l (EM D) yX5_law cX5_law 2 .int 62 1622 0 0 (MA o ad) [.ref o] (MS D o ad g) (QM_law D o ad g L) := by
  refine ct_of plX5 (Nat.le_of_ble_eq_true rfl) ?_
  intro P_ e_ s_ m_ a_ b_ me_ c_ hx hb hr hml hts hown hlk hmeth hE hM ls hl
  have C : CM P_ m_ c_ cX5_law 2 s_ a_ D := ⟨hx, hb, hml, hown, hts, hE, EM_mov D⟩
  have hS : va_S (MA o ad) s_.heap s_.heap [] := va_S.rf
  generalize hHe : s_.heap = H at hM ⊢
  have hS : va_S (MA o ad) s_.heap H [] := by rw [hHe] at hS; rw [hHe]; exact hS
  have hl : lv_has ls 2 [(0, .ref o)] := hl
  refine lv_aload_n hx hb dX5_law_0 rfl (lv_at hl 0 rfl) ?_
  refine lv_iconst (v := 0) hx hb dX5_law_1 (by decide) ?_
  refine lv_stk (st' := [.int (nI 0), .ref o]) rfl ?_
  refine goi (runV_ C (cM_readText l D o ad g 0 L rfl hL hL120) hdX5_readText (lw_V q1661 q1663 qs55 q121 q1664) ⟨Nat.le_of_ble_eq_true rfl, Nat.le_of_ble_eq_true rfl⟩ (s_recv C hM) hM rfl hl.1 rfl (Nat.le_of_ble_eq_true rfl) dX5_law_2 ⟨Nat.le_refl _, Nat.le_refl _⟩) hS (fun _ h => h) (fun r_2 H1 locs hq hS _ _ => ?_)
  obtain ⟨hr_, hM⟩ := hq
  replace hr_ := hr_.symm
  subst hr_
  generalize H1 = H at hM hS ⊢
  refine lv_istore_n (lv' := [(1, .int (r_rd g L)), (0, .ref o)]) hx hb dX5_law_5 rfl hl (by decide) rfl (fun ls hl => ?_)
  refine lv_iload_n hx hb dX5_law_6 rfl (lv_at hl 0 rfl) ?_
  refine lv_if_lt (tgt := 15) hx hb dX5_law_7 (by decide) (fun c_7 => ?_) (fun c_7 => ?_)
  · skip
    refine lv_aload_n hx hb dX5_law_15 rfl (lv_at hl 1 rfl) ?_
    refine lv_iconst (v := 1) hx hb dX5_law_16 (by decide) ?_
    refine s_pz C hM hS 35 (by decide) (by decide) q1413 (by decide) (by decide) dX5_law_17 (fun H locs hM hS => ?_)
    refine lv_iconst (v := 1) hx hb dX5_law_20 (by decide) ?_
    exact ci_ret hx hb hr hlk hS rfl ⟨by rw [r_law, if_neg (rd_neg c_7)], by rw [n_law, if_neg (rd_neg c_7)]; exact hM⟩ dX5_law_21
  · skip
    refine lv_bipush (v := -100) hx hb dX5_law_10 (by decide) ?_
    refine lv_iload_n hx hb dX5_law_12 rfl (lv_at hl 0 rfl) ?_
    refine lv_isub hx hb dX5_law_13 ?_
    exact ci_ret hx hb hr hlk hS rfl ⟨by rw [r_law, if_pos (rd_pos c_7), r_rd, if_pos (rd_pos c_7)], by rw [n_law, if_pos (rd_pos c_7)]; exact hM⟩ dX5_law_14
theorem hdX5_law : hdV yX5_law 0 := by decide +kernel
