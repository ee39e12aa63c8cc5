/-! walks of the model 16: bodies -/
abbrev QM_plainHolds (D : DD) (o : Nat) (ad : Nat → Nat) (g : MSt) (b : Nat) (x : Int32) (n_ : Nat) (κ : Int32) : Int32 → Heap → Prop := fun r h => r = x + nI b ∧ MS D o ad (ranL g n_ ([1])) h
set_option maxHeartbeats 4000000 in
set_option maxRecDepth 100000 in
theorem cM_plainHolds (l : Launch) (D : DD) (o : Nat) (ad : Nat → Nat) (g : MSt) (b : Nat) (x : Int32) (n_ : Nat) (κ : Int32) (hr1 : g.1 61 = nI n_) (hr2 : n_ < 990) (hb50 : b < 50) (hk : g.2.1 60 b = κ) : CTi l (EM D) yX5_plainHolds cX5_plainHolds 3 .int 1 21 0 0 (MA o ad) [.ref o, .int (nI b), .int x] (MS D o ad g) (QM_plainHolds D o ad g b x n_ κ) := by
  refine ct_of plX5 (Nat.le_of_ble_eq_true rfl) ?_
  intro P_ e_ s_ m_ a_ b_ me_ c_ hx hb hr hml hts hown hlk hmeth hE hM ls hl
  have C : CM P_ m_ c_ cX5_plainHolds 3 s_ a_ D := ⟨hx, hb, hml, hown, hts, hE, EM_mov D⟩
  have hS : va_S (MA o ad) s_.heap s_.heap [] := va_S.rf
  generalize hHe : s_.heap = H at hM ⊢
  have hS : va_S (MA o ad) s_.heap H [] := by rw [hHe] at hS; rw [hHe]; exact hS
  have hl : lv_has ls 3 [(0, .ref o), (1, .int (nI b)), (2, .int x)] := hl
  refine lv_aload_n hx hb dX5_plainHolds_0 rfl (lv_at hl 0 rfl) ?_
  refine lv_iconst (v := 1) hx hb dX5_plainHolds_1 (by decide) ?_
  refine gov (runV_ C (cM_ran l D o ad g (1 : Int32) n_ hr1 (by omega)) hdX5_ran (lw_V q1986 q1988 qs100 q121 q1989) ⟨Nat.le_of_ble_eq_true rfl, Nat.le_of_ble_eq_true rfl⟩ (s_recv C hM) hM rfl hl.1 rfl (Nat.le_of_ble_eq_true rfl) dX5_plainHolds_2 ⟨Nat.le_refl _, Nat.le_refl _⟩) hS (fun _ h => h) (fun H1 locs hq hS _ _ => ?_)
  have hM := hq
  generalize H1 = H at hM hS ⊢
  refine lv_iload_n hx hb dX5_plainHolds_5 rfl (lv_at hl 2 rfl) ?_
  refine lv_iload_n hx hb dX5_plainHolds_6 rfl (lv_at hl 1 rfl) ?_
  refine lv_iadd hx hb dX5_plainHolds_7 ?_
  exact ci_ret hx hb hr hlk hS rfl ⟨rfl, hM⟩ dX5_plainHolds_8
theorem hdX5_plainHolds : hdV yX5_plainHolds 2 := by decide +kernel
abbrev QM_pittHolds (D : DD) (o : Nat) (ad : Nat → Nat) (g : MSt) (b : Nat) (x : Int32) (n_ : Nat) (κ : Int32) : Int32 → Heap → Prop := fun r h => r = (x + nI b) * 2 ∧ MS D o ad (ranL g n_ ([70, 1])) h
set_option maxHeartbeats 4000000 in
set_option maxRecDepth 100000 in
theorem cM_pittHolds (l : Launch) (D : DD) (o : Nat) (ad : Nat → Nat) (g : MSt) (b : Nat) (x : Int32) (n_ : Nat) (κ : Int32) (hr1 : g.1 61 = nI n_) (hr2 : n_ < 985) (hb50 : b < 50) (hk : g.2.1 60 b = κ) : CTi l (EM D) yX5_pittHolds cX5_pittHolds 3 .int 2 43 0 0 (MA o ad) [.ref o, .int (nI b), .int x] (MS D o ad g) (QM_pittHolds D o ad g b x n_ κ) := by
  refine ct_of plX5 (Nat.le_of_ble_eq_true rfl) ?_
  intro P_ e_ s_ m_ a_ b_ me_ c_ hx hb hr hml hts hown hlk hmeth hE hM ls hl
  have C : CM P_ m_ c_ cX5_pittHolds 3 s_ a_ D := ⟨hx, hb, hml, hown, hts, hE, EM_mov D⟩
  have hS : va_S (MA o ad) s_.heap s_.heap [] := va_S.rf
  generalize hHe : s_.heap = H at hM ⊢
  have hS : va_S (MA o ad) s_.heap H [] := by rw [hHe] at hS; rw [hHe]; exact hS
  have hl : lv_has ls 3 [(0, .ref o), (1, .int (nI b)), (2, .int x)] := hl
  refine lv_aload_n hx hb dX5_pittHolds_0 rfl (lv_at hl 0 rfl) ?_
  refine lv_bipush (v := 70) hx hb dX5_pittHolds_1 (by decide) ?_
  refine gov (runV_ C (cM_ran l D o ad g (70 : Int32) n_ hr1 (by omega)) hdX5_ran (lw_V q1986 q1988 qs100 q121 q1989) ⟨Nat.le_of_ble_eq_true rfl, Nat.le_of_ble_eq_true rfl⟩ (s_recv C hM) hM rfl hl.1 rfl (Nat.le_of_ble_eq_true rfl) dX5_pittHolds_3 ⟨Nat.le_refl _, Nat.le_refl _⟩) hS (fun _ h => h) (fun H1 locs hq hS _ _ => ?_)
  have hM := hq
  generalize H1 = H at hM hS ⊢
  refine lv_aload_n hx hb dX5_pittHolds_6 rfl (lv_at hl 0 rfl) ?_
  refine lv_iload_n hx hb dX5_pittHolds_7 rfl (lv_at hl 1 rfl) ?_
  refine lv_iload_n hx hb dX5_pittHolds_8 rfl (lv_at hl 2 rfl) ?_
  refine goi (runV_ C (cM_plainHolds l D o ad (ranS g n_ (70 : Int32)) b x (n_ + 1) κ ranS_61 (by omega) hb50 (by rw [ranS_60]; exact hk)) hdX5_plainHolds (lw_V q1990 q1992 qs101 q121 q1993) ⟨Nat.le_of_ble_eq_true rfl, Nat.le_of_ble_eq_true rfl⟩ (s_recv C hM) hM rfl hl.1 rfl (Nat.le_of_ble_eq_true rfl) dX5_pittHolds_9 ⟨Nat.le_refl _, Nat.le_refl _⟩) hS (fun _ h => h) (fun r_9 H1 locs hq hS _ _ => ?_)
  obtain ⟨hr_, hM⟩ := hq
  replace hr_ := hr_.symm
  subst hr_
  generalize H1 = H at hM hS ⊢
  refine lv_iconst (v := 2) hx hb dX5_pittHolds_12 (by decide) ?_
  refine lv_imul hx hb dX5_pittHolds_13 ?_
  exact ci_ret hx hb hr hlk hS rfl ⟨rfl, hM⟩ dX5_pittHolds_14
theorem hdX5_pittHolds : hdV yX5_pittHolds 2 := by decide +kernel
abbrev QM_holding (D : DD) (o : Nat) (ad : Nat → Nat) (g : MSt) (b : Nat) (x : Int32) (n_ : Nat) (κ : Int32) : Int32 → Heap → Prop := fun r h => r = hoV κ x (nI b) ∧ MS D o ad (ranL g n_ (hoL κ)) h
set_option maxHeartbeats 4000000 in
set_option maxRecDepth 100000 in
theorem cM_holding (l : Launch) (D : DD) (o : Nat) (ad : Nat → Nat) (g : MSt) (b : Nat) (x : Int32) (n_ : Nat) (κ : Int32) (hr1 : g.1 61 = nI n_) (hr2 : n_ < 980) (hb50 : b < 50) (hk : g.2.1 60 b = κ) : CTi l (EM D) yX5_holding cX5_holding 3 .int 3 65 0 0 (MA o ad) [.ref o, .int (nI b), .int x] (MS D o ad g) (QM_holding D o ad g b x n_ κ) := by
  refine ct_of plX5 (Nat.le_of_ble_eq_true rfl) ?_
  intro P_ e_ s_ m_ a_ b_ me_ c_ hx hb hr hml hts hown hlk hmeth hE hM ls hl
  have C : CM P_ m_ c_ cX5_holding 3 s_ a_ D := ⟨hx, hb, hml, hown, hts, hE, EM_mov D⟩
  have hS : va_S (MA o ad) s_.heap s_.heap [] := va_S.rf
  generalize hHe : s_.heap = H at hM ⊢
  have hS : va_S (MA o ad) s_.heap H [] := by rw [hHe] at hS; rw [hHe]; exact hS
  have hl : lv_has ls 3 [(0, .ref o), (1, .int (nI b)), (2, .int x)] := hl
  refine lv_aload_n hx hb dX5_holding_0 rfl (lv_at hl 0 rfl) ?_
  refine s_get C hM 60 (by decide) q1438 (v := .ref (ad 60)) rfl dX5_holding_1 ?_
  refine lv_iload_n hx hb dX5_holding_4 rfl (lv_at hl 1 rfl) ?_
  refine s_ild C hM 60 (by decide) (by decide) b (show b < 50 from by omega) rfl (x := g.2.1 60 b) rfl dX5_holding_5 ?_
  refine lv_topE (y := κ) hk ?_
  refine lv_iconst (v := 1) hx hb dX5_holding_6 (by decide) ?_
  refine goi (runS_ C (cM_isUnder l D _ κ (1 : Int32)) hdX5_isUnder (lw_S q1983 q1984 q121 q1985) ⟨Nat.le_of_ble_eq_true rfl, Nat.le_of_ble_eq_true rfl⟩ rfl rfl hl.1 rfl (Nat.le_of_ble_eq_true rfl) dX5_holding_7 ⟨Nat.le_refl _, Nat.le_refl _⟩) hS (fun _ h => h.elim) (fun r_7 H1 locs hq hS _ _ => ?_)
  obtain ⟨hr_, rfl⟩ := hq
  replace hr_ := hr_.symm
  subst hr_
  refine lv_if_eq (tgt := 28) hx hb dX5_holding_10 (by decide) (fun c_10 => ?_) (fun c_10 => ?_)
  · skip
    have c_10 := bI_z c_10
    refine lv_aload_n hx hb dX5_holding_28 rfl (lv_at hl 0 rfl) ?_
    refine s_get C hM 60 (by decide) q1438 (v := .ref (ad 60)) rfl dX5_holding_29 ?_
    refine lv_iload_n hx hb dX5_holding_32 rfl (lv_at hl 1 rfl) ?_
    refine s_ild C hM 60 (by decide) (by decide) b (show b < 50 from by omega) rfl (x := g.2.1 60 b) rfl dX5_holding_33 ?_
    refine lv_topE (y := κ) hk ?_
    refine lv_bipush (v := 7) hx hb dX5_holding_34 (by decide) ?_
    refine lv_icmp_ne (tgt := 54) hx hb dX5_holding_36 (by decide) (fun c_36 => ?_) (fun c_36 => ?_)
    · skip
      refine lv_aload_n hx hb dX5_holding_54 rfl (lv_at hl 0 rfl) ?_
      refine s_get C hM 60 (by decide) q1438 (v := .ref (ad 60)) rfl dX5_holding_55 ?_
      refine lv_iload_n hx hb dX5_holding_58 rfl (lv_at hl 1 rfl) ?_
      refine s_ild C hM 60 (by decide) (by decide) b (show b < 50 from by omega) rfl (x := g.2.1 60 b) rfl dX5_holding_59 ?_
      refine lv_topE (y := κ) hk ?_
      refine lv_bipush (v := 6) hx hb dX5_holding_60 (by decide) ?_
      refine lv_icmp_ne (tgt := 74) hx hb dX5_holding_62 (by decide) (fun c_62 => ?_) (fun c_62 => ?_)
      · skip
        refine lv_aload_n hx hb dX5_holding_74 rfl (lv_at hl 0 rfl) ?_
        refine lv_iload_n hx hb dX5_holding_75 rfl (lv_at hl 1 rfl) ?_
        refine lv_iload_n hx hb dX5_holding_76 rfl (lv_at hl 2 rfl) ?_
        refine goi (runV_ C (cM_plainHolds l D o ad g b x n_ κ hr1 (by omega) hb50 hk) hdX5_plainHolds (lw_V q1990 q1992 qs101 q121 q1993) ⟨Nat.le_of_ble_eq_true rfl, Nat.le_of_ble_eq_true rfl⟩ (s_recv C hM) hM rfl hl.1 rfl (Nat.le_of_ble_eq_true rfl) dX5_holding_77 ⟨Nat.le_refl _, Nat.le_refl _⟩) hS (fun _ h => h) (fun r_77 H1 locs hq hS _ _ => ?_)
        obtain ⟨hr_, hM⟩ := hq
        replace hr_ := hr_.symm
        subst hr_
        generalize H1 = H at hM hS ⊢
        exact ci_ret hx hb hr hlk hS rfl ⟨by rw [hoV, if_neg (by rw [c_10]; decide), if_neg c_36, if_neg c_62], by rw [hoL, if_neg (by rw [c_10]; decide), if_neg c_36, if_neg c_62]; exact hM⟩ dX5_holding_80
      · skip
        refine lv_aload_n hx hb dX5_holding_65 rfl (lv_at hl 0 rfl) ?_
        refine lv_iload_n hx hb dX5_holding_66 rfl (lv_at hl 1 rfl) ?_
        refine lv_iload_n hx hb dX5_holding_67 rfl (lv_at hl 2 rfl) ?_
        refine goi (runV_ C (cM_pittHolds l D o ad g b x n_ κ hr1 (by omega) hb50 hk) hdX5_pittHolds (lw_V q1994 q1996 qs102 q121 q1997) ⟨Nat.le_of_ble_eq_true rfl, Nat.le_of_ble_eq_true rfl⟩ (s_recv C hM) hM rfl hl.1 rfl (Nat.le_of_ble_eq_true rfl) dX5_holding_68 ⟨Nat.le_refl _, Nat.le_refl _⟩) hS (fun _ h => h) (fun r_68 H1 locs hq hS _ _ => ?_)
        obtain ⟨hr_, hM⟩ := hq
        replace hr_ := hr_.symm
        subst hr_
        generalize H1 = H at hM hS ⊢
        refine lv_goto (tgt := 80) hx hb dX5_holding_71 (by decide) ?_
        exact ci_ret hx hb hr hlk hS rfl ⟨by rw [hoV, if_neg (by rw [c_10]; decide), if_neg c_36, if_pos c_62], by rw [hoL, if_neg (by rw [c_10]; decide), if_neg c_36, if_pos c_62]; exact hM⟩ dX5_holding_80
    · skip
      refine lv_aload_n hx hb dX5_holding_39 rfl (lv_at hl 0 rfl) ?_
      refine lv_bipush (v := 81) hx hb dX5_holding_40 (by decide) ?_
      refine gov (runV_ C (cM_ran l D o ad g (81 : Int32) n_ hr1 (by omega)) hdX5_ran (lw_V q1986 q1988 qs100 q121 q1989) ⟨Nat.le_of_ble_eq_true rfl, Nat.le_of_ble_eq_true rfl⟩ (s_recv C hM) hM rfl hl.1 rfl (Nat.le_of_ble_eq_true rfl) dX5_holding_42 ⟨Nat.le_refl _, Nat.le_refl _⟩) hS (fun _ h => h) (fun H1 locs hq hS _ _ => ?_)
      have hM := hq
      generalize H1 = H at hM hS ⊢
      refine lv_aload_n hx hb dX5_holding_45 rfl (lv_at hl 0 rfl) ?_
      refine lv_iload_n hx hb dX5_holding_46 rfl (lv_at hl 1 rfl) ?_
      refine lv_iload_n hx hb dX5_holding_47 rfl (lv_at hl 2 rfl) ?_
      refine goi (runV_ C (cM_pittHolds l D o ad (ranS g n_ (81 : Int32)) b x (n_ + 1) κ ranS_61 (by omega) hb50 (by rw [ranS_60]; exact hk)) hdX5_pittHolds (lw_V q1994 q1996 qs102 q121 q1997) ⟨Nat.le_of_ble_eq_true rfl, Nat.le_of_ble_eq_true rfl⟩ (s_recv C hM) hM rfl hl.1 rfl (Nat.le_of_ble_eq_true rfl) dX5_holding_48 ⟨Nat.le_refl _, Nat.le_refl _⟩) hS (fun _ h => h) (fun r_48 H1 locs hq hS _ _ => ?_)
      obtain ⟨hr_, hM⟩ := hq
      replace hr_ := hr_.symm
      subst hr_
      generalize H1 = H at hM hS ⊢
      refine lv_iconst (v := 1) hx hb dX5_holding_51 (by decide) ?_
      refine lv_isub hx hb dX5_holding_52 ?_
      exact ci_ret hx hb hr hlk hS rfl ⟨by rw [hoV, if_neg (by rw [c_10]; decide), if_pos c_36], by rw [hoL, if_neg (by rw [c_10]; decide), if_pos c_36]; exact hM⟩ dX5_holding_53
  · skip
    have c_10 := bI_n0 c_10
    refine lv_aload_n hx hb dX5_holding_13 rfl (lv_at hl 0 rfl) ?_
    refine lv_bipush (v := 20) hx hb dX5_holding_14 (by decide) ?_
    refine gov (runV_ C (cM_ran l D o ad g (20 : Int32) n_ hr1 (by omega)) hdX5_ran (lw_V q1986 q1988 qs100 q121 q1989) ⟨Nat.le_of_ble_eq_true rfl, Nat.le_of_ble_eq_true rfl⟩ (s_recv C hM) hM rfl hl.1 rfl (Nat.le_of_ble_eq_true rfl) dX5_holding_16 ⟨Nat.le_refl _, Nat.le_refl _⟩) hS (fun _ h => h) (fun H1 locs hq hS _ _ => ?_)
    have hM := hq
    generalize H1 = H at hM hS ⊢
    refine lv_aload_n hx hb dX5_holding_19 rfl (lv_at hl 0 rfl) ?_
    refine lv_iload_n hx hb dX5_holding_20 rfl (lv_at hl 1 rfl) ?_
    refine lv_iload_n hx hb dX5_holding_21 rfl (lv_at hl 2 rfl) ?_
    refine goi (runV_ C (cM_plainHolds l D o ad (ranS g n_ (20 : Int32)) b x (n_ + 1) κ ranS_61 (by omega) hb50 (by rw [ranS_60]; exact hk)) hdX5_plainHolds (lw_V q1990 q1992 qs101 q121 q1993) ⟨Nat.le_of_ble_eq_true rfl, Nat.le_of_ble_eq_true rfl⟩ (s_recv C hM) hM rfl hl.1 rfl (Nat.le_of_ble_eq_true rfl) dX5_holding_22 ⟨Nat.le_refl _, Nat.le_refl _⟩) hS (fun _ h => h) (fun r_22 H1 locs hq hS _ _ => ?_)
    obtain ⟨hr_, hM⟩ := hq
    replace hr_ := hr_.symm
    subst hr_
    generalize H1 = H at hM hS ⊢
    refine lv_iconst (v := 3) hx hb dX5_holding_25 (by decide) ?_
    refine lv_iadd hx hb dX5_holding_26 ?_
    exact ci_ret hx hb hr hlk hS rfl ⟨by rw [hoV, if_pos c_10], by rw [hoL, if_pos c_10]; exact hM⟩ dX5_holding_27
theorem hdX5_holding : hdV yX5_holding 2 := by decide +kernel
abbrev QM_plainPulls (D : DD) (o : Nat) (ad : Nat → Nat) (g : MSt) (b : Nat) (x : Int32) (n_ : Nat) (κ : Int32) : Int32 → Heap → Prop := fun r h => r = ppV κ x (nI b) ∧ MS D o ad (ranL g n_ (ppL κ)) h
set_option maxHeartbeats 4000000 in
set_option maxRecDepth 100000 in
theorem cM_plainPulls (l : Launch) (D : DD) (o : Nat) (ad : Nat → Nat) (g : MSt) (b : Nat) (x : Int32) (n_ : Nat) (κ : Int32) (hr1 : g.1 61 = nI n_) (hr2 : n_ < 970) (hb50 : b < 50) (hk : g.2.1 60 b = κ) : CTi l (EM D) yX5_plainPulls cX5_plainPulls 3 .int 4 87 0 0 (MA o ad) [.ref o, .int (nI b), .int x] (MS D o ad g) (QM_plainPulls D o ad g b x n_ κ) := by
  refine ct_of plX5 (Nat.le_of_ble_eq_true rfl) ?_
  intro P_ e_ s_ m_ a_ b_ me_ c_ hx hb hr hml hts hown hlk hmeth hE hM ls hl
  have C : CM P_ m_ c_ cX5_plainPulls 3 s_ a_ D := ⟨hx, hb, hml, hown, hts, hE, EM_mov D⟩
  have hS : va_S (MA o ad) s_.heap s_.heap [] := va_S.rf
  generalize hHe : s_.heap = H at hM ⊢
  have hS : va_S (MA o ad) s_.heap H [] := by rw [hHe] at hS; rw [hHe]; exact hS
  have hl : lv_has ls 3 [(0, .ref o), (1, .int (nI b)), (2, .int x)] := hl
  refine lv_aload_n hx hb dX5_plainPulls_0 rfl (lv_at hl 0 rfl) ?_
  refine lv_bipush (v := 10) hx hb dX5_plainPulls_1 (by decide) ?_
  refine gov (runV_ C (cM_ran l D o ad g (10 : Int32) n_ hr1 (by omega)) hdX5_ran (lw_V q1986 q1988 qs100 q121 q1989) ⟨Nat.le_of_ble_eq_true rfl, Nat.le_of_ble_eq_true rfl⟩ (s_recv C hM) hM rfl hl.1 rfl (Nat.le_of_ble_eq_true rfl) dX5_plainPulls_3 ⟨Nat.le_refl _, Nat.le_refl _⟩) hS (fun _ h => h) (fun H1 locs hq hS _ _ => ?_)
  have hM := hq
  generalize H1 = H at hM hS ⊢
  refine lv_aload_n hx hb dX5_plainPulls_6 rfl (lv_at hl 0 rfl) ?_
  refine lv_iload_n hx hb dX5_plainPulls_7 rfl (lv_at hl 1 rfl) ?_
  refine lv_iload_n hx hb dX5_plainPulls_8 rfl (lv_at hl 2 rfl) ?_
  refine goi (runV_ C (cM_holding l D o ad (ranS g n_ (10 : Int32)) b x (n_ + 1) κ ranS_61 (by omega) hb50 (by rw [ranS_60]; exact hk)) hdX5_holding (lw_V q1979 q1981 qs99 q121 q1982) ⟨Nat.le_of_ble_eq_true rfl, Nat.le_of_ble_eq_true rfl⟩ (s_recv C hM) hM rfl hl.1 rfl (Nat.le_of_ble_eq_true rfl) dX5_plainPulls_9 ⟨Nat.le_refl _, Nat.le_refl _⟩) hS (fun _ h => h) (fun r_9 H1 locs hq hS _ _ => ?_)
  obtain ⟨hr_, hM⟩ := hq
  replace hr_ := hr_.symm
  subst hr_
  generalize H1 = H at hM hS ⊢
  refine lv_iconst (v := 2) hx hb dX5_plainPulls_12 (by decide) ?_
  refine lv_imul hx hb dX5_plainPulls_13 ?_
  exact ci_ret hx hb hr hlk hS rfl ⟨rfl, hM⟩ dX5_plainPulls_14
theorem hdX5_plainPulls : hdV yX5_plainPulls 2 := by decide +kernel
abbrev QM_lacePulls (D : DD) (o : Nat) (ad : Nat → Nat) (g : MSt) (b : Nat) (x : Int32) (n_ : Nat) (κ : Int32) : Int32 → Heap → Prop := fun r h => r = lpV κ x (nI b) ∧ MS D o ad (ranL g n_ (lpL κ)) h
set_option maxHeartbeats 4000000 in
set_option maxRecDepth 100000 in
theorem cM_lacePulls (l : Launch) (D : DD) (o : Nat) (ad : Nat → Nat) (g : MSt) (b : Nat) (x : Int32) (n_ : Nat) (κ : Int32) (hr1 : g.1 61 = nI n_) (hr2 : n_ < 960) (hb50 : b < 50) (hk : g.2.1 60 b = κ) : CTi l (EM D) yX5_lacePulls cX5_lacePulls 3 .int 5 109 0 0 (MA o ad) [.ref o, .int (nI b), .int x] (MS D o ad g) (QM_lacePulls D o ad g b x n_ κ) := by
  refine ct_of plX5 (Nat.le_of_ble_eq_true rfl) ?_
  intro P_ e_ s_ m_ a_ b_ me_ c_ hx hb hr hml hts hown hlk hmeth hE hM ls hl
  have C : CM P_ m_ c_ cX5_lacePulls 3 s_ a_ D := ⟨hx, hb, hml, hown, hts, hE, EM_mov D⟩
  have hS : va_S (MA o ad) s_.heap s_.heap [] := va_S.rf
  generalize hHe : s_.heap = H at hM ⊢
  have hS : va_S (MA o ad) s_.heap H [] := by rw [hHe] at hS; rw [hHe]; exact hS
  have hl : lv_has ls 3 [(0, .ref o), (1, .int (nI b)), (2, .int x)] := hl
  refine lv_aload_n hx hb dX5_lacePulls_0 rfl (lv_at hl 0 rfl) ?_
  refine lv_bipush (v := 30) hx hb dX5_lacePulls_1 (by decide) ?_
  refine gov (runV_ C (cM_ran l D o ad g (30 : Int32) n_ hr1 (by omega)) hdX5_ran (lw_V q1986 q1988 qs100 q121 q1989) ⟨Nat.le_of_ble_eq_true rfl, Nat.le_of_ble_eq_true rfl⟩ (s_recv C hM) hM rfl hl.1 rfl (Nat.le_of_ble_eq_true rfl) dX5_lacePulls_3 ⟨Nat.le_refl _, Nat.le_refl _⟩) hS (fun _ h => h) (fun H1 locs hq hS _ _ => ?_)
  have hM := hq
  generalize H1 = H at hM hS ⊢
  refine lv_aload_n hx hb dX5_lacePulls_6 rfl (lv_at hl 0 rfl) ?_
  refine lv_iload_n hx hb dX5_lacePulls_7 rfl (lv_at hl 1 rfl) ?_
  refine lv_iload_n hx hb dX5_lacePulls_8 rfl (lv_at hl 2 rfl) ?_
  refine goi (runV_ C (cM_plainPulls l D o ad (ranS g n_ (30 : Int32)) b x (n_ + 1) κ ranS_61 (by omega) hb50 (by rw [ranS_60]; exact hk)) hdX5_plainPulls (lw_V q2006 q2008 qs105 q121 q2009) ⟨Nat.le_of_ble_eq_true rfl, Nat.le_of_ble_eq_true rfl⟩ (s_recv C hM) hM rfl hl.1 rfl (Nat.le_of_ble_eq_true rfl) dX5_lacePulls_9 ⟨Nat.le_refl _, Nat.le_refl _⟩) hS (fun _ h => h) (fun r_9 H1 locs hq hS _ _ => ?_)
  obtain ⟨hr_, hM⟩ := hq
  replace hr_ := hr_.symm
  subst hr_
  generalize H1 = H at hM hS ⊢
  refine lv_ineg hx hb dX5_lacePulls_12 ?_
  exact ci_ret hx hb hr hlk hS rfl ⟨rfl, hM⟩ dX5_lacePulls_13
theorem hdX5_lacePulls : hdV yX5_lacePulls 2 := by decide +kernel
abbrev QM_plainFrees (D : DD) (o : Nat) (ad : Nat → Nat) (g : MSt) (b : Nat) (x : Int32) (n_ : Nat) (κ : Int32) : Int32 → Heap → Prop := fun r h => r = x ^^^ nI b ∧ MS D o ad (ranL g n_ ([11])) h
set_option maxHeartbeats 4000000 in
set_option maxRecDepth 100000 in
theorem cM_plainFrees (l : Launch) (D : DD) (o : Nat) (ad : Nat → Nat) (g : MSt) (b : Nat) (x : Int32) (n_ : Nat) (κ : Int32) (hr1 : g.1 61 = nI n_) (hr2 : n_ < 990) (hb50 : b < 50) (hk : g.2.1 60 b = κ) : CTi l (EM D) yX5_plainFrees cX5_plainFrees 3 .int 1 21 0 0 (MA o ad) [.ref o, .int (nI b), .int x] (MS D o ad g) (QM_plainFrees D o ad g b x n_ κ) := by
  refine ct_of plX5 (Nat.le_of_ble_eq_true rfl) ?_
  intro P_ e_ s_ m_ a_ b_ me_ c_ hx hb hr hml hts hown hlk hmeth hE hM ls hl
  have C : CM P_ m_ c_ cX5_plainFrees 3 s_ a_ D := ⟨hx, hb, hml, hown, hts, hE, EM_mov D⟩
  have hS : va_S (MA o ad) s_.heap s_.heap [] := va_S.rf
  generalize hHe : s_.heap = H at hM ⊢
  have hS : va_S (MA o ad) s_.heap H [] := by rw [hHe] at hS; rw [hHe]; exact hS
  have hl : lv_has ls 3 [(0, .ref o), (1, .int (nI b)), (2, .int x)] := hl
  refine lv_aload_n hx hb dX5_plainFrees_0 rfl (lv_at hl 0 rfl) ?_
  refine lv_bipush (v := 11) hx hb dX5_plainFrees_1 (by decide) ?_
  refine gov (runV_ C (cM_ran l D o ad g (11 : Int32) n_ hr1 (by omega)) hdX5_ran (lw_V q1986 q1988 qs100 q121 q1989) ⟨Nat.le_of_ble_eq_true rfl, Nat.le_of_ble_eq_true rfl⟩ (s_recv C hM) hM rfl hl.1 rfl (Nat.le_of_ble_eq_true rfl) dX5_plainFrees_3 ⟨Nat.le_refl _, Nat.le_refl _⟩) hS (fun _ h => h) (fun H1 locs hq hS _ _ => ?_)
  have hM := hq
  generalize H1 = H at hM hS ⊢
  refine lv_iload_n hx hb dX5_plainFrees_6 rfl (lv_at hl 2 rfl) ?_
  refine lv_iload_n hx hb dX5_plainFrees_7 rfl (lv_at hl 1 rfl) ?_
  refine lv_ixor hx hb dX5_plainFrees_8 ?_
  exact ci_ret hx hb hr hlk hS rfl ⟨rfl, hM⟩ dX5_plainFrees_9
theorem hdX5_plainFrees : hdV yX5_plainFrees 2 := by decide +kernel
abbrev QM_heelFrees (D : DD) (o : Nat) (ad : Nat → Nat) (g : MSt) (b : Nat) (x : Int32) (n_ : Nat) (κ : Int32) : Int32 → Heap → Prop := fun r h => r = hfV x (nI b) ∧ MS D o ad (ranL g n_ ([40, 11])) h
set_option maxHeartbeats 4000000 in
set_option maxRecDepth 100000 in
theorem cM_heelFrees (l : Launch) (D : DD) (o : Nat) (ad : Nat → Nat) (g : MSt) (b : Nat) (x : Int32) (n_ : Nat) (κ : Int32) (hr1 : g.1 61 = nI n_) (hr2 : n_ < 980) (hb50 : b < 50) (hk : g.2.1 60 b = κ) : CTi l (EM D) yX5_heelFrees cX5_heelFrees 3 .int 2 43 0 0 (MA o ad) [.ref o, .int (nI b), .int x] (MS D o ad g) (QM_heelFrees D o ad g b x n_ κ) := by
  refine ct_of plX5 (Nat.le_of_ble_eq_true rfl) ?_
  intro P_ e_ s_ m_ a_ b_ me_ c_ hx hb hr hml hts hown hlk hmeth hE hM ls hl
  have C : CM P_ m_ c_ cX5_heelFrees 3 s_ a_ D := ⟨hx, hb, hml, hown, hts, hE, EM_mov D⟩
  have hS : va_S (MA o ad) s_.heap s_.heap [] := va_S.rf
  generalize hHe : s_.heap = H at hM ⊢
  have hS : va_S (MA o ad) s_.heap H [] := by rw [hHe] at hS; rw [hHe]; exact hS
  have hl : lv_has ls 3 [(0, .ref o), (1, .int (nI b)), (2, .int x)] := hl
  refine lv_aload_n hx hb dX5_heelFrees_0 rfl (lv_at hl 0 rfl) ?_
  refine lv_bipush (v := 40) hx hb dX5_heelFrees_1 (by decide) ?_
  refine gov (runV_ C (cM_ran l D o ad g (40 : Int32) n_ hr1 (by omega)) hdX5_ran (lw_V q1986 q1988 qs100 q121 q1989) ⟨Nat.le_of_ble_eq_true rfl, Nat.le_of_ble_eq_true rfl⟩ (s_recv C hM) hM rfl hl.1 rfl (Nat.le_of_ble_eq_true rfl) dX5_heelFrees_3 ⟨Nat.le_refl _, Nat.le_refl _⟩) hS (fun _ h => h) (fun H1 locs hq hS _ _ => ?_)
  have hM := hq
  generalize H1 = H at hM hS ⊢
  refine lv_aload_n hx hb dX5_heelFrees_6 rfl (lv_at hl 0 rfl) ?_
  refine lv_iload_n hx hb dX5_heelFrees_7 rfl (lv_at hl 1 rfl) ?_
  refine lv_iload_n hx hb dX5_heelFrees_8 rfl (lv_at hl 2 rfl) ?_
  refine goi (runV_ C (cM_plainFrees l D o ad (ranS g n_ (40 : Int32)) b x (n_ + 1) κ ranS_61 (by omega) hb50 (by rw [ranS_60]; exact hk)) hdX5_plainFrees (lw_V q2018 q2020 qs108 q121 q2021) ⟨Nat.le_of_ble_eq_true rfl, Nat.le_of_ble_eq_true rfl⟩ (s_recv C hM) hM rfl hl.1 rfl (Nat.le_of_ble_eq_true rfl) dX5_heelFrees_9 ⟨Nat.le_refl _, Nat.le_refl _⟩) hS (fun _ h => h) (fun r_9 H1 locs hq hS _ _ => ?_)
  obtain ⟨hr_, hM⟩ := hq
  replace hr_ := hr_.symm
  subst hr_
  generalize H1 = H at hM hS ⊢
  refine lv_iconst (v := 3) hx hb dX5_heelFrees_12 (by decide) ?_
  refine lv_imul hx hb dX5_heelFrees_13 ?_
  exact ci_ret hx hb hr hlk hS rfl ⟨rfl, hM⟩ dX5_heelFrees_14
theorem hdX5_heelFrees : hdV yX5_heelFrees 2 := by decide +kernel
abbrev QM_freeing (D : DD) (o : Nat) (ad : Nat → Nat) (g : MSt) (b : Nat) (x : Int32) (n_ : Nat) (κ : Int32) : Int32 → Heap → Prop := fun r h => r = frV κ x (nI b) ∧ MS D o ad (ranL g n_ (frL κ)) h
set_option maxHeartbeats 4000000 in
set_option maxRecDepth 100000 in
theorem cM_freeing (l : Launch) (D : DD) (o : Nat) (ad : Nat → Nat) (g : MSt) (b : Nat) (x : Int32) (n_ : Nat) (κ : Int32) (hr1 : g.1 61 = nI n_) (hr2 : n_ < 950) (hb50 : b < 50) (hk : g.2.1 60 b = κ) : CTi l (EM D) yX5_freeing cX5_freeing 4 .int 4 87 0 0 (MA o ad) [.ref o, .int (nI b), .int x] (MS D o ad g) (QM_freeing D o ad g b x n_ κ) := by
  refine ct_of plX5 (Nat.le_of_ble_eq_true rfl) ?_
  intro P_ e_ s_ m_ a_ b_ me_ c_ hx hb hr hml hts hown hlk hmeth hE hM ls hl
  have C : CM P_ m_ c_ cX5_freeing 4 s_ a_ D := ⟨hx, hb, hml, hown, hts, hE, EM_mov D⟩
  have hS : va_S (MA o ad) s_.heap s_.heap [] := va_S.rf
  generalize hHe : s_.heap = H at hM ⊢
  have hS : va_S (MA o ad) s_.heap H [] := by rw [hHe] at hS; rw [hHe]; exact hS
  have hl : lv_has ls 4 [(0, .ref o), (1, .int (nI b)), (2, .int x)] := hl
  refine lv_aload_n hx hb dX5_freeing_0 rfl (lv_at hl 0 rfl) ?_
  refine s_get C hM 60 (by decide) q1438 (v := .ref (ad 60)) rfl dX5_freeing_1 ?_
  refine lv_iload_n hx hb dX5_freeing_4 rfl (lv_at hl 1 rfl) ?_
  refine s_ild C hM 60 (by decide) (by decide) b (show b < 50 from by omega) rfl (x := g.2.1 60 b) rfl dX5_freeing_5 ?_
  refine lv_topE (y := κ) hk ?_
  refine lv_iconst (v := 5) hx hb dX5_freeing_6 (by decide) ?_
  refine lv_icmp_ne (tgt := 32) hx hb dX5_freeing_7 (by decide) (fun c_7 => ?_) (fun c_7 => ?_)
  · skip
    refine lv_aload_n hx hb dX5_freeing_32 rfl (lv_at hl 0 rfl) ?_
    refine s_get C hM 60 (by decide) q1438 (v := .ref (ad 60)) rfl dX5_freeing_33 ?_
    refine lv_iload_n hx hb dX5_freeing_36 rfl (lv_at hl 1 rfl) ?_
    refine s_ild C hM 60 (by decide) (by decide) b (show b < 50 from by omega) rfl (x := g.2.1 60 b) rfl dX5_freeing_37 ?_
    refine lv_topE (y := κ) hk ?_
    refine lv_iconst (v := 3) hx hb dX5_freeing_38 (by decide) ?_
    refine lv_icmp_ne (tgt := 51) hx hb dX5_freeing_39 (by decide) (fun c_39 => ?_) (fun c_39 => ?_)
    · skip
      refine lv_aload_n hx hb dX5_freeing_51 rfl (lv_at hl 0 rfl) ?_
      refine lv_iload_n hx hb dX5_freeing_52 rfl (lv_at hl 1 rfl) ?_
      refine lv_iload_n hx hb dX5_freeing_53 rfl (lv_at hl 2 rfl) ?_
      refine goi (runV_ C (cM_plainFrees l D o ad g b x n_ κ hr1 (by omega) hb50 hk) hdX5_plainFrees (lw_V q2018 q2020 qs108 q121 q2021) ⟨Nat.le_of_ble_eq_true rfl, Nat.le_of_ble_eq_true rfl⟩ (s_recv C hM) hM rfl hl.1 rfl (Nat.le_of_ble_eq_true rfl) dX5_freeing_54 ⟨Nat.le_refl _, Nat.le_refl _⟩) hS (fun _ h => h) (fun r_54 H1 locs hq hS _ _ => ?_)
      obtain ⟨hr_, hM⟩ := hq
      replace hr_ := hr_.symm
      subst hr_
      generalize H1 = H at hM hS ⊢
      exact ci_ret hx hb hr hlk hS rfl ⟨by rw [frV, if_neg c_7, if_neg c_39], by rw [frL, if_neg c_7, if_neg c_39]; exact hM⟩ dX5_freeing_57
    · skip
      refine lv_aload_n hx hb dX5_freeing_42 rfl (lv_at hl 0 rfl) ?_
      refine lv_iload_n hx hb dX5_freeing_43 rfl (lv_at hl 1 rfl) ?_
      refine lv_iload_n hx hb dX5_freeing_44 rfl (lv_at hl 2 rfl) ?_
      refine goi (runV_ C (cM_heelFrees l D o ad g b x n_ κ hr1 (by omega) hb50 hk) hdX5_heelFrees (lw_V q2014 q2016 qs107 q121 q2017) ⟨Nat.le_of_ble_eq_true rfl, Nat.le_of_ble_eq_true rfl⟩ (s_recv C hM) hM rfl hl.1 rfl (Nat.le_of_ble_eq_true rfl) dX5_freeing_45 ⟨Nat.le_refl _, Nat.le_refl _⟩) hS (fun _ h => h) (fun r_45 H1 locs hq hS _ _ => ?_)
      obtain ⟨hr_, hM⟩ := hq
      replace hr_ := hr_.symm
      subst hr_
      generalize H1 = H at hM hS ⊢
      refine lv_goto (tgt := 57) hx hb dX5_freeing_48 (by decide) ?_
      exact ci_ret hx hb hr hlk hS rfl ⟨by rw [frV, if_neg c_7, if_pos c_39], by rw [frL, if_neg c_7, if_pos c_39]; exact hM⟩ dX5_freeing_57
  · skip
    refine lv_aload_n hx hb dX5_freeing_10 rfl (lv_at hl 0 rfl) ?_
    refine lv_bipush (v := 60) hx hb dX5_freeing_11 (by decide) ?_
    refine gov (runV_ C (cM_ran l D o ad g (60 : Int32) n_ hr1 (by omega)) hdX5_ran (lw_V q1986 q1988 qs100 q121 q1989) ⟨Nat.le_of_ble_eq_true rfl, Nat.le_of_ble_eq_true rfl⟩ (s_recv C hM) hM rfl hl.1 rfl (Nat.le_of_ble_eq_true rfl) dX5_freeing_13 ⟨Nat.le_refl _, Nat.le_refl _⟩) hS (fun _ h => h) (fun H1 locs hq hS _ _ => ?_)
    have hM := hq
    generalize H1 = H at hM hS ⊢
    refine lv_aload_n hx hb dX5_freeing_16 rfl (lv_at hl 0 rfl) ?_
    refine lv_iload_n hx hb dX5_freeing_17 rfl (lv_at hl 1 rfl) ?_
    refine lv_iload_n hx hb dX5_freeing_18 rfl (lv_at hl 2 rfl) ?_
    refine goi (runV_ C (cM_heelFrees l D o ad (ranS g n_ (60 : Int32)) b x (n_ + 1) κ ranS_61 (by omega) hb50 (by rw [ranS_60]; exact hk)) hdX5_heelFrees (lw_V q2014 q2016 qs107 q121 q2017) ⟨Nat.le_of_ble_eq_true rfl, Nat.le_of_ble_eq_true rfl⟩ (s_recv C hM) hM rfl hl.1 rfl (Nat.le_of_ble_eq_true rfl) dX5_freeing_19 ⟨Nat.le_refl _, Nat.le_refl _⟩) hS (fun _ h => h) (fun r_19 H1 locs hq hS _ _ => ?_)
    obtain ⟨hr_, hM⟩ := hq
    replace hr_ := hr_.symm
    subst hr_
    generalize H1 = H at hM hS ⊢
    refine lv_istore_n (lv' := [(3, .int (hfV x (nI b))), (0, .ref o), (1, .int (nI b)), (2, .int x)]) hx hb dX5_freeing_22 rfl hl (by decide) rfl (fun ls hl => ?_)
    refine lv_iload_n hx hb dX5_freeing_23 rfl (lv_at hl 0 rfl) ?_
    refine lv_aload_n hx hb dX5_freeing_24 rfl (lv_at hl 1 rfl) ?_
    refine lv_iload_n hx hb dX5_freeing_25 rfl (lv_at hl 2 rfl) ?_
    refine lv_iconst (v := 2) hx hb dX5_freeing_26 (by decide) ?_
    refine goi (runV_ C (cM_holding l D o ad (ranL (ranS g n_ (60 : Int32)) (n_ + 1) ([40, 11])) b (2 : Int32) (n_ + 1 + 2) κ (ranL_61 ([40, 11]) _ _ ranS_61) (by omega) hb50 (by rw [ranL_60, ranS_60]; exact hk)) hdX5_holding (lw_V q1979 q1981 qs99 q121 q1982) ⟨Nat.le_of_ble_eq_true rfl, Nat.le_of_ble_eq_true rfl⟩ (s_recv C hM) hM rfl hl.1 rfl (Nat.le_of_ble_eq_true rfl) dX5_freeing_27 ⟨Nat.le_refl _, Nat.le_refl _⟩) hS (fun _ h => h) (fun r_27 H1 locs hq hS _ _ => ?_)
    obtain ⟨hr_, hM⟩ := hq
    replace hr_ := hr_.symm
    subst hr_
    generalize H1 = H at hM hS ⊢
    have hM : MS D o ad (ranL (ranS g n_ 60) (n_ + 1) ([40, 11] ++ hoL κ)) H := by rw [← ranL_app]; exact hM
    refine lv_isub hx hb dX5_freeing_30 ?_
    exact ci_ret hx hb hr hlk hS rfl ⟨by rw [frV, if_pos c_7], by rw [frL, if_pos c_7]; exact hM⟩ dX5_freeing_31
theorem hdX5_freeing : hdV yX5_freeing 2 := by decide +kernel
abbrev QM_pulling (D : DD) (o : Nat) (ad : Nat → Nat) (g : MSt) (b : Nat) (x : Int32) (n_ : Nat) (κ : Int32) : Int32 → Heap → Prop := fun r h => r = puV κ x (nI b) ∧ MS D o ad (ranL g n_ (puL κ)) h
set_option maxHeartbeats 4000000 in
set_option maxRecDepth 100000 in
theorem cM_pulling (l : Launch) (D : DD) (o : Nat) (ad : Nat → Nat) (g : MSt) (b : Nat) (x : Int32) (n_ : Nat) (κ : Int32) (hr1 : g.1 61 = nI n_) (hr2 : n_ < 930) (hb50 : b < 50) (hk : g.2.1 60 b = κ) : CTi l (EM D) yX5_pulling cX5_pulling 4 .int 6 131 0 0 (MA o ad) [.ref o, .int (nI b), .int x] (MS D o ad g) (QM_pulling D o ad g b x n_ κ) := by
  refine ct_of plX5 (Nat.le_of_ble_eq_true rfl) ?_
  intro P_ e_ s_ m_ a_ b_ me_ c_ hx hb hr hml hts hown hlk hmeth hE hM ls hl
  have C : CM P_ m_ c_ cX5_pulling 4 s_ a_ D := ⟨hx, hb, hml, hown, hts, hE, EM_mov D⟩
  have hS : va_S (MA o ad) s_.heap s_.heap [] := va_S.rf
  generalize hHe : s_.heap = H at hM ⊢
  have hS : va_S (MA o ad) s_.heap H [] := by rw [hHe] at hS; rw [hHe]; exact hS
  have hl : lv_has ls 4 [(0, .ref o), (1, .int (nI b)), (2, .int x)] := hl
  refine lv_aload_n hx hb dX5_pulling_0 rfl (lv_at hl 0 rfl) ?_
  refine s_get C hM 60 (by decide) q1438 (v := .ref (ad 60)) rfl dX5_pulling_1 ?_
  refine lv_iload_n hx hb dX5_pulling_4 rfl (lv_at hl 1 rfl) ?_
  refine s_ild C hM 60 (by decide) (by decide) b (show b < 50 from by omega) rfl (x := g.2.1 60 b) rfl dX5_pulling_5 ?_
  refine lv_topE (y := κ) hk ?_
  refine lv_iconst (v := 3) hx hb dX5_pulling_6 (by decide) ?_
  refine goi (runS_ C (cM_isUnder l D _ κ (3 : Int32)) hdX5_isUnder (lw_S q1983 q1984 q121 q1985) ⟨Nat.le_of_ble_eq_true rfl, Nat.le_of_ble_eq_true rfl⟩ rfl rfl hl.1 rfl (Nat.le_of_ble_eq_true rfl) dX5_pulling_7 ⟨Nat.le_refl _, Nat.le_refl _⟩) hS (fun _ h => h.elim) (fun r_7 H1 locs hq hS _ _ => ?_)
  obtain ⟨hr_, rfl⟩ := hq
  replace hr_ := hr_.symm
  subst hr_
  refine lv_if_eq (tgt := 28) hx hb dX5_pulling_10 (by decide) (fun c_10 => ?_) (fun c_10 => ?_)
  · skip
    have c_10 := bI_z c_10
    refine lv_aload_n hx hb dX5_pulling_28 rfl (lv_at hl 0 rfl) ?_
    refine s_get C hM 60 (by decide) q1438 (v := .ref (ad 60)) rfl dX5_pulling_29 ?_
    refine lv_iload_n hx hb dX5_pulling_32 rfl (lv_at hl 1 rfl) ?_
    refine s_ild C hM 60 (by decide) (by decide) b (show b < 50 from by omega) rfl (x := g.2.1 60 b) rfl dX5_pulling_33 ?_
    refine lv_topE (y := κ) hk ?_
    refine lv_bipush (v := 7) hx hb dX5_pulling_34 (by decide) ?_
    refine lv_icmp_ne (tgt := 61) hx hb dX5_pulling_36 (by decide) (fun c_36 => ?_) (fun c_36 => ?_)
    · skip
      refine lv_aload_n hx hb dX5_pulling_61 rfl (lv_at hl 0 rfl) ?_
      refine s_get C hM 60 (by decide) q1438 (v := .ref (ad 60)) rfl dX5_pulling_62 ?_
      refine lv_iload_n hx hb dX5_pulling_65 rfl (lv_at hl 1 rfl) ?_
      refine s_ild C hM 60 (by decide) (by decide) b (show b < 50 from by omega) rfl (x := g.2.1 60 b) rfl dX5_pulling_66 ?_
      refine lv_topE (y := κ) hk ?_
      refine lv_iconst (v := 2) hx hb dX5_pulling_67 (by decide) ?_
      refine lv_icmp_ne (tgt := 80) hx hb dX5_pulling_68 (by decide) (fun c_68 => ?_) (fun c_68 => ?_)
      · skip
        refine lv_aload_n hx hb dX5_pulling_80 rfl (lv_at hl 0 rfl) ?_
        refine lv_iload_n hx hb dX5_pulling_81 rfl (lv_at hl 1 rfl) ?_
        refine lv_iload_n hx hb dX5_pulling_82 rfl (lv_at hl 2 rfl) ?_
        refine goi (runV_ C (cM_plainPulls l D o ad g b x n_ κ hr1 (by omega) hb50 hk) hdX5_plainPulls (lw_V q2006 q2008 qs105 q121 q2009) ⟨Nat.le_of_ble_eq_true rfl, Nat.le_of_ble_eq_true rfl⟩ (s_recv C hM) hM rfl hl.1 rfl (Nat.le_of_ble_eq_true rfl) dX5_pulling_83 ⟨Nat.le_refl _, Nat.le_refl _⟩) hS (fun _ h => h) (fun r_83 H1 locs hq hS _ _ => ?_)
        obtain ⟨hr_, hM⟩ := hq
        replace hr_ := hr_.symm
        subst hr_
        generalize H1 = H at hM hS ⊢
        exact ci_ret hx hb hr hlk hS rfl ⟨by rw [puV, if_neg (by rw [c_10]; decide), if_neg c_36, if_neg c_68], by rw [puL, if_neg (by rw [c_10]; decide), if_neg c_36, if_neg c_68]; exact hM⟩ dX5_pulling_86
      · skip
        refine lv_aload_n hx hb dX5_pulling_71 rfl (lv_at hl 0 rfl) ?_
        refine lv_iload_n hx hb dX5_pulling_72 rfl (lv_at hl 1 rfl) ?_
        refine lv_iload_n hx hb dX5_pulling_73 rfl (lv_at hl 2 rfl) ?_
        refine goi (runV_ C (cM_lacePulls l D o ad g b x n_ κ hr1 (by omega) hb50 hk) hdX5_lacePulls (lw_V q2002 q2004 qs104 q121 q2005) ⟨Nat.le_of_ble_eq_true rfl, Nat.le_of_ble_eq_true rfl⟩ (s_recv C hM) hM rfl hl.1 rfl (Nat.le_of_ble_eq_true rfl) dX5_pulling_74 ⟨Nat.le_refl _, Nat.le_refl _⟩) hS (fun _ h => h) (fun r_74 H1 locs hq hS _ _ => ?_)
        obtain ⟨hr_, hM⟩ := hq
        replace hr_ := hr_.symm
        subst hr_
        generalize H1 = H at hM hS ⊢
        refine lv_goto (tgt := 86) hx hb dX5_pulling_77 (by decide) ?_
        exact ci_ret hx hb hr hlk hS rfl ⟨by rw [puV, if_neg (by rw [c_10]; decide), if_neg c_36, if_pos c_68], by rw [puL, if_neg (by rw [c_10]; decide), if_neg c_36, if_pos c_68]; exact hM⟩ dX5_pulling_86
    · skip
      refine lv_aload_n hx hb dX5_pulling_39 rfl (lv_at hl 0 rfl) ?_
      refine lv_bipush (v := 80) hx hb dX5_pulling_40 (by decide) ?_
      refine gov (runV_ C (cM_ran l D o ad g (80 : Int32) n_ hr1 (by omega)) hdX5_ran (lw_V q1986 q1988 qs100 q121 q1989) ⟨Nat.le_of_ble_eq_true rfl, Nat.le_of_ble_eq_true rfl⟩ (s_recv C hM) hM rfl hl.1 rfl (Nat.le_of_ble_eq_true rfl) dX5_pulling_42 ⟨Nat.le_refl _, Nat.le_refl _⟩) hS (fun _ h => h) (fun H1 locs hq hS _ _ => ?_)
      have hM := hq
      generalize H1 = H at hM hS ⊢
      refine lv_aload_n hx hb dX5_pulling_45 rfl (lv_at hl 0 rfl) ?_
      refine lv_iload_n hx hb dX5_pulling_46 rfl (lv_at hl 1 rfl) ?_
      refine lv_iload_n hx hb dX5_pulling_47 rfl (lv_at hl 2 rfl) ?_
      refine goi (runV_ C (cM_plainPulls l D o ad (ranS g n_ (80 : Int32)) b x (n_ + 1) κ ranS_61 (by omega) hb50 (by rw [ranS_60]; exact hk)) hdX5_plainPulls (lw_V q2006 q2008 qs105 q121 q2009) ⟨Nat.le_of_ble_eq_true rfl, Nat.le_of_ble_eq_true rfl⟩ (s_recv C hM) hM rfl hl.1 rfl (Nat.le_of_ble_eq_true rfl) dX5_pulling_48 ⟨Nat.le_refl _, Nat.le_refl _⟩) hS (fun _ h => h) (fun r_48 H1 locs hq hS _ _ => ?_)
      obtain ⟨hr_, hM⟩ := hq
      replace hr_ := hr_.symm
      subst hr_
      generalize H1 = H at hM hS ⊢
      have hho := hoL_le κ
      have hpp : (ppL κ).length = (hoL κ).length + 1 := rfl
      refine lv_istore_n (lv' := [(3, .int (ppV κ x (nI b))), (0, .ref o), (1, .int (nI b)), (2, .int x)]) hx hb dX5_pulling_51 rfl hl (by decide) rfl (fun ls hl => ?_)
      refine lv_iload_n hx hb dX5_pulling_52 rfl (lv_at hl 0 rfl) ?_
      refine lv_aload_n hx hb dX5_pulling_53 rfl (lv_at hl 1 rfl) ?_
      refine lv_iload_n hx hb dX5_pulling_54 rfl (lv_at hl 2 rfl) ?_
      refine lv_iconst (v := 2) hx hb dX5_pulling_55 (by decide) ?_
      refine goi (runV_ C (cM_freeing l D o ad (ranL (ranS g n_ (80 : Int32)) (n_ + 1) (ppL κ)) b (2 : Int32) (n_ + 1 + (ppL κ).length) κ (ranL_61 (ppL κ) _ _ ranS_61) (by omega) hb50 (by rw [ranL_60, ranS_60]; exact hk)) hdX5_freeing (lw_V q2010 q2012 qs106 q121 q2013) ⟨Nat.le_of_ble_eq_true rfl, Nat.le_of_ble_eq_true rfl⟩ (s_recv C hM) hM rfl hl.1 rfl (Nat.le_of_ble_eq_true rfl) dX5_pulling_56 ⟨Nat.le_refl _, Nat.le_refl _⟩) hS (fun _ h => h) (fun r_56 H1 locs hq hS _ _ => ?_)
      obtain ⟨hr_, hM⟩ := hq
      replace hr_ := hr_.symm
      subst hr_
      generalize H1 = H at hM hS ⊢
      have hM : MS D o ad (ranL (ranS g n_ 80) (n_ + 1) (ppL κ ++ frL κ)) H := by rw [← ranL_app]; exact hM
      refine lv_iadd hx hb dX5_pulling_59 ?_
      exact ci_ret hx hb hr hlk hS rfl ⟨by rw [puV, if_neg (by rw [c_10]; decide), if_pos c_36], by rw [puL, if_neg (by rw [c_10]; decide), if_pos c_36]; exact hM⟩ dX5_pulling_60
  · skip
    have c_10 := bI_n0 c_10
    refine lv_aload_n hx hb dX5_pulling_13 rfl (lv_at hl 0 rfl) ?_
    refine lv_bipush (v := 41) hx hb dX5_pulling_14 (by decide) ?_
    refine gov (runV_ C (cM_ran l D o ad g (41 : Int32) n_ hr1 (by omega)) hdX5_ran (lw_V q1986 q1988 qs100 q121 q1989) ⟨Nat.le_of_ble_eq_true rfl, Nat.le_of_ble_eq_true rfl⟩ (s_recv C hM) hM rfl hl.1 rfl (Nat.le_of_ble_eq_true rfl) dX5_pulling_16 ⟨Nat.le_refl _, Nat.le_refl _⟩) hS (fun _ h => h) (fun H1 locs hq hS _ _ => ?_)
    have hM := hq
    generalize H1 = H at hM hS ⊢
    refine lv_aload_n hx hb dX5_pulling_19 rfl (lv_at hl 0 rfl) ?_
    refine lv_iload_n hx hb dX5_pulling_20 rfl (lv_at hl 1 rfl) ?_
    refine lv_iload_n hx hb dX5_pulling_21 rfl (lv_at hl 2 rfl) ?_
    refine lv_iconst (v := 1) hx hb dX5_pulling_22 (by decide) ?_
    refine lv_iadd hx hb dX5_pulling_23 ?_
    refine goi (runV_ C (cM_lacePulls l D o ad (ranS g n_ (41 : Int32)) b (x + 1) (n_ + 1) κ ranS_61 (by omega) hb50 (by rw [ranS_60]; exact hk)) hdX5_lacePulls (lw_V q2002 q2004 qs104 q121 q2005) ⟨Nat.le_of_ble_eq_true rfl, Nat.le_of_ble_eq_true rfl⟩ (s_recv C hM) hM rfl hl.1 rfl (Nat.le_of_ble_eq_true rfl) dX5_pulling_24 ⟨Nat.le_refl _, Nat.le_refl _⟩) hS (fun _ h => h) (fun r_24 H1 locs hq hS _ _ => ?_)
    obtain ⟨hr_, hM⟩ := hq
    replace hr_ := hr_.symm
    subst hr_
    generalize H1 = H at hM hS ⊢
    exact ci_ret hx hb hr hlk hS rfl ⟨by rw [puV, if_pos c_10], by rw [puL, if_pos c_10]; exact hM⟩ dX5_pulling_27
theorem hdX5_pulling : hdV yX5_pulling 2 := by decide +kernel
abbrev QM_plainTells (D : DD) (o : Nat) (ad : Nat → Nat) (g : MSt) (b : Nat) (x : Int32) (n_ : Nat) (κ : Int32) : Int32 → Heap → Prop := fun r h => r = ptV κ x (nI b) ∧ MS D o ad (ranL g n_ (ptL κ)) h
set_option maxHeartbeats 4000000 in
set_option maxRecDepth 100000 in
theorem cM_plainTells (l : Launch) (D : DD) (o : Nat) (ad : Nat → Nat) (g : MSt) (b : Nat) (x : Int32) (n_ : Nat) (κ : Int32) (hr1 : g.1 61 = nI n_) (hr2 : n_ < 900) (hb50 : b < 50) (hk : g.2.1 60 b = κ) : CTi l (EM D) yX5_plainTells cX5_plainTells 4 .int 7 154 0 0 (MA o ad) [.ref o, .int (nI b), .int x] (MS D o ad g) (QM_plainTells D o ad g b x n_ κ) := by
  refine ct_of plX5 (Nat.le_of_ble_eq_true rfl) ?_
  intro P_ e_ s_ m_ a_ b_ me_ c_ hx hb hr hml hts hown hlk hmeth hE hM ls hl
  have C : CM P_ m_ c_ cX5_plainTells 4 s_ a_ D := ⟨hx, hb, hml, hown, hts, hE, EM_mov D⟩
  have hS : va_S (MA o ad) s_.heap s_.heap [] := va_S.rf
  generalize hHe : s_.heap = H at hM ⊢
  have hS : va_S (MA o ad) s_.heap H [] := by rw [hHe] at hS; rw [hHe]; exact hS
  have hl : lv_has ls 4 [(0, .ref o), (1, .int (nI b)), (2, .int x)] := hl
  refine lv_aload_n hx hb dX5_plainTells_0 rfl (lv_at hl 0 rfl) ?_
  refine lv_iconst (v := 2) hx hb dX5_plainTells_1 (by decide) ?_
  refine gov (runV_ C (cM_ran l D o ad g (2 : Int32) n_ hr1 (by omega)) hdX5_ran (lw_V q1986 q1988 qs100 q121 q1989) ⟨Nat.le_of_ble_eq_true rfl, Nat.le_of_ble_eq_true rfl⟩ (s_recv C hM) hM rfl hl.1 rfl (Nat.le_of_ble_eq_true rfl) dX5_plainTells_2 ⟨Nat.le_refl _, Nat.le_refl _⟩) hS (fun _ h => h) (fun H1 locs hq hS _ _ => ?_)
  have hM := hq
  generalize H1 = H at hM hS ⊢
  refine lv_aload_n hx hb dX5_plainTells_5 rfl (lv_at hl 0 rfl) ?_
  refine lv_iload_n hx hb dX5_plainTells_6 rfl (lv_at hl 1 rfl) ?_
  refine lv_iload_n hx hb dX5_plainTells_7 rfl (lv_at hl 2 rfl) ?_
  refine goi (runV_ C (cM_pulling l D o ad (ranS g n_ (2 : Int32)) b x (n_ + 1) κ ranS_61 (by omega) hb50 (by rw [ranS_60]; exact hk)) hdX5_pulling (lw_V q1998 q2000 qs103 q121 q2001) ⟨Nat.le_of_ble_eq_true rfl, Nat.le_of_ble_eq_true rfl⟩ (s_recv C hM) hM rfl hl.1 rfl (Nat.le_of_ble_eq_true rfl) dX5_plainTells_8 ⟨Nat.le_refl _, Nat.le_refl _⟩) hS (fun _ h => h) (fun r_8 H1 locs hq hS _ _ => ?_)
  obtain ⟨hr_, hM⟩ := hq
  replace hr_ := hr_.symm
  subst hr_
  generalize H1 = H at hM hS ⊢
  have hpu := puL_le κ
  refine lv_istore_n (lv' := [(3, .int (puV κ x (nI b))), (0, .ref o), (1, .int (nI b)), (2, .int x)]) hx hb dX5_plainTells_11 rfl hl (by decide) rfl (fun ls hl => ?_)
  refine lv_iload_n hx hb dX5_plainTells_12 rfl (lv_at hl 0 rfl) ?_
  refine lv_aload_n hx hb dX5_plainTells_13 rfl (lv_at hl 1 rfl) ?_
  refine lv_iload_n hx hb dX5_plainTells_14 rfl (lv_at hl 2 rfl) ?_
  refine lv_iconst (v := 1) hx hb dX5_plainTells_15 (by decide) ?_
  refine goi (runV_ C (cM_freeing l D o ad (ranL (ranS g n_ (2 : Int32)) (n_ + 1) (puL κ)) b (1 : Int32) (n_ + 1 + (puL κ).length) κ (ranL_61 (puL κ) _ _ ranS_61) (by omega) hb50 (by rw [ranL_60, ranS_60]; exact hk)) hdX5_freeing (lw_V q2010 q2012 qs106 q121 q2013) ⟨Nat.le_of_ble_eq_true rfl, Nat.le_of_ble_eq_true rfl⟩ (s_recv C hM) hM rfl hl.1 rfl (Nat.le_of_ble_eq_true rfl) dX5_plainTells_16 ⟨Nat.le_refl _, Nat.le_refl _⟩) hS (fun _ h => h) (fun r_16 H1 locs hq hS _ _ => ?_)
  obtain ⟨hr_, hM⟩ := hq
  replace hr_ := hr_.symm
  subst hr_
  generalize H1 = H at hM hS ⊢
  have hM : MS D o ad (ranL (ranS g n_ 2) (n_ + 1) (puL κ ++ frL κ)) H := by rw [← ranL_app]; exact hM
  refine lv_isub hx hb dX5_plainTells_19 ?_
  exact ci_ret hx hb hr hlk hS rfl ⟨rfl, hM⟩ dX5_plainTells_20
theorem hdX5_plainTells : hdV yX5_plainTells 2 := by decide +kernel
abbrev QM_telling (D : DD) (o : Nat) (ad : Nat → Nat) (g : MSt) (b : Nat) (x : Int32) (n_ : Nat) (κ : Int32) : Int32 → Heap → Prop := fun r h => r = teV κ x (nI b) ∧ MS D o ad (ranL g n_ (teL κ)) h
set_option maxHeartbeats 4000000 in
set_option maxRecDepth 100000 in
theorem cM_telling (l : Launch) (D : DD) (o : Nat) (ad : Nat → Nat) (g : MSt) (b : Nat) (x : Int32) (n_ : Nat) (κ : Int32) (hr1 : g.1 61 = nI n_) (hr2 : n_ < 890) (hb50 : b < 50) (hk : g.2.1 60 b = κ) : CTi l (EM D) yX5_telling cX5_telling 3 .int 8 177 0 0 (MA o ad) [.ref o, .int (nI b), .int x] (MS D o ad g) (QM_telling D o ad g b x n_ κ) := by
  refine ct_of plX5 (Nat.le_of_ble_eq_true rfl) ?_
  intro P_ e_ s_ m_ a_ b_ me_ c_ hx hb hr hml hts hown hlk hmeth hE hM ls hl
  have C : CM P_ m_ c_ cX5_telling 3 s_ a_ D := ⟨hx, hb, hml, hown, hts, hE, EM_mov D⟩
  have hS : va_S (MA o ad) s_.heap s_.heap [] := va_S.rf
  generalize hHe : s_.heap = H at hM ⊢
  have hS : va_S (MA o ad) s_.heap H [] := by rw [hHe] at hS; rw [hHe]; exact hS
  have hl : lv_has ls 3 [(0, .ref o), (1, .int (nI b)), (2, .int x)] := hl
  refine lv_aload_n hx hb dX5_telling_0 rfl (lv_at hl 0 rfl) ?_
  refine s_get C hM 60 (by decide) q1438 (v := .ref (ad 60)) rfl dX5_telling_1 ?_
  refine lv_iload_n hx hb dX5_telling_4 rfl (lv_at hl 1 rfl) ?_
  refine s_ild C hM 60 (by decide) (by decide) b (show b < 50 from by omega) rfl (x := g.2.1 60 b) rfl dX5_telling_5 ?_
  refine lv_topE (y := κ) hk ?_
  refine lv_iconst (v := 4) hx hb dX5_telling_6 (by decide) ?_
  refine lv_icmp_ne (tgt := 25) hx hb dX5_telling_7 (by decide) (fun c_7 => ?_) (fun c_7 => ?_)
  · skip
    refine lv_aload_n hx hb dX5_telling_25 rfl (lv_at hl 0 rfl) ?_
    refine s_get C hM 60 (by decide) q1438 (v := .ref (ad 60)) rfl dX5_telling_26 ?_
    refine lv_iload_n hx hb dX5_telling_29 rfl (lv_at hl 1 rfl) ?_
    refine s_ild C hM 60 (by decide) (by decide) b (show b < 50 from by omega) rfl (x := g.2.1 60 b) rfl dX5_telling_30 ?_
    refine lv_topE (y := κ) hk ?_
    refine lv_iconst (v := 5) hx hb dX5_telling_31 (by decide) ?_
    refine lv_icmp_ne (tgt := 50) hx hb dX5_telling_32 (by decide) (fun c_32 => ?_) (fun c_32 => ?_)
    · skip
      refine lv_aload_n hx hb dX5_telling_50 rfl (lv_at hl 0 rfl) ?_
      refine lv_iload_n hx hb dX5_telling_51 rfl (lv_at hl 1 rfl) ?_
      refine lv_iload_n hx hb dX5_telling_52 rfl (lv_at hl 2 rfl) ?_
      refine goi (runV_ C (cM_plainTells l D o ad g b x n_ κ hr1 (by omega) hb50 hk) hdX5_plainTells (lw_V q2026 q2028 qs110 q121 q2029) ⟨Nat.le_of_ble_eq_true rfl, Nat.le_of_ble_eq_true rfl⟩ (s_recv C hM) hM rfl hl.1 rfl (Nat.le_of_ble_eq_true rfl) dX5_telling_53 ⟨Nat.le_refl _, Nat.le_refl _⟩) hS (fun _ h => h) (fun r_53 H1 locs hq hS _ _ => ?_)
      obtain ⟨hr_, hM⟩ := hq
      replace hr_ := hr_.symm
      subst hr_
      generalize H1 = H at hM hS ⊢
      exact ci_ret hx hb hr hlk hS rfl ⟨by rw [teV, if_neg c_7, if_neg c_32], by rw [teL, if_neg c_7, if_neg c_32]; exact hM⟩ dX5_telling_56
    · skip
      refine lv_aload_n hx hb dX5_telling_35 rfl (lv_at hl 0 rfl) ?_
      refine lv_bipush (v := 61) hx hb dX5_telling_36 (by decide) ?_
      refine gov (runV_ C (cM_ran l D o ad g (61 : Int32) n_ hr1 (by omega)) hdX5_ran (lw_V q1986 q1988 qs100 q121 q1989) ⟨Nat.le_of_ble_eq_true rfl, Nat.le_of_ble_eq_true rfl⟩ (s_recv C hM) hM rfl hl.1 rfl (Nat.le_of_ble_eq_true rfl) dX5_telling_38 ⟨Nat.le_refl _, Nat.le_refl _⟩) hS (fun _ h => h) (fun H1 locs hq hS _ _ => ?_)
      have hM := hq
      generalize H1 = H at hM hS ⊢
      refine lv_aload_n hx hb dX5_telling_41 rfl (lv_at hl 0 rfl) ?_
      refine lv_iload_n hx hb dX5_telling_42 rfl (lv_at hl 1 rfl) ?_
      refine lv_iload_n hx hb dX5_telling_43 rfl (lv_at hl 2 rfl) ?_
      refine goi (runV_ C (cM_plainTells l D o ad (ranS g n_ (61 : Int32)) b x (n_ + 1) κ ranS_61 (by omega) hb50 (by rw [ranS_60]; exact hk)) hdX5_plainTells (lw_V q2026 q2028 qs110 q121 q2029) ⟨Nat.le_of_ble_eq_true rfl, Nat.le_of_ble_eq_true rfl⟩ (s_recv C hM) hM rfl hl.1 rfl (Nat.le_of_ble_eq_true rfl) dX5_telling_44 ⟨Nat.le_refl _, Nat.le_refl _⟩) hS (fun _ h => h) (fun r_44 H1 locs hq hS _ _ => ?_)
      obtain ⟨hr_, hM⟩ := hq
      replace hr_ := hr_.symm
      subst hr_
      generalize H1 = H at hM hS ⊢
      refine lv_iconst (v := 1) hx hb dX5_telling_47 (by decide) ?_
      refine lv_iadd hx hb dX5_telling_48 ?_
      exact ci_ret hx hb hr hlk hS rfl ⟨by rw [teV, if_neg c_7, if_pos c_32], by rw [teL, if_neg c_7, if_pos c_32]; exact hM⟩ dX5_telling_49
  · skip
    refine lv_aload_n hx hb dX5_telling_10 rfl (lv_at hl 0 rfl) ?_
    refine lv_bipush (v := 50) hx hb dX5_telling_11 (by decide) ?_
    refine gov (runV_ C (cM_ran l D o ad g (50 : Int32) n_ hr1 (by omega)) hdX5_ran (lw_V q1986 q1988 qs100 q121 q1989) ⟨Nat.le_of_ble_eq_true rfl, Nat.le_of_ble_eq_true rfl⟩ (s_recv C hM) hM rfl hl.1 rfl (Nat.le_of_ble_eq_true rfl) dX5_telling_13 ⟨Nat.le_refl _, Nat.le_refl _⟩) hS (fun _ h => h) (fun H1 locs hq hS _ _ => ?_)
    have hM := hq
    generalize H1 = H at hM hS ⊢
    refine lv_aload_n hx hb dX5_telling_16 rfl (lv_at hl 0 rfl) ?_
    refine lv_iload_n hx hb dX5_telling_17 rfl (lv_at hl 1 rfl) ?_
    refine lv_iload_n hx hb dX5_telling_18 rfl (lv_at hl 2 rfl) ?_
    refine goi (runV_ C (cM_plainTells l D o ad (ranS g n_ (50 : Int32)) b x (n_ + 1) κ ranS_61 (by omega) hb50 (by rw [ranS_60]; exact hk)) hdX5_plainTells (lw_V q2026 q2028 qs110 q121 q2029) ⟨Nat.le_of_ble_eq_true rfl, Nat.le_of_ble_eq_true rfl⟩ (s_recv C hM) hM rfl hl.1 rfl (Nat.le_of_ble_eq_true rfl) dX5_telling_19 ⟨Nat.le_refl _, Nat.le_refl _⟩) hS (fun _ h => h) (fun r_19 H1 locs hq hS _ _ => ?_)
    obtain ⟨hr_, hM⟩ := hq
    replace hr_ := hr_.symm
    subst hr_
    generalize H1 = H at hM hS ⊢
    refine lv_iconst (v := 5) hx hb dX5_telling_22 (by decide) ?_
    refine lv_ixor hx hb dX5_telling_23 ?_
    exact ci_ret hx hb hr hlk hS rfl ⟨by rw [teV, if_pos c_7], by rw [teL, if_pos c_7]; exact hM⟩ dX5_telling_24
theorem hdX5_telling : hdV yX5_telling 2 := by decide +kernel
abbrev QM_act (D : DD) (o : Nat) (ad : Nat → Nat) (g : MSt) (b : Int32) (w : Int32) (x : Int32) (nb : Nat) : Int32 → Heap → Prop := fun r h => r = r_act g b w x ∧ MS D o ad (n_act g b w) h
set_option maxHeartbeats 4000000 in
set_option maxRecDepth 100000 in
theorem cM_act (l : Launch) (D : DD) (o : Nat) (ad : Nat → Nat) (g : MSt) (b : Int32) (w : Int32) (x : Int32) (nb : Nat) (hnb : g.1 59 = nI nb) (hb50 : nb ≤ 50) : CTi l (EM D) yX5_act cX5_act 4 .int 9 199 0 0 (MA o ad) [.ref o, .int b, .int w, .int x] (MS D o ad g) (QM_act D o ad g b w x nb) := by
  refine ct_of plX5 (Nat.le_of_ble_eq_true rfl) ?_
  intro P_ e_ s_ m_ a_ b_ me_ c_ hx hb hr hml hts hown hlk hmeth hE hM ls hl
  have C : CM P_ m_ c_ cX5_act 4 s_ a_ D := ⟨hx, hb, hml, hown, hts, hE, EM_mov D⟩
  have hS : va_S (MA o ad) s_.heap s_.heap [] := va_S.rf
  generalize hHe : s_.heap = H at hM ⊢
  have hS : va_S (MA o ad) s_.heap H [] := by rw [hHe] at hS; rw [hHe]; exact hS
  have hl : lv_has ls 4 [(0, .ref o), (1, .int b), (2, .int w), (3, .int x)] := hl
  refine lv_aload_n hx hb dX5_act_0 rfl (lv_at hl 0 rfl) ?_
  refine lv_iconst (v := 0) hx hb dX5_act_1 (by decide) ?_
  refine s_pi C hM hS 61 (by decide) (by decide) q1439 dX5_act_2 (fun H locs hM hS => ?_)
  refine lv_aload_n hx hb dX5_act_5 rfl (lv_at hl 0 rfl) ?_
  refine lv_iload_n hx hb dX5_act_6 rfl (lv_at hl 1 rfl) ?_
  refine goi (runV_ C (cM_isBody l D o ad (msS g 61 0) b) hdX5_isBody (lw_V q1975 q1977 qs98 q121 q1978) ⟨Nat.le_of_ble_eq_true rfl, Nat.le_of_ble_eq_true rfl⟩ (s_recv C hM) hM rfl hl.1 rfl (Nat.le_of_ble_eq_true rfl) dX5_act_7 ⟨Nat.le_refl _, Nat.le_refl _⟩) hS (fun _ h => h) (fun r_7 H1 locs hq hS _ _ => ?_)
  obtain ⟨hr_, hM⟩ := hq
  replace hr_ := hr_.symm
  subst hr_
  generalize H1 = H at hM hS ⊢
  refine lv_if_eq (tgt := 22) hx hb dX5_act_10 (by decide) (fun c_10 => ?_) (fun c_10 => ?_)
  · skip
    have c_10 := bI_z c_10
    have c_10 : inB b 0 (g.1 59 - 1) = false := c_10
    refine lv_iconst (v := 0) hx hb dX5_act_22 (by decide) ?_
    exact ci_ret hx hb hr hlk hS rfl ⟨by rw [r_act, if_neg (by simp [actB, c_10])], by rw [n_act, if_neg (by simp [actB, c_10])]; exact hM⟩ dX5_act_23
  · skip
    have c_10 := bI_n0 c_10
    have c_10 : inB b 0 (g.1 59 - 1) = true := c_10
    obtain ⟨j, hj_, rfl⟩ := inB_ex c_10 hnb (by omega)
    have nj : (nI j).toNatClampNeg = j := nN_nI (by omega)
    refine lv_iload_n hx hb dX5_act_13 rfl (lv_at hl 2 rfl) ?_
    refine lv_iconst (v := 0) hx hb dX5_act_14 (by decide) ?_
    refine lv_iconst (v := 3) hx hb dX5_act_15 (by decide) ?_
    refine goi (runS_ C (cM_in l D _ w (0 : Int32) (3 : Int32)) hdX5_in (lw_S q1587 q1588 q121 q1589) ⟨Nat.le_of_ble_eq_true rfl, Nat.le_of_ble_eq_true rfl⟩ rfl rfl hl.1 rfl (Nat.le_of_ble_eq_true rfl) dX5_act_16 ⟨Nat.le_refl _, Nat.le_refl _⟩) hS (fun _ h => h.elim) (fun r_16 H1 locs hq hS _ _ => ?_)
    obtain ⟨hr_, rfl⟩ := hq
    replace hr_ := hr_.symm
    subst hr_
    refine lv_if_ne (tgt := 24) hx hb dX5_act_19 (by decide) (fun c_19 => ?_) (fun c_19 => ?_)
    · skip
      have c_19 := bI_n0 c_19
      refine lv_iload_n hx hb dX5_act_24 rfl (lv_at hl 2 rfl) ?_
      refine lv_if_ne (tgt := 37) hx hb dX5_act_25 (by decide) (fun c_25 => ?_) (fun c_25 => ?_)
      · skip
        refine lv_iload_n hx hb dX5_act_37 rfl (lv_at hl 2 rfl) ?_
        refine lv_iconst (v := 1) hx hb dX5_act_38 (by decide) ?_
        refine lv_icmp_ne (tgt := 51) hx hb dX5_act_39 (by decide) (fun c_39 => ?_) (fun c_39 => ?_)
        · skip
          refine lv_iload_n hx hb dX5_act_51 rfl (lv_at hl 2 rfl) ?_
          refine lv_iconst (v := 2) hx hb dX5_act_52 (by decide) ?_
          refine lv_icmp_ne (tgt := 65) hx hb dX5_act_53 (by decide) (fun c_53 => ?_) (fun c_53 => ?_)
          · skip
            refine lv_aload_n hx hb dX5_act_65 rfl (lv_at hl 0 rfl) ?_
            refine lv_iload_n hx hb dX5_act_66 rfl (lv_at hl 1 rfl) ?_
            refine lv_iload_n hx hb dX5_act_67 rfl (lv_at hl 3 rfl) ?_
            refine goi (runV_ C (cM_telling l D o ad (msS g 61 0) j x 0 (g.2.1 60 j) (show (msS g 61 0).1 61 = nI 0 from rfl) (by omega) (by omega) rfl) hdX5_telling (lw_V q2022 q2024 qs109 q121 q2025) ⟨Nat.le_of_ble_eq_true rfl, Nat.le_of_ble_eq_true rfl⟩ (s_recv C hM) hM rfl hl.1 rfl (Nat.le_of_ble_eq_true rfl) dX5_act_68 ⟨Nat.le_refl _, Nat.le_refl _⟩) hS (fun _ h => h) (fun r_68 H1 locs hq hS _ _ => ?_)
            obtain ⟨hr_, hM⟩ := hq
            replace hr_ := hr_.symm
            subst hr_
            generalize H1 = H at hM hS ⊢
            exact ci_ret hx hb hr hlk hS rfl ⟨by rw [r_act, if_pos (show actB g (nI j) w = true from by rw [actB, c_10, c_19]; rfl), nj, actV, if_neg c_25, if_neg c_39, if_neg c_53], by rw [n_act, if_pos (show actB g (nI j) w = true from by rw [actB, c_10, c_19]; rfl), nj, actL, if_neg c_25, if_neg c_39, if_neg c_53]; exact hM⟩ dX5_act_71
          · skip
            refine lv_aload_n hx hb dX5_act_56 rfl (lv_at hl 0 rfl) ?_
            refine lv_iload_n hx hb dX5_act_57 rfl (lv_at hl 1 rfl) ?_
            refine lv_iload_n hx hb dX5_act_58 rfl (lv_at hl 3 rfl) ?_
            refine goi (runV_ C (cM_freeing l D o ad (msS g 61 0) j x 0 (g.2.1 60 j) (show (msS g 61 0).1 61 = nI 0 from rfl) (by omega) (by omega) rfl) hdX5_freeing (lw_V q2010 q2012 qs106 q121 q2013) ⟨Nat.le_of_ble_eq_true rfl, Nat.le_of_ble_eq_true rfl⟩ (s_recv C hM) hM rfl hl.1 rfl (Nat.le_of_ble_eq_true rfl) dX5_act_59 ⟨Nat.le_refl _, Nat.le_refl _⟩) hS (fun _ h => h) (fun r_59 H1 locs hq hS _ _ => ?_)
            obtain ⟨hr_, hM⟩ := hq
            replace hr_ := hr_.symm
            subst hr_
            generalize H1 = H at hM hS ⊢
            refine lv_goto (tgt := 71) hx hb dX5_act_62 (by decide) ?_
            exact ci_ret hx hb hr hlk hS rfl ⟨by rw [r_act, if_pos (show actB g (nI j) w = true from by rw [actB, c_10, c_19]; rfl), nj, actV, if_neg c_25, if_neg c_39, if_pos c_53], by rw [n_act, if_pos (show actB g (nI j) w = true from by rw [actB, c_10, c_19]; rfl), nj, actL, if_neg c_25, if_neg c_39, if_pos c_53]; exact hM⟩ dX5_act_71
        · skip
          refine lv_aload_n hx hb dX5_act_42 rfl (lv_at hl 0 rfl) ?_
          refine lv_iload_n hx hb dX5_act_43 rfl (lv_at hl 1 rfl) ?_
          refine lv_iload_n hx hb dX5_act_44 rfl (lv_at hl 3 rfl) ?_
          refine goi (runV_ C (cM_pulling l D o ad (msS g 61 0) j x 0 (g.2.1 60 j) (show (msS g 61 0).1 61 = nI 0 from rfl) (by omega) (by omega) rfl) hdX5_pulling (lw_V q1998 q2000 qs103 q121 q2001) ⟨Nat.le_of_ble_eq_true rfl, Nat.le_of_ble_eq_true rfl⟩ (s_recv C hM) hM rfl hl.1 rfl (Nat.le_of_ble_eq_true rfl) dX5_act_45 ⟨Nat.le_refl _, Nat.le_refl _⟩) hS (fun _ h => h) (fun r_45 H1 locs hq hS _ _ => ?_)
          obtain ⟨hr_, hM⟩ := hq
          replace hr_ := hr_.symm
          subst hr_
          generalize H1 = H at hM hS ⊢
          refine lv_goto (tgt := 71) hx hb dX5_act_48 (by decide) ?_
          exact ci_ret hx hb hr hlk hS rfl ⟨by rw [r_act, if_pos (show actB g (nI j) w = true from by rw [actB, c_10, c_19]; rfl), nj, actV, if_neg c_25, if_pos c_39], by rw [n_act, if_pos (show actB g (nI j) w = true from by rw [actB, c_10, c_19]; rfl), nj, actL, if_neg c_25, if_pos c_39]; exact hM⟩ dX5_act_71
      · skip
        refine lv_aload_n hx hb dX5_act_28 rfl (lv_at hl 0 rfl) ?_
        refine lv_iload_n hx hb dX5_act_29 rfl (lv_at hl 1 rfl) ?_
        refine lv_iload_n hx hb dX5_act_30 rfl (lv_at hl 3 rfl) ?_
        refine goi (runV_ C (cM_holding l D o ad (msS g 61 0) j x 0 (g.2.1 60 j) (show (msS g 61 0).1 61 = nI 0 from rfl) (by omega) (by omega) rfl) hdX5_holding (lw_V q1979 q1981 qs99 q121 q1982) ⟨Nat.le_of_ble_eq_true rfl, Nat.le_of_ble_eq_true rfl⟩ (s_recv C hM) hM rfl hl.1 rfl (Nat.le_of_ble_eq_true rfl) dX5_act_31 ⟨Nat.le_refl _, Nat.le_refl _⟩) hS (fun _ h => h) (fun r_31 H1 locs hq hS _ _ => ?_)
        obtain ⟨hr_, hM⟩ := hq
        replace hr_ := hr_.symm
        subst hr_
        generalize H1 = H at hM hS ⊢
        refine lv_goto (tgt := 71) hx hb dX5_act_34 (by decide) ?_
        exact ci_ret hx hb hr hlk hS rfl ⟨by rw [r_act, if_pos (show actB g (nI j) w = true from by rw [actB, c_10, c_19]; rfl), nj, actV, if_pos c_25], by rw [n_act, if_pos (show actB g (nI j) w = true from by rw [actB, c_10, c_19]; rfl), nj, actL, if_pos c_25]; exact hM⟩ dX5_act_71
    · skip
      have c_19 := bI_z c_19
      refine lv_iconst (v := 0) hx hb dX5_act_22 (by decide) ?_
      exact ci_ret hx hb hr hlk hS rfl ⟨by rw [r_act, if_neg (by simp [actB, c_10, c_19])], by rw [n_act, if_neg (by simp [actB, c_10, c_19])]; exact hM⟩ dX5_act_23
theorem hdX5_act : hdV yX5_act 3 := by decide +kernel
