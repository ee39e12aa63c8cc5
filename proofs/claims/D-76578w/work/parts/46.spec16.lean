/-! SPEC 16: the law read -/
theorem nI_s2 : ∀ n, n < 201 → vp_nar .short (nI n) = nI n := by decide +kernel
theorem rd_pos {g : MSt} {L : Nat} (h : ¬ r_rd g L < 0) : 0 ≤ rdV g L := by
  by_cases c : 0 ≤ rdV g L
  · exact c
  · rw [r_rd, if_neg c] at h
    exact absurd (by decide) h
theorem rd_neg {g : MSt} {L : Nat} (h : r_rd g L < 0) : ¬ 0 ≤ rdV g L := by
  intro c
  rw [r_rd, if_pos c] at h
  exact absurd c (Int32.not_le.2 h)
def r_law (g : MSt) (L : Nat) : Int32 := if 0 ≤ rdV g L then -100 - rdV g L else 1
def n_law (g : MSt) (L : Nat) : MSt := if 0 ≤ rdV g L then n_rd g L else msS (n_rd g L) 35 1
theorem WL_s {s : LT} (h : WL s) (hn : s.1.n ≤ 121) {k : Nat} (hk : k < s.2.1) : vp_nar .short (s.2.2.1 (61 + k)) = s.2.2.1 (61 + k) ∧ vp_nar .short (s.2.2.2 (61 + k)) = s.2.2.2 (61 + k) := by
  obtain ⟨h1, h2, -, h3, h4, -, -⟩ := h.1 k hk
  rw [h1, h2]
  exact ⟨nI_s2 _ (by omega), nI_s2 _ (by omega)⟩
