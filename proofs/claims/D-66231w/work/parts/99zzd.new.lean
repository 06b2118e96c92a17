/-! ===== THE COMPONENT: its beginning ===== -/
section Cn0
variable {d p m J : Nat} {M M' : Mem} {A A' : Ad} {T T' : Tr} {X X' : Ob} {Q : Outcome → Mem → Prop}
theorem rws_at (o k : Nat) : ∀ (n : Nat) (M : Mem), o < mN M → (∀ a, mK (rws o k n M) a = if mN M ≤ a ∧ a < mN M + n then some (.inr (1, k)) else mK M a) ∧ (∀ f a, mF (rws o k n M) f a = if mN M ≤ a ∧ a < mN M + n then 0 else mF M f a) ∧ (∀ f a, mR (rws o k n M) f a = if mN M ≤ a ∧ a < mN M + n then none else mR M f a) ∧ (∀ a i, mA (rws o k n M) a i = if mN M ≤ a ∧ a < mN M + n then 0 else mA M a i) ∧ (∀ a i, mL (rws o k n M) a i = if mN M ≤ a ∧ a < mN M + n then 0 else mL M a i) ∧ ∀ a i, mQ (rws o k n M) a i = if a = o ∧ i < n then some (mN M + i) else if mN M ≤ a ∧ a < mN M + n then none else mQ M a i
  | 0, M, h => by
    refine ⟨fun a => ?_, fun f a => ?_, fun f a => ?_, fun a i => ?_, fun a i => ?_, fun a i => ?_⟩
    all_goals
      rw [rws]
      repeat' split
      all_goals first | rfl | (exfalso; omega)
  | n + 1, M, h => by
    obtain ⟨h1, h2, h3, h4, h5, h6⟩ := rws_at o k n M h
    have hN := (rws_N o k n M).1
    refine ⟨fun a => ?_, fun f a => ?_, fun f a => ?_, fun a i => ?_, fun a i => ?_, fun a i => ?_⟩
    · show mK (nw (rws o k n M) (.inr (1, k)) k) a = _
      rw [mK_nw, h1, hN]
      repeat' split
      all_goals first | rfl | (exfalso; omega)
    · show mF (nw (rws o k n M) (.inr (1, k)) k) f a = _
      rw [mF_nw, h2, hN]
      repeat' split
      all_goals first | rfl | (exfalso; omega)
    · show mR (nw (rws o k n M) (.inr (1, k)) k) f a = _
      rw [mR_nw, h3, hN]
      repeat' split
      all_goals first | rfl | (exfalso; omega)
    · show mA (nw (rws o k n M) (.inr (1, k)) k) a i = _
      rw [mA_nw, h4, hN]
      repeat' split
      all_goals first | rfl | (exfalso; omega)
    · show mL (nw (rws o k n M) (.inr (1, k)) k) a i = _
      rw [mL_nw, h5, hN]
      repeat' split
      all_goals first | rfl | (exfalso; omega)
    · rw [rws, mQ_sQ, mQ_nw, h6, hN]
      repeat' split
      all_goals first | rfl | (exfalso; omega) | (congr 1; omega)
/-- what two-dimensional arrays are like -/
theorem nw2_at (M : Mem) (n k : Nat) : (∀ a, mK (nw2 M n k) a = if a = mN M then some (.inr (4, n)) else if mN M < a ∧ a ≤ mN M + n then some (.inr (1, k)) else mK M a) ∧ (∀ f a, mF (nw2 M n k) f a = if mN M ≤ a ∧ a ≤ mN M + n then 0 else mF M f a) ∧ (∀ f a, mR (nw2 M n k) f a = if mN M ≤ a ∧ a ≤ mN M + n then none else mR M f a) ∧ (∀ a i, mA (nw2 M n k) a i = if mN M ≤ a ∧ a ≤ mN M + n then 0 else mA M a i) ∧ (∀ a i, mL (nw2 M n k) a i = if mN M ≤ a ∧ a ≤ mN M + n then 0 else mL M a i) ∧ (∀ a i, mQ (nw2 M n k) a i = if a = mN M ∧ i < n then some (mN M + 1 + i) else if mN M ≤ a ∧ a ≤ mN M + n then none else mQ M a i) := by
  obtain ⟨h1, h2, h3, h4, h5, h6⟩ := rws_at (mN M) k n (nw M (.inr (4, n)) n) (by rw [mN_nw]; omega)
  unfold nw2
  simp only [mN_nw] at h1 h2 h3 h4 h5 h6
  refine ⟨fun a => ?_, fun f a => ?_, fun f a => ?_, fun a i => ?_, fun a i => ?_, fun a i => ?_⟩
  · rw [h1, mK_nw]
    by_cases e : a = mN M
    · simp (disch := omega) only [if_pos, if_neg]
    · by_cases e2 : mN M < a ∧ a ≤ mN M + n
      · simp (disch := omega) only [if_pos, if_neg]
      · simp (disch := omega) only [if_pos, if_neg]
  · rw [h2, mF_nw]
    by_cases e : a = mN M
    · simp (disch := omega) only [if_pos, if_neg]
    · by_cases e2 : mN M < a ∧ a ≤ mN M + n
      · simp (disch := omega) only [if_pos, if_neg]
      · simp (disch := omega) only [if_pos, if_neg]
  · rw [h3, mR_nw]
    by_cases e : a = mN M
    · simp (disch := omega) only [if_pos, if_neg]
    · by_cases e2 : mN M < a ∧ a ≤ mN M + n
      · simp (disch := omega) only [if_pos, if_neg]
      · simp (disch := omega) only [if_pos, if_neg]
  · rw [h4, mA_nw]
    by_cases e : a = mN M
    · simp (disch := omega) only [if_pos, if_neg]
    · by_cases e2 : mN M < a ∧ a ≤ mN M + n
      · simp (disch := omega) only [if_pos, if_neg]
      · simp (disch := omega) only [if_pos, if_neg]
  · rw [h5, mL_nw]
    by_cases e : a = mN M
    · simp (disch := omega) only [if_pos, if_neg]
    · by_cases e2 : mN M < a ∧ a ≤ mN M + n
      · simp (disch := omega) only [if_pos, if_neg]
      · simp (disch := omega) only [if_pos, if_neg]
  · rw [h6, mQ_nw]
    by_cases e : a = mN M
    · by_cases e3 : i < n
      · simp (disch := omega) only [if_pos, if_neg]
      · simp (disch := omega) only [if_pos, if_neg]
    · by_cases e2 : mN M < a ∧ a ≤ mN M + n
      · simp (disch := omega) only [if_pos, if_neg]
      · simp (disch := omega) only [if_pos, if_neg]
end Cn0
