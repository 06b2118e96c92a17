/-! ===== multianewarray: the memory after it is a new one ===== -/
def N2 (M M1 : Mem) (n k : Nat) : Prop := mN M1 = mN M + 1 + n ∧ mS M1 = mS M + n + n * k ∧ (∀ a, mK M1 a = if a = mN M then some (.inr (4, n)) else if mN M < a ∧ a ≤ mN M + n then some (.inr (1, k)) else mK M a) ∧ (∀ f a, mF M1 f a = if mN M ≤ a ∧ a ≤ mN M + n then 0 else mF M f a) ∧ (∀ f a, mR M1 f a = if mN M ≤ a ∧ a ≤ mN M + n then none else mR M f a) ∧ (∀ a i, mA M1 a i = if mN M ≤ a ∧ a ≤ mN M + n then 0 else mA M a i) ∧ (∀ a i, mL M1 a i = if mN M ≤ a ∧ a ≤ mN M + n then 0 else mL M a i) ∧ (∀ a i, mQ M1 a i = if a = mN M ∧ i < n then some (mN M + 1 + i) else if mN M ≤ a ∧ a ≤ mN M + n then none else mQ M a i)
theorem N2.of (M : Mem) (n k : Nat) : N2 M (nw2 M n k) n k := ⟨nw2_N M n k, nw2_S M n k, nw2_at M n k⟩
theorem st_20_10 {d : Nat} {ls : Lc} {st : List Value} {M : Mem} {Q : Outcome → Mem → Prop} {n k : Nat} (hn : n ≤ 1000) (hk : k ≤ 1000) (h : ∀ M1, N2 M M1 n k → Wp d 20 14 ls (.ref (mN M) :: st) M1 Q) : Wp d 20 10 ls (.int (I (k : Nat)) :: .int (I (n : Nat)) :: st) M Q := by
  rw [r_20_10 d ls n k st M Q (by omega) (by omega) (by omega) (by omega)]
  exact h _ (N2.of M n k)
theorem st_20_23 {d : Nat} {ls : Lc} {st : List Value} {M : Mem} {Q : Outcome → Mem → Prop} {n k : Nat} (hn : n ≤ 1000) (hk : k ≤ 1000) (h : ∀ M1, N2 M M1 n k → Wp d 20 27 ls (.ref (mN M) :: st) M1 Q) : Wp d 20 23 ls (.int (I (k : Nat)) :: .int (I (n : Nat)) :: st) M Q := by
  rw [r_20_23 d ls n k st M Q (by omega) (by omega) (by omega) (by omega)]
  exact h _ (N2.of M n k)
theorem st_112_10 {d : Nat} {ls : Lc} {st : List Value} {M : Mem} {Q : Outcome → Mem → Prop} {n k : Nat} (hn : n ≤ 1000) (hk : k ≤ 1000) (h : ∀ M1, N2 M M1 n k → Wp d 112 14 ls (.ref (mN M) :: st) M1 Q) : Wp d 112 10 ls (.int (I (k : Nat)) :: .int (I (n : Nat)) :: st) M Q := by
  rw [r_112_10 d ls n k st M Q (by omega) (by omega) (by omega) (by omega)]
  exact h _ (N2.of M n k)
theorem st_112_23 {d : Nat} {ls : Lc} {st : List Value} {M : Mem} {Q : Outcome → Mem → Prop} {n k : Nat} (hn : n ≤ 1000) (hk : k ≤ 1000) (h : ∀ M1, N2 M M1 n k → Wp d 112 27 ls (.ref (mN M) :: st) M1 Q) : Wp d 112 23 ls (.int (I (k : Nat)) :: .int (I (n : Nat)) :: st) M Q := by
  rw [r_112_23 d ls n k st M Q (by omega) (by omega) (by omega) (by omega)]
  exact h _ (N2.of M n k)
theorem st_112_53 {d : Nat} {ls : Lc} {st : List Value} {M : Mem} {Q : Outcome → Mem → Prop} {n k : Nat} (hn : n ≤ 1000) (hk : k ≤ 1000) (h : ∀ M1, N2 M M1 n k → Wp d 112 57 ls (.ref (mN M) :: st) M1 Q) : Wp d 112 53 ls (.int (I (k : Nat)) :: .int (I (n : Nat)) :: st) M Q := by
  rw [r_112_53 d ls n k st M Q (by omega) (by omega) (by omega) (by omega)]
  exact h _ (N2.of M n k)
