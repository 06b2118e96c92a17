/-! ===== THE LAW: its wrappers of the component ===== -/
/-- what a wrapper makes of a call: H tells codes of exceptions -/
def WQ (q : Nat) (H : List (Nat × Nat)) (Q : Outcome → Mem → Prop) (out : Outcome) (M1 : Mem) : Prop := (∃ z, out = .returned (some (.int z)) ∧ kX M1 q = (3, 1) ∧ Q (.returned (some (.int (I 0)))) (sL M1 q 0 z.toInt64)) ∨ ∃ a e k, out = .threw a ∧ kO M1 a = e ∧ (e, k) ∈ H ∧ Q (.returned (some (.int (I ((k : Nat) : Int))))) M1
def WQ0 (H : List (Nat × Nat)) (Q : Outcome → Mem → Prop) (out : Outcome) (M1 : Mem) : Prop := (out = .returned none ∧ Q (.returned (some (.int (I 0)))) M1) ∨ ∃ a e k, out = .threw a ∧ kO M1 a = e ∧ (e, k) ∈ H ∧ Q (.returned (some (.int (I ((k : Nat) : Int))))) M1
section Wrp
variable {d p q : Nat} {M : Mem} {Q : Outcome → Mem → Prop}
theorem wr_1 {z0 : Int32} {z1 : Int32} {z2 : Int32} (hd : 1 ≤ d) (hk : kO M p = 1) (h : Wp (d - 1) 29 0 [some (.ref p), some (.int z0), some (.int z1), some (.int z2), none, none] [] M (WQ q [(11, 1), (12, 2), (13, 3), (14, 4)] Q)) : Wp d 1 0 [some (.ref p), some (.int z0), some (.int z1), some (.int z2), some (.ref q), none] [] M Q := by
  simp (disch := first | (simp only [dd, dr]; done) | omega) only [W_1, hk, I_lt, I_le, I_inj, inB_I, tc_I, Int.toNat_natCast, fkt, rf1, rf0, cq, Nat.reduceAdd, Nat.reduceEqDiff, Int.reduceToNat, eq_self, true_and, and_true, true_or, or_true, bI_0, bI_1, mm, rAm, mF_sF, mR_sR, false_and, and_false, if_false, if_true, false_or, or_false, not_true_eq_false, not_false_eq_true, and_self]
  refine ca_29 (by omega) (h.mono (fun out M1 ho => ?_))
  rcases ho with ⟨z, rfl, kq, hh⟩ | ⟨a, e, k, rfl, ka, hm, hh⟩
  · simp (disch := first | (simp only [dd, dr]; done) | omega) only [W_1, kq, I_lt, I_le, I_inj, inB_I, tc_I, Int.toNat_natCast, fkt, rf1, rf0, cq, Nat.reduceAdd, Nat.reduceEqDiff, Int.reduceToNat, eq_self, true_and, and_true, true_or, or_true, bI_0, bI_1, mm, rAm, mF_sF, mR_sR, false_and, and_false, if_false, if_true, false_or, or_false, not_true_eq_false, not_false_eq_true, and_self]
    exact hh
  · simp only [List.mem_cons, List.not_mem_nil, or_false, Prod.mk.injEq] at hm
    simp (disch := first | (simp only [dd, dr]; done) | omega) only [W_1, I_lt, I_le, I_inj, inB_I, tc_I, Int.toNat_natCast, fkt, rf1, rf0, cq, Nat.reduceAdd, Nat.reduceEqDiff, Int.reduceToNat, eq_self, true_and, and_true, true_or, or_true, bI_0, bI_1, mm, rAm, mF_sF, mR_sR, false_and, and_false, if_false, if_true, false_or, or_false, not_true_eq_false, not_false_eq_true, and_self]
    rcases hm with ⟨rfl, rfl⟩ | ⟨rfl, rfl⟩ | ⟨rfl, rfl⟩ | ⟨rfl, rfl⟩
    · rw [Th_in (t := 15) ka (by decide) (by decide +kernel)]
      simp (disch := first | (simp only [dd, dr]; done) | omega) only [W_1, I_lt, I_le, I_inj, inB_I, tc_I, Int.toNat_natCast, fkt, rf1, rf0, cq, Nat.reduceAdd, Nat.reduceEqDiff, Int.reduceToNat, eq_self, true_and, and_true, true_or, or_true, bI_0, bI_1, mm, rAm, mF_sF, mR_sR, false_and, and_false, if_false, if_true, false_or, or_false, not_true_eq_false, not_false_eq_true, and_self]
      exact hh
    · rw [Th_in (t := 19) ka (by decide) (by decide +kernel)]
      simp (disch := first | (simp only [dd, dr]; done) | omega) only [W_1, I_lt, I_le, I_inj, inB_I, tc_I, Int.toNat_natCast, fkt, rf1, rf0, cq, Nat.reduceAdd, Nat.reduceEqDiff, Int.reduceToNat, eq_self, true_and, and_true, true_or, or_true, bI_0, bI_1, mm, rAm, mF_sF, mR_sR, false_and, and_false, if_false, if_true, false_or, or_false, not_true_eq_false, not_false_eq_true, and_self]
      exact hh
    · rw [Th_in (t := 23) ka (by decide) (by decide +kernel)]
      simp (disch := first | (simp only [dd, dr]; done) | omega) only [W_1, I_lt, I_le, I_inj, inB_I, tc_I, Int.toNat_natCast, fkt, rf1, rf0, cq, Nat.reduceAdd, Nat.reduceEqDiff, Int.reduceToNat, eq_self, true_and, and_true, true_or, or_true, bI_0, bI_1, mm, rAm, mF_sF, mR_sR, false_and, and_false, if_false, if_true, false_or, or_false, not_true_eq_false, not_false_eq_true, and_self]
      exact hh
    · rw [Th_in (t := 27) ka (by decide) (by decide +kernel)]
      simp (disch := first | (simp only [dd, dr]; done) | omega) only [W_1, I_lt, I_le, I_inj, inB_I, tc_I, Int.toNat_natCast, fkt, rf1, rf0, cq, Nat.reduceAdd, Nat.reduceEqDiff, Int.reduceToNat, eq_self, true_and, and_true, true_or, or_true, bI_0, bI_1, mm, rAm, mF_sF, mR_sR, false_and, and_false, if_false, if_true, false_or, or_false, not_true_eq_false, not_false_eq_true, and_self]
      exact hh
theorem wr_2 {z0 : Int32} {z1 : Int32} {z2 : Int32} (hd : 1 ≤ d) (hk : kO M p = 1) (h : Wp (d - 1) 51 0 [some (.ref p), some (.int z0), some (.int z1), some (.int z2), none] [] M (WQ q [(11, 1), (12, 2), (13, 3), (14, 4)] Q)) : Wp d 2 0 [some (.ref p), some (.int z0), some (.int z1), some (.int z2), some (.ref q), none] [] M Q := by
  simp (disch := first | (simp only [dd, dr]; done) | omega) only [W_2, hk, I_lt, I_le, I_inj, inB_I, tc_I, Int.toNat_natCast, fkt, rf1, rf0, cq, Nat.reduceAdd, Nat.reduceEqDiff, Int.reduceToNat, eq_self, true_and, and_true, true_or, or_true, bI_0, bI_1, mm, rAm, mF_sF, mR_sR, false_and, and_false, if_false, if_true, false_or, or_false, not_true_eq_false, not_false_eq_true, and_self]
  refine ca_51 (by omega) (h.mono (fun out M1 ho => ?_))
  rcases ho with ⟨z, rfl, kq, hh⟩ | ⟨a, e, k, rfl, ka, hm, hh⟩
  · simp (disch := first | (simp only [dd, dr]; done) | omega) only [W_2, kq, I_lt, I_le, I_inj, inB_I, tc_I, Int.toNat_natCast, fkt, rf1, rf0, cq, Nat.reduceAdd, Nat.reduceEqDiff, Int.reduceToNat, eq_self, true_and, and_true, true_or, or_true, bI_0, bI_1, mm, rAm, mF_sF, mR_sR, false_and, and_false, if_false, if_true, false_or, or_false, not_true_eq_false, not_false_eq_true, and_self]
    exact hh
  · simp only [List.mem_cons, List.not_mem_nil, or_false, Prod.mk.injEq] at hm
    simp (disch := first | (simp only [dd, dr]; done) | omega) only [W_2, I_lt, I_le, I_inj, inB_I, tc_I, Int.toNat_natCast, fkt, rf1, rf0, cq, Nat.reduceAdd, Nat.reduceEqDiff, Int.reduceToNat, eq_self, true_and, and_true, true_or, or_true, bI_0, bI_1, mm, rAm, mF_sF, mR_sR, false_and, and_false, if_false, if_true, false_or, or_false, not_true_eq_false, not_false_eq_true, and_self]
    rcases hm with ⟨rfl, rfl⟩ | ⟨rfl, rfl⟩ | ⟨rfl, rfl⟩ | ⟨rfl, rfl⟩
    · rw [Th_in (t := 15) ka (by decide) (by decide +kernel)]
      simp (disch := first | (simp only [dd, dr]; done) | omega) only [W_2, I_lt, I_le, I_inj, inB_I, tc_I, Int.toNat_natCast, fkt, rf1, rf0, cq, Nat.reduceAdd, Nat.reduceEqDiff, Int.reduceToNat, eq_self, true_and, and_true, true_or, or_true, bI_0, bI_1, mm, rAm, mF_sF, mR_sR, false_and, and_false, if_false, if_true, false_or, or_false, not_true_eq_false, not_false_eq_true, and_self]
      exact hh
    · rw [Th_in (t := 19) ka (by decide) (by decide +kernel)]
      simp (disch := first | (simp only [dd, dr]; done) | omega) only [W_2, I_lt, I_le, I_inj, inB_I, tc_I, Int.toNat_natCast, fkt, rf1, rf0, cq, Nat.reduceAdd, Nat.reduceEqDiff, Int.reduceToNat, eq_self, true_and, and_true, true_or, or_true, bI_0, bI_1, mm, rAm, mF_sF, mR_sR, false_and, and_false, if_false, if_true, false_or, or_false, not_true_eq_false, not_false_eq_true, and_self]
      exact hh
    · rw [Th_in (t := 23) ka (by decide) (by decide +kernel)]
      simp (disch := first | (simp only [dd, dr]; done) | omega) only [W_2, I_lt, I_le, I_inj, inB_I, tc_I, Int.toNat_natCast, fkt, rf1, rf0, cq, Nat.reduceAdd, Nat.reduceEqDiff, Int.reduceToNat, eq_self, true_and, and_true, true_or, or_true, bI_0, bI_1, mm, rAm, mF_sF, mR_sR, false_and, and_false, if_false, if_true, false_or, or_false, not_true_eq_false, not_false_eq_true, and_self]
      exact hh
    · rw [Th_in (t := 27) ka (by decide) (by decide +kernel)]
      simp (disch := first | (simp only [dd, dr]; done) | omega) only [W_2, I_lt, I_le, I_inj, inB_I, tc_I, Int.toNat_natCast, fkt, rf1, rf0, cq, Nat.reduceAdd, Nat.reduceEqDiff, Int.reduceToNat, eq_self, true_and, and_true, true_or, or_true, bI_0, bI_1, mm, rAm, mF_sF, mR_sR, false_and, and_false, if_false, if_true, false_or, or_false, not_true_eq_false, not_false_eq_true, and_self]
      exact hh
theorem wr_3 {z0 : Int32} {z1 : Int32} (hd : 1 ≤ d) (hk : kO M p = 1) (h : Wp (d - 1) 53 0 [some (.ref p), some (.int z0), some (.int z1), none, none] [] M (WQ q [(11, 1), (12, 2), (14, 3)] Q)) : Wp d 3 0 [some (.ref p), some (.int z0), some (.int z1), some (.ref q), none] [] M Q := by
  simp (disch := first | (simp only [dd, dr]; done) | omega) only [W_3, hk, I_lt, I_le, I_inj, inB_I, tc_I, Int.toNat_natCast, fkt, rf1, rf0, cq, Nat.reduceAdd, Nat.reduceEqDiff, Int.reduceToNat, eq_self, true_and, and_true, true_or, or_true, bI_0, bI_1, mm, rAm, mF_sF, mR_sR, false_and, and_false, if_false, if_true, false_or, or_false, not_true_eq_false, not_false_eq_true, and_self]
  refine ca_53 (by omega) (h.mono (fun out M1 ho => ?_))
  rcases ho with ⟨z, rfl, kq, hh⟩ | ⟨a, e, k, rfl, ka, hm, hh⟩
  · simp (disch := first | (simp only [dd, dr]; done) | omega) only [W_3, kq, I_lt, I_le, I_inj, inB_I, tc_I, Int.toNat_natCast, fkt, rf1, rf0, cq, Nat.reduceAdd, Nat.reduceEqDiff, Int.reduceToNat, eq_self, true_and, and_true, true_or, or_true, bI_0, bI_1, mm, rAm, mF_sF, mR_sR, false_and, and_false, if_false, if_true, false_or, or_false, not_true_eq_false, not_false_eq_true, and_self]
    exact hh
  · simp only [List.mem_cons, List.not_mem_nil, or_false, Prod.mk.injEq] at hm
    simp (disch := first | (simp only [dd, dr]; done) | omega) only [W_3, I_lt, I_le, I_inj, inB_I, tc_I, Int.toNat_natCast, fkt, rf1, rf0, cq, Nat.reduceAdd, Nat.reduceEqDiff, Int.reduceToNat, eq_self, true_and, and_true, true_or, or_true, bI_0, bI_1, mm, rAm, mF_sF, mR_sR, false_and, and_false, if_false, if_true, false_or, or_false, not_true_eq_false, not_false_eq_true, and_self]
    rcases hm with ⟨rfl, rfl⟩ | ⟨rfl, rfl⟩ | ⟨rfl, rfl⟩
    · rw [Th_in (t := 13) ka (by decide) (by decide +kernel)]
      simp (disch := first | (simp only [dd, dr]; done) | omega) only [W_3, I_lt, I_le, I_inj, inB_I, tc_I, Int.toNat_natCast, fkt, rf1, rf0, cq, Nat.reduceAdd, Nat.reduceEqDiff, Int.reduceToNat, eq_self, true_and, and_true, true_or, or_true, bI_0, bI_1, mm, rAm, mF_sF, mR_sR, false_and, and_false, if_false, if_true, false_or, or_false, not_true_eq_false, not_false_eq_true, and_self]
      exact hh
    · rw [Th_in (t := 17) ka (by decide) (by decide +kernel)]
      simp (disch := first | (simp only [dd, dr]; done) | omega) only [W_3, I_lt, I_le, I_inj, inB_I, tc_I, Int.toNat_natCast, fkt, rf1, rf0, cq, Nat.reduceAdd, Nat.reduceEqDiff, Int.reduceToNat, eq_self, true_and, and_true, true_or, or_true, bI_0, bI_1, mm, rAm, mF_sF, mR_sR, false_and, and_false, if_false, if_true, false_or, or_false, not_true_eq_false, not_false_eq_true, and_self]
      exact hh
    · rw [Th_in (t := 21) ka (by decide) (by decide +kernel)]
      simp (disch := first | (simp only [dd, dr]; done) | omega) only [W_3, I_lt, I_le, I_inj, inB_I, tc_I, Int.toNat_natCast, fkt, rf1, rf0, cq, Nat.reduceAdd, Nat.reduceEqDiff, Int.reduceToNat, eq_self, true_and, and_true, true_or, or_true, bI_0, bI_1, mm, rAm, mF_sF, mR_sR, false_and, and_false, if_false, if_true, false_or, or_false, not_true_eq_false, not_false_eq_true, and_self]
      exact hh
theorem wr_4 {z0 : Int32} {z1 : Int32} {z2 : Int32} {z3 : Int32} (hd : 1 ≤ d) (hk : kO M p = 1) (h : Wp (d - 1) 58 0 [some (.ref p), some (.int z0), some (.int z1), some (.int z2), some (.int z3), none, none] [] M (WQ q [(11, 1), (12, 2), (13, 3), (14, 4)] Q)) : Wp d 4 0 [some (.ref p), some (.int z0), some (.int z1), some (.int z2), some (.int z3), some (.ref q), none] [] M Q := by
  simp (disch := first | (simp only [dd, dr]; done) | omega) only [W_4, hk, I_lt, I_le, I_inj, inB_I, tc_I, Int.toNat_natCast, fkt, rf1, rf0, cq, Nat.reduceAdd, Nat.reduceEqDiff, Int.reduceToNat, eq_self, true_and, and_true, true_or, or_true, bI_0, bI_1, mm, rAm, mF_sF, mR_sR, false_and, and_false, if_false, if_true, false_or, or_false, not_true_eq_false, not_false_eq_true, and_self]
  refine ca_58 (by omega) (h.mono (fun out M1 ho => ?_))
  rcases ho with ⟨z, rfl, kq, hh⟩ | ⟨a, e, k, rfl, ka, hm, hh⟩
  · simp (disch := first | (simp only [dd, dr]; done) | omega) only [W_4, kq, I_lt, I_le, I_inj, inB_I, tc_I, Int.toNat_natCast, fkt, rf1, rf0, cq, Nat.reduceAdd, Nat.reduceEqDiff, Int.reduceToNat, eq_self, true_and, and_true, true_or, or_true, bI_0, bI_1, mm, rAm, mF_sF, mR_sR, false_and, and_false, if_false, if_true, false_or, or_false, not_true_eq_false, not_false_eq_true, and_self]
    exact hh
  · simp only [List.mem_cons, List.not_mem_nil, or_false, Prod.mk.injEq] at hm
    simp (disch := first | (simp only [dd, dr]; done) | omega) only [W_4, I_lt, I_le, I_inj, inB_I, tc_I, Int.toNat_natCast, fkt, rf1, rf0, cq, Nat.reduceAdd, Nat.reduceEqDiff, Int.reduceToNat, eq_self, true_and, and_true, true_or, or_true, bI_0, bI_1, mm, rAm, mF_sF, mR_sR, false_and, and_false, if_false, if_true, false_or, or_false, not_true_eq_false, not_false_eq_true, and_self]
    rcases hm with ⟨rfl, rfl⟩ | ⟨rfl, rfl⟩ | ⟨rfl, rfl⟩ | ⟨rfl, rfl⟩
    · rw [Th_in (t := 17) ka (by decide) (by decide +kernel)]
      simp (disch := first | (simp only [dd, dr]; done) | omega) only [W_4, I_lt, I_le, I_inj, inB_I, tc_I, Int.toNat_natCast, fkt, rf1, rf0, cq, Nat.reduceAdd, Nat.reduceEqDiff, Int.reduceToNat, eq_self, true_and, and_true, true_or, or_true, bI_0, bI_1, mm, rAm, mF_sF, mR_sR, false_and, and_false, if_false, if_true, false_or, or_false, not_true_eq_false, not_false_eq_true, and_self]
      exact hh
    · rw [Th_in (t := 21) ka (by decide) (by decide +kernel)]
      simp (disch := first | (simp only [dd, dr]; done) | omega) only [W_4, I_lt, I_le, I_inj, inB_I, tc_I, Int.toNat_natCast, fkt, rf1, rf0, cq, Nat.reduceAdd, Nat.reduceEqDiff, Int.reduceToNat, eq_self, true_and, and_true, true_or, or_true, bI_0, bI_1, mm, rAm, mF_sF, mR_sR, false_and, and_false, if_false, if_true, false_or, or_false, not_true_eq_false, not_false_eq_true, and_self]
      exact hh
    · rw [Th_in (t := 25) ka (by decide) (by decide +kernel)]
      simp (disch := first | (simp only [dd, dr]; done) | omega) only [W_4, I_lt, I_le, I_inj, inB_I, tc_I, Int.toNat_natCast, fkt, rf1, rf0, cq, Nat.reduceAdd, Nat.reduceEqDiff, Int.reduceToNat, eq_self, true_and, and_true, true_or, or_true, bI_0, bI_1, mm, rAm, mF_sF, mR_sR, false_and, and_false, if_false, if_true, false_or, or_false, not_true_eq_false, not_false_eq_true, and_self]
      exact hh
    · rw [Th_in (t := 29) ka (by decide) (by decide +kernel)]
      simp (disch := first | (simp only [dd, dr]; done) | omega) only [W_4, I_lt, I_le, I_inj, inB_I, tc_I, Int.toNat_natCast, fkt, rf1, rf0, cq, Nat.reduceAdd, Nat.reduceEqDiff, Int.reduceToNat, eq_self, true_and, and_true, true_or, or_true, bI_0, bI_1, mm, rAm, mF_sF, mR_sR, false_and, and_false, if_false, if_true, false_or, or_false, not_true_eq_false, not_false_eq_true, and_self]
      exact hh
theorem wr_5 {z0 : Int32} {z1 : Int32} {z2 : Int64} {z3 : Int32} (hd : 1 ≤ d) (hk : kO M p = 1) (h : Wp (d - 1) 63 0 [some (.ref p), some (.int z0), some (.int z1), some (.long z2), none, some (.int z3), none] [] M (WQ q [(11, 1), (12, 2), (13, 3), (14, 4)] Q)) : Wp d 5 0 [some (.ref p), some (.int z0), some (.int z1), some (.long z2), none, some (.int z3), some (.ref q), none] [] M Q := by
  simp (disch := first | (simp only [dd, dr]; done) | omega) only [W_5, hk, I_lt, I_le, I_inj, inB_I, tc_I, Int.toNat_natCast, fkt, rf1, rf0, cq, Nat.reduceAdd, Nat.reduceEqDiff, Int.reduceToNat, eq_self, true_and, and_true, true_or, or_true, bI_0, bI_1, mm, rAm, mF_sF, mR_sR, false_and, and_false, if_false, if_true, false_or, or_false, not_true_eq_false, not_false_eq_true, and_self]
  refine ca_63 (by omega) (h.mono (fun out M1 ho => ?_))
  rcases ho with ⟨z, rfl, kq, hh⟩ | ⟨a, e, k, rfl, ka, hm, hh⟩
  · simp (disch := first | (simp only [dd, dr]; done) | omega) only [W_5, kq, I_lt, I_le, I_inj, inB_I, tc_I, Int.toNat_natCast, fkt, rf1, rf0, cq, Nat.reduceAdd, Nat.reduceEqDiff, Int.reduceToNat, eq_self, true_and, and_true, true_or, or_true, bI_0, bI_1, mm, rAm, mF_sF, mR_sR, false_and, and_false, if_false, if_true, false_or, or_false, not_true_eq_false, not_false_eq_true, and_self]
    exact hh
  · simp only [List.mem_cons, List.not_mem_nil, or_false, Prod.mk.injEq] at hm
    simp (disch := first | (simp only [dd, dr]; done) | omega) only [W_5, I_lt, I_le, I_inj, inB_I, tc_I, Int.toNat_natCast, fkt, rf1, rf0, cq, Nat.reduceAdd, Nat.reduceEqDiff, Int.reduceToNat, eq_self, true_and, and_true, true_or, or_true, bI_0, bI_1, mm, rAm, mF_sF, mR_sR, false_and, and_false, if_false, if_true, false_or, or_false, not_true_eq_false, not_false_eq_true, and_self]
    rcases hm with ⟨rfl, rfl⟩ | ⟨rfl, rfl⟩ | ⟨rfl, rfl⟩ | ⟨rfl, rfl⟩
    · rw [Th_in (t := 17) ka (by decide) (by decide +kernel)]
      simp (disch := first | (simp only [dd, dr]; done) | omega) only [W_5, I_lt, I_le, I_inj, inB_I, tc_I, Int.toNat_natCast, fkt, rf1, rf0, cq, Nat.reduceAdd, Nat.reduceEqDiff, Int.reduceToNat, eq_self, true_and, and_true, true_or, or_true, bI_0, bI_1, mm, rAm, mF_sF, mR_sR, false_and, and_false, if_false, if_true, false_or, or_false, not_true_eq_false, not_false_eq_true, and_self]
      exact hh
    · rw [Th_in (t := 21) ka (by decide) (by decide +kernel)]
      simp (disch := first | (simp only [dd, dr]; done) | omega) only [W_5, I_lt, I_le, I_inj, inB_I, tc_I, Int.toNat_natCast, fkt, rf1, rf0, cq, Nat.reduceAdd, Nat.reduceEqDiff, Int.reduceToNat, eq_self, true_and, and_true, true_or, or_true, bI_0, bI_1, mm, rAm, mF_sF, mR_sR, false_and, and_false, if_false, if_true, false_or, or_false, not_true_eq_false, not_false_eq_true, and_self]
      exact hh
    · rw [Th_in (t := 25) ka (by decide) (by decide +kernel)]
      simp (disch := first | (simp only [dd, dr]; done) | omega) only [W_5, I_lt, I_le, I_inj, inB_I, tc_I, Int.toNat_natCast, fkt, rf1, rf0, cq, Nat.reduceAdd, Nat.reduceEqDiff, Int.reduceToNat, eq_self, true_and, and_true, true_or, or_true, bI_0, bI_1, mm, rAm, mF_sF, mR_sR, false_and, and_false, if_false, if_true, false_or, or_false, not_true_eq_false, not_false_eq_true, and_self]
      exact hh
    · rw [Th_in (t := 29) ka (by decide) (by decide +kernel)]
      simp (disch := first | (simp only [dd, dr]; done) | omega) only [W_5, I_lt, I_le, I_inj, inB_I, tc_I, Int.toNat_natCast, fkt, rf1, rf0, cq, Nat.reduceAdd, Nat.reduceEqDiff, Int.reduceToNat, eq_self, true_and, and_true, true_or, or_true, bI_0, bI_1, mm, rAm, mF_sF, mR_sR, false_and, and_false, if_false, if_true, false_or, or_false, not_true_eq_false, not_false_eq_true, and_self]
      exact hh
theorem wr_6 {z0 : Int32} {z1 : Int32} {z2 : Int32} {z3 : Int32} (hd : 1 ≤ d) (hk : kO M p = 1) (h : Wp (d - 1) 70 0 [some (.ref p), some (.int z0), some (.int z1), some (.int z2), some (.int z3), none] [] M (WQ q [(11, 1), (12, 2), (13, 3), (14, 4)] Q)) : Wp d 6 0 [some (.ref p), some (.int z0), some (.int z1), some (.int z2), some (.int z3), some (.ref q), none] [] M Q := by
  simp (disch := first | (simp only [dd, dr]; done) | omega) only [W_6, hk, I_lt, I_le, I_inj, inB_I, tc_I, Int.toNat_natCast, fkt, rf1, rf0, cq, Nat.reduceAdd, Nat.reduceEqDiff, Int.reduceToNat, eq_self, true_and, and_true, true_or, or_true, bI_0, bI_1, mm, rAm, mF_sF, mR_sR, false_and, and_false, if_false, if_true, false_or, or_false, not_true_eq_false, not_false_eq_true, and_self]
  refine ca_70 (by omega) (h.mono (fun out M1 ho => ?_))
  rcases ho with ⟨z, rfl, kq, hh⟩ | ⟨a, e, k, rfl, ka, hm, hh⟩
  · simp (disch := first | (simp only [dd, dr]; done) | omega) only [W_6, kq, I_lt, I_le, I_inj, inB_I, tc_I, Int.toNat_natCast, fkt, rf1, rf0, cq, Nat.reduceAdd, Nat.reduceEqDiff, Int.reduceToNat, eq_self, true_and, and_true, true_or, or_true, bI_0, bI_1, mm, rAm, mF_sF, mR_sR, false_and, and_false, if_false, if_true, false_or, or_false, not_true_eq_false, not_false_eq_true, and_self]
    exact hh
  · simp only [List.mem_cons, List.not_mem_nil, or_false, Prod.mk.injEq] at hm
    simp (disch := first | (simp only [dd, dr]; done) | omega) only [W_6, I_lt, I_le, I_inj, inB_I, tc_I, Int.toNat_natCast, fkt, rf1, rf0, cq, Nat.reduceAdd, Nat.reduceEqDiff, Int.reduceToNat, eq_self, true_and, and_true, true_or, or_true, bI_0, bI_1, mm, rAm, mF_sF, mR_sR, false_and, and_false, if_false, if_true, false_or, or_false, not_true_eq_false, not_false_eq_true, and_self]
    rcases hm with ⟨rfl, rfl⟩ | ⟨rfl, rfl⟩ | ⟨rfl, rfl⟩ | ⟨rfl, rfl⟩
    · rw [Th_in (t := 17) ka (by decide) (by decide +kernel)]
      simp (disch := first | (simp only [dd, dr]; done) | omega) only [W_6, I_lt, I_le, I_inj, inB_I, tc_I, Int.toNat_natCast, fkt, rf1, rf0, cq, Nat.reduceAdd, Nat.reduceEqDiff, Int.reduceToNat, eq_self, true_and, and_true, true_or, or_true, bI_0, bI_1, mm, rAm, mF_sF, mR_sR, false_and, and_false, if_false, if_true, false_or, or_false, not_true_eq_false, not_false_eq_true, and_self]
      exact hh
    · rw [Th_in (t := 21) ka (by decide) (by decide +kernel)]
      simp (disch := first | (simp only [dd, dr]; done) | omega) only [W_6, I_lt, I_le, I_inj, inB_I, tc_I, Int.toNat_natCast, fkt, rf1, rf0, cq, Nat.reduceAdd, Nat.reduceEqDiff, Int.reduceToNat, eq_self, true_and, and_true, true_or, or_true, bI_0, bI_1, mm, rAm, mF_sF, mR_sR, false_and, and_false, if_false, if_true, false_or, or_false, not_true_eq_false, not_false_eq_true, and_self]
      exact hh
    · rw [Th_in (t := 25) ka (by decide) (by decide +kernel)]
      simp (disch := first | (simp only [dd, dr]; done) | omega) only [W_6, I_lt, I_le, I_inj, inB_I, tc_I, Int.toNat_natCast, fkt, rf1, rf0, cq, Nat.reduceAdd, Nat.reduceEqDiff, Int.reduceToNat, eq_self, true_and, and_true, true_or, or_true, bI_0, bI_1, mm, rAm, mF_sF, mR_sR, false_and, and_false, if_false, if_true, false_or, or_false, not_true_eq_false, not_false_eq_true, and_self]
      exact hh
    · rw [Th_in (t := 29) ka (by decide) (by decide +kernel)]
      simp (disch := first | (simp only [dd, dr]; done) | omega) only [W_6, I_lt, I_le, I_inj, inB_I, tc_I, Int.toNat_natCast, fkt, rf1, rf0, cq, Nat.reduceAdd, Nat.reduceEqDiff, Int.reduceToNat, eq_self, true_and, and_true, true_or, or_true, bI_0, bI_1, mm, rAm, mF_sF, mR_sR, false_and, and_false, if_false, if_true, false_or, or_false, not_true_eq_false, not_false_eq_true, and_self]
      exact hh
theorem wr_7 {z0 : Int32} {z1 : Int32} (hd : 1 ≤ d) (hk : kO M p = 1) (h : Wp (d - 1) 71 0 [some (.ref p), some (.int z0), some (.int z1)] [] M (WQ q [(11, 1), (12, 2), (13, 3), (14, 4)] Q)) : Wp d 7 0 [some (.ref p), some (.int z0), some (.int z1), some (.ref q), none] [] M Q := by
  simp (disch := first | (simp only [dd, dr]; done) | omega) only [W_7, hk, I_lt, I_le, I_inj, inB_I, tc_I, Int.toNat_natCast, fkt, rf1, rf0, cq, Nat.reduceAdd, Nat.reduceEqDiff, Int.reduceToNat, eq_self, true_and, and_true, true_or, or_true, bI_0, bI_1, mm, rAm, mF_sF, mR_sR, false_and, and_false, if_false, if_true, false_or, or_false, not_true_eq_false, not_false_eq_true, and_self]
  refine ca_71 (by omega) (h.mono (fun out M1 ho => ?_))
  rcases ho with ⟨z, rfl, kq, hh⟩ | ⟨a, e, k, rfl, ka, hm, hh⟩
  · simp (disch := first | (simp only [dd, dr]; done) | omega) only [W_7, kq, I_lt, I_le, I_inj, inB_I, tc_I, Int.toNat_natCast, fkt, rf1, rf0, cq, Nat.reduceAdd, Nat.reduceEqDiff, Int.reduceToNat, eq_self, true_and, and_true, true_or, or_true, bI_0, bI_1, mm, rAm, mF_sF, mR_sR, false_and, and_false, if_false, if_true, false_or, or_false, not_true_eq_false, not_false_eq_true, and_self]
    exact hh
  · simp only [List.mem_cons, List.not_mem_nil, or_false, Prod.mk.injEq] at hm
    simp (disch := first | (simp only [dd, dr]; done) | omega) only [W_7, I_lt, I_le, I_inj, inB_I, tc_I, Int.toNat_natCast, fkt, rf1, rf0, cq, Nat.reduceAdd, Nat.reduceEqDiff, Int.reduceToNat, eq_self, true_and, and_true, true_or, or_true, bI_0, bI_1, mm, rAm, mF_sF, mR_sR, false_and, and_false, if_false, if_true, false_or, or_false, not_true_eq_false, not_false_eq_true, and_self]
    rcases hm with ⟨rfl, rfl⟩ | ⟨rfl, rfl⟩ | ⟨rfl, rfl⟩ | ⟨rfl, rfl⟩
    · rw [Th_in (t := 13) ka (by decide) (by decide +kernel)]
      simp (disch := first | (simp only [dd, dr]; done) | omega) only [W_7, I_lt, I_le, I_inj, inB_I, tc_I, Int.toNat_natCast, fkt, rf1, rf0, cq, Nat.reduceAdd, Nat.reduceEqDiff, Int.reduceToNat, eq_self, true_and, and_true, true_or, or_true, bI_0, bI_1, mm, rAm, mF_sF, mR_sR, false_and, and_false, if_false, if_true, false_or, or_false, not_true_eq_false, not_false_eq_true, and_self]
      exact hh
    · rw [Th_in (t := 17) ka (by decide) (by decide +kernel)]
      simp (disch := first | (simp only [dd, dr]; done) | omega) only [W_7, I_lt, I_le, I_inj, inB_I, tc_I, Int.toNat_natCast, fkt, rf1, rf0, cq, Nat.reduceAdd, Nat.reduceEqDiff, Int.reduceToNat, eq_self, true_and, and_true, true_or, or_true, bI_0, bI_1, mm, rAm, mF_sF, mR_sR, false_and, and_false, if_false, if_true, false_or, or_false, not_true_eq_false, not_false_eq_true, and_self]
      exact hh
    · rw [Th_in (t := 21) ka (by decide) (by decide +kernel)]
      simp (disch := first | (simp only [dd, dr]; done) | omega) only [W_7, I_lt, I_le, I_inj, inB_I, tc_I, Int.toNat_natCast, fkt, rf1, rf0, cq, Nat.reduceAdd, Nat.reduceEqDiff, Int.reduceToNat, eq_self, true_and, and_true, true_or, or_true, bI_0, bI_1, mm, rAm, mF_sF, mR_sR, false_and, and_false, if_false, if_true, false_or, or_false, not_true_eq_false, not_false_eq_true, and_self]
      exact hh
    · rw [Th_in (t := 25) ka (by decide) (by decide +kernel)]
      simp (disch := first | (simp only [dd, dr]; done) | omega) only [W_7, I_lt, I_le, I_inj, inB_I, tc_I, Int.toNat_natCast, fkt, rf1, rf0, cq, Nat.reduceAdd, Nat.reduceEqDiff, Int.reduceToNat, eq_self, true_and, and_true, true_or, or_true, bI_0, bI_1, mm, rAm, mF_sF, mR_sR, false_and, and_false, if_false, if_true, false_or, or_false, not_true_eq_false, not_false_eq_true, and_self]
      exact hh
theorem wr_8 {z0 : Int32} {z1 : Int32} (hd : 1 ≤ d) (hk : kO M p = 1) (h : Wp (d - 1) 72 0 [some (.ref p), some (.int z0), some (.int z1), none, none] [] M (WQ q [(11, 1), (12, 2)] Q)) : Wp d 8 0 [some (.ref p), some (.int z0), some (.int z1), some (.ref q), none] [] M Q := by
  simp (disch := first | (simp only [dd, dr]; done) | omega) only [W_8, hk, I_lt, I_le, I_inj, inB_I, tc_I, Int.toNat_natCast, fkt, rf1, rf0, cq, Nat.reduceAdd, Nat.reduceEqDiff, Int.reduceToNat, eq_self, true_and, and_true, true_or, or_true, bI_0, bI_1, mm, rAm, mF_sF, mR_sR, false_and, and_false, if_false, if_true, false_or, or_false, not_true_eq_false, not_false_eq_true, and_self]
  refine ca_72 (by omega) (h.mono (fun out M1 ho => ?_))
  rcases ho with ⟨z, rfl, kq, hh⟩ | ⟨a, e, k, rfl, ka, hm, hh⟩
  · simp (disch := first | (simp only [dd, dr]; done) | omega) only [W_8, kq, I_lt, I_le, I_inj, inB_I, tc_I, Int.toNat_natCast, fkt, rf1, rf0, cq, Nat.reduceAdd, Nat.reduceEqDiff, Int.reduceToNat, eq_self, true_and, and_true, true_or, or_true, bI_0, bI_1, mm, rAm, mF_sF, mR_sR, false_and, and_false, if_false, if_true, false_or, or_false, not_true_eq_false, not_false_eq_true, and_self]
    exact hh
  · simp only [List.mem_cons, List.not_mem_nil, or_false, Prod.mk.injEq] at hm
    simp (disch := first | (simp only [dd, dr]; done) | omega) only [W_8, I_lt, I_le, I_inj, inB_I, tc_I, Int.toNat_natCast, fkt, rf1, rf0, cq, Nat.reduceAdd, Nat.reduceEqDiff, Int.reduceToNat, eq_self, true_and, and_true, true_or, or_true, bI_0, bI_1, mm, rAm, mF_sF, mR_sR, false_and, and_false, if_false, if_true, false_or, or_false, not_true_eq_false, not_false_eq_true, and_self]
    rcases hm with ⟨rfl, rfl⟩ | ⟨rfl, rfl⟩
    · rw [Th_in (t := 13) ka (by decide) (by decide +kernel)]
      simp (disch := first | (simp only [dd, dr]; done) | omega) only [W_8, I_lt, I_le, I_inj, inB_I, tc_I, Int.toNat_natCast, fkt, rf1, rf0, cq, Nat.reduceAdd, Nat.reduceEqDiff, Int.reduceToNat, eq_self, true_and, and_true, true_or, or_true, bI_0, bI_1, mm, rAm, mF_sF, mR_sR, false_and, and_false, if_false, if_true, false_or, or_false, not_true_eq_false, not_false_eq_true, and_self]
      exact hh
    · rw [Th_in (t := 17) ka (by decide) (by decide +kernel)]
      simp (disch := first | (simp only [dd, dr]; done) | omega) only [W_8, I_lt, I_le, I_inj, inB_I, tc_I, Int.toNat_natCast, fkt, rf1, rf0, cq, Nat.reduceAdd, Nat.reduceEqDiff, Int.reduceToNat, eq_self, true_and, and_true, true_or, or_true, bI_0, bI_1, mm, rAm, mF_sF, mR_sR, false_and, and_false, if_false, if_true, false_or, or_false, not_true_eq_false, not_false_eq_true, and_self]
      exact hh
theorem wr_9 {z0 : Int32} {z1 : Int32} (hd : 1 ≤ d) (hk : kO M p = 1) (h : Wp (d - 1) 73 0 [some (.ref p), some (.int z0), some (.int z1)] [] M (WQ q [(11, 1), (12, 2)] Q)) : Wp d 9 0 [some (.ref p), some (.int z0), some (.int z1), some (.ref q), none] [] M Q := by
  simp (disch := first | (simp only [dd, dr]; done) | omega) only [W_9, hk, I_lt, I_le, I_inj, inB_I, tc_I, Int.toNat_natCast, fkt, rf1, rf0, cq, Nat.reduceAdd, Nat.reduceEqDiff, Int.reduceToNat, eq_self, true_and, and_true, true_or, or_true, bI_0, bI_1, mm, rAm, mF_sF, mR_sR, false_and, and_false, if_false, if_true, false_or, or_false, not_true_eq_false, not_false_eq_true, and_self]
  refine ca_73 (by omega) (h.mono (fun out M1 ho => ?_))
  rcases ho with ⟨z, rfl, kq, hh⟩ | ⟨a, e, k, rfl, ka, hm, hh⟩
  · simp (disch := first | (simp only [dd, dr]; done) | omega) only [W_9, kq, I_lt, I_le, I_inj, inB_I, tc_I, Int.toNat_natCast, fkt, rf1, rf0, cq, Nat.reduceAdd, Nat.reduceEqDiff, Int.reduceToNat, eq_self, true_and, and_true, true_or, or_true, bI_0, bI_1, mm, rAm, mF_sF, mR_sR, false_and, and_false, if_false, if_true, false_or, or_false, not_true_eq_false, not_false_eq_true, and_self]
    exact hh
  · simp only [List.mem_cons, List.not_mem_nil, or_false, Prod.mk.injEq] at hm
    simp (disch := first | (simp only [dd, dr]; done) | omega) only [W_9, I_lt, I_le, I_inj, inB_I, tc_I, Int.toNat_natCast, fkt, rf1, rf0, cq, Nat.reduceAdd, Nat.reduceEqDiff, Int.reduceToNat, eq_self, true_and, and_true, true_or, or_true, bI_0, bI_1, mm, rAm, mF_sF, mR_sR, false_and, and_false, if_false, if_true, false_or, or_false, not_true_eq_false, not_false_eq_true, and_self]
    rcases hm with ⟨rfl, rfl⟩ | ⟨rfl, rfl⟩
    · rw [Th_in (t := 13) ka (by decide) (by decide +kernel)]
      simp (disch := first | (simp only [dd, dr]; done) | omega) only [W_9, I_lt, I_le, I_inj, inB_I, tc_I, Int.toNat_natCast, fkt, rf1, rf0, cq, Nat.reduceAdd, Nat.reduceEqDiff, Int.reduceToNat, eq_self, true_and, and_true, true_or, or_true, bI_0, bI_1, mm, rAm, mF_sF, mR_sR, false_and, and_false, if_false, if_true, false_or, or_false, not_true_eq_false, not_false_eq_true, and_self]
      exact hh
    · rw [Th_in (t := 17) ka (by decide) (by decide +kernel)]
      simp (disch := first | (simp only [dd, dr]; done) | omega) only [W_9, I_lt, I_le, I_inj, inB_I, tc_I, Int.toNat_natCast, fkt, rf1, rf0, cq, Nat.reduceAdd, Nat.reduceEqDiff, Int.reduceToNat, eq_self, true_and, and_true, true_or, or_true, bI_0, bI_1, mm, rAm, mF_sF, mR_sR, false_and, and_false, if_false, if_true, false_or, or_false, not_true_eq_false, not_false_eq_true, and_self]
      exact hh
theorem wr_10 {z0 : Int32} {z1 : Int32} (hd : 1 ≤ d) (hk : kO M p = 1) (h : Wp (d - 1) 74 0 [some (.ref p), some (.int z0), some (.int z1), none, none, none, none] [] M (WQ q [(11, 1), (12, 2)] Q)) : Wp d 10 0 [some (.ref p), some (.int z0), some (.int z1), some (.ref q), none] [] M Q := by
  simp (disch := first | (simp only [dd, dr]; done) | omega) only [W_10, hk, I_lt, I_le, I_inj, inB_I, tc_I, Int.toNat_natCast, fkt, rf1, rf0, cq, Nat.reduceAdd, Nat.reduceEqDiff, Int.reduceToNat, eq_self, true_and, and_true, true_or, or_true, bI_0, bI_1, mm, rAm, mF_sF, mR_sR, false_and, and_false, if_false, if_true, false_or, or_false, not_true_eq_false, not_false_eq_true, and_self]
  refine ca_74 (by omega) (h.mono (fun out M1 ho => ?_))
  rcases ho with ⟨z, rfl, kq, hh⟩ | ⟨a, e, k, rfl, ka, hm, hh⟩
  · simp (disch := first | (simp only [dd, dr]; done) | omega) only [W_10, kq, I_lt, I_le, I_inj, inB_I, tc_I, Int.toNat_natCast, fkt, rf1, rf0, cq, Nat.reduceAdd, Nat.reduceEqDiff, Int.reduceToNat, eq_self, true_and, and_true, true_or, or_true, bI_0, bI_1, mm, rAm, mF_sF, mR_sR, false_and, and_false, if_false, if_true, false_or, or_false, not_true_eq_false, not_false_eq_true, and_self]
    exact hh
  · simp only [List.mem_cons, List.not_mem_nil, or_false, Prod.mk.injEq] at hm
    simp (disch := first | (simp only [dd, dr]; done) | omega) only [W_10, I_lt, I_le, I_inj, inB_I, tc_I, Int.toNat_natCast, fkt, rf1, rf0, cq, Nat.reduceAdd, Nat.reduceEqDiff, Int.reduceToNat, eq_self, true_and, and_true, true_or, or_true, bI_0, bI_1, mm, rAm, mF_sF, mR_sR, false_and, and_false, if_false, if_true, false_or, or_false, not_true_eq_false, not_false_eq_true, and_self]
    rcases hm with ⟨rfl, rfl⟩ | ⟨rfl, rfl⟩
    · rw [Th_in (t := 13) ka (by decide) (by decide +kernel)]
      simp (disch := first | (simp only [dd, dr]; done) | omega) only [W_10, I_lt, I_le, I_inj, inB_I, tc_I, Int.toNat_natCast, fkt, rf1, rf0, cq, Nat.reduceAdd, Nat.reduceEqDiff, Int.reduceToNat, eq_self, true_and, and_true, true_or, or_true, bI_0, bI_1, mm, rAm, mF_sF, mR_sR, false_and, and_false, if_false, if_true, false_or, or_false, not_true_eq_false, not_false_eq_true, and_self]
      exact hh
    · rw [Th_in (t := 17) ka (by decide) (by decide +kernel)]
      simp (disch := first | (simp only [dd, dr]; done) | omega) only [W_10, I_lt, I_le, I_inj, inB_I, tc_I, Int.toNat_natCast, fkt, rf1, rf0, cq, Nat.reduceAdd, Nat.reduceEqDiff, Int.reduceToNat, eq_self, true_and, and_true, true_or, or_true, bI_0, bI_1, mm, rAm, mF_sF, mR_sR, false_and, and_false, if_false, if_true, false_or, or_false, not_true_eq_false, not_false_eq_true, and_self]
      exact hh
theorem wr_11 {z0 : Int32} {z1 : Int32} (hd : 1 ≤ d) (hk : kO M p = 1) (h : Wp (d - 1) 75 0 [some (.ref p), some (.int z0), some (.int z1), none] [] M (WQ q [(11, 1), (12, 2), (13, 3)] Q)) : Wp d 11 0 [some (.ref p), some (.int z0), some (.int z1), some (.ref q), none] [] M Q := by
  simp (disch := first | (simp only [dd, dr]; done) | omega) only [W_11, hk, I_lt, I_le, I_inj, inB_I, tc_I, Int.toNat_natCast, fkt, rf1, rf0, cq, Nat.reduceAdd, Nat.reduceEqDiff, Int.reduceToNat, eq_self, true_and, and_true, true_or, or_true, bI_0, bI_1, mm, rAm, mF_sF, mR_sR, false_and, and_false, if_false, if_true, false_or, or_false, not_true_eq_false, not_false_eq_true, and_self]
  refine ca_75 (by omega) (h.mono (fun out M1 ho => ?_))
  rcases ho with ⟨z, rfl, kq, hh⟩ | ⟨a, e, k, rfl, ka, hm, hh⟩
  · simp (disch := first | (simp only [dd, dr]; done) | omega) only [W_11, kq, I_lt, I_le, I_inj, inB_I, tc_I, Int.toNat_natCast, fkt, rf1, rf0, cq, Nat.reduceAdd, Nat.reduceEqDiff, Int.reduceToNat, eq_self, true_and, and_true, true_or, or_true, bI_0, bI_1, mm, rAm, mF_sF, mR_sR, false_and, and_false, if_false, if_true, false_or, or_false, not_true_eq_false, not_false_eq_true, and_self]
    exact hh
  · simp only [List.mem_cons, List.not_mem_nil, or_false, Prod.mk.injEq] at hm
    simp (disch := first | (simp only [dd, dr]; done) | omega) only [W_11, I_lt, I_le, I_inj, inB_I, tc_I, Int.toNat_natCast, fkt, rf1, rf0, cq, Nat.reduceAdd, Nat.reduceEqDiff, Int.reduceToNat, eq_self, true_and, and_true, true_or, or_true, bI_0, bI_1, mm, rAm, mF_sF, mR_sR, false_and, and_false, if_false, if_true, false_or, or_false, not_true_eq_false, not_false_eq_true, and_self]
    rcases hm with ⟨rfl, rfl⟩ | ⟨rfl, rfl⟩ | ⟨rfl, rfl⟩
    · rw [Th_in (t := 13) ka (by decide) (by decide +kernel)]
      simp (disch := first | (simp only [dd, dr]; done) | omega) only [W_11, I_lt, I_le, I_inj, inB_I, tc_I, Int.toNat_natCast, fkt, rf1, rf0, cq, Nat.reduceAdd, Nat.reduceEqDiff, Int.reduceToNat, eq_self, true_and, and_true, true_or, or_true, bI_0, bI_1, mm, rAm, mF_sF, mR_sR, false_and, and_false, if_false, if_true, false_or, or_false, not_true_eq_false, not_false_eq_true, and_self]
      exact hh
    · rw [Th_in (t := 17) ka (by decide) (by decide +kernel)]
      simp (disch := first | (simp only [dd, dr]; done) | omega) only [W_11, I_lt, I_le, I_inj, inB_I, tc_I, Int.toNat_natCast, fkt, rf1, rf0, cq, Nat.reduceAdd, Nat.reduceEqDiff, Int.reduceToNat, eq_self, true_and, and_true, true_or, or_true, bI_0, bI_1, mm, rAm, mF_sF, mR_sR, false_and, and_false, if_false, if_true, false_or, or_false, not_true_eq_false, not_false_eq_true, and_self]
      exact hh
    · rw [Th_in (t := 21) ka (by decide) (by decide +kernel)]
      simp (disch := first | (simp only [dd, dr]; done) | omega) only [W_11, I_lt, I_le, I_inj, inB_I, tc_I, Int.toNat_natCast, fkt, rf1, rf0, cq, Nat.reduceAdd, Nat.reduceEqDiff, Int.reduceToNat, eq_self, true_and, and_true, true_or, or_true, bI_0, bI_1, mm, rAm, mF_sF, mR_sR, false_and, and_false, if_false, if_true, false_or, or_false, not_true_eq_false, not_false_eq_true, and_self]
      exact hh
theorem wr_12 {z0 : Int32} {z1 : Int32} {z2 : Int32} (hd : 1 ≤ d) (hk : kO M p = 1) (h : Wp (d - 1) 76 0 [some (.ref p), some (.int z0), some (.int z1), some (.int z2), none, none] [] M (WQ q [(11, 1), (12, 2), (13, 3)] Q)) : Wp d 12 0 [some (.ref p), some (.int z0), some (.int z1), some (.int z2), some (.ref q), none] [] M Q := by
  simp (disch := first | (simp only [dd, dr]; done) | omega) only [W_12, hk, I_lt, I_le, I_inj, inB_I, tc_I, Int.toNat_natCast, fkt, rf1, rf0, cq, Nat.reduceAdd, Nat.reduceEqDiff, Int.reduceToNat, eq_self, true_and, and_true, true_or, or_true, bI_0, bI_1, mm, rAm, mF_sF, mR_sR, false_and, and_false, if_false, if_true, false_or, or_false, not_true_eq_false, not_false_eq_true, and_self]
  refine ca_76 (by omega) (h.mono (fun out M1 ho => ?_))
  rcases ho with ⟨z, rfl, kq, hh⟩ | ⟨a, e, k, rfl, ka, hm, hh⟩
  · simp (disch := first | (simp only [dd, dr]; done) | omega) only [W_12, kq, I_lt, I_le, I_inj, inB_I, tc_I, Int.toNat_natCast, fkt, rf1, rf0, cq, Nat.reduceAdd, Nat.reduceEqDiff, Int.reduceToNat, eq_self, true_and, and_true, true_or, or_true, bI_0, bI_1, mm, rAm, mF_sF, mR_sR, false_and, and_false, if_false, if_true, false_or, or_false, not_true_eq_false, not_false_eq_true, and_self]
    exact hh
  · simp only [List.mem_cons, List.not_mem_nil, or_false, Prod.mk.injEq] at hm
    simp (disch := first | (simp only [dd, dr]; done) | omega) only [W_12, I_lt, I_le, I_inj, inB_I, tc_I, Int.toNat_natCast, fkt, rf1, rf0, cq, Nat.reduceAdd, Nat.reduceEqDiff, Int.reduceToNat, eq_self, true_and, and_true, true_or, or_true, bI_0, bI_1, mm, rAm, mF_sF, mR_sR, false_and, and_false, if_false, if_true, false_or, or_false, not_true_eq_false, not_false_eq_true, and_self]
    rcases hm with ⟨rfl, rfl⟩ | ⟨rfl, rfl⟩ | ⟨rfl, rfl⟩
    · rw [Th_in (t := 15) ka (by decide) (by decide +kernel)]
      simp (disch := first | (simp only [dd, dr]; done) | omega) only [W_12, I_lt, I_le, I_inj, inB_I, tc_I, Int.toNat_natCast, fkt, rf1, rf0, cq, Nat.reduceAdd, Nat.reduceEqDiff, Int.reduceToNat, eq_self, true_and, and_true, true_or, or_true, bI_0, bI_1, mm, rAm, mF_sF, mR_sR, false_and, and_false, if_false, if_true, false_or, or_false, not_true_eq_false, not_false_eq_true, and_self]
      exact hh
    · rw [Th_in (t := 19) ka (by decide) (by decide +kernel)]
      simp (disch := first | (simp only [dd, dr]; done) | omega) only [W_12, I_lt, I_le, I_inj, inB_I, tc_I, Int.toNat_natCast, fkt, rf1, rf0, cq, Nat.reduceAdd, Nat.reduceEqDiff, Int.reduceToNat, eq_self, true_and, and_true, true_or, or_true, bI_0, bI_1, mm, rAm, mF_sF, mR_sR, false_and, and_false, if_false, if_true, false_or, or_false, not_true_eq_false, not_false_eq_true, and_self]
      exact hh
    · rw [Th_in (t := 23) ka (by decide) (by decide +kernel)]
      simp (disch := first | (simp only [dd, dr]; done) | omega) only [W_12, I_lt, I_le, I_inj, inB_I, tc_I, Int.toNat_natCast, fkt, rf1, rf0, cq, Nat.reduceAdd, Nat.reduceEqDiff, Int.reduceToNat, eq_self, true_and, and_true, true_or, or_true, bI_0, bI_1, mm, rAm, mF_sF, mR_sR, false_and, and_false, if_false, if_true, false_or, or_false, not_true_eq_false, not_false_eq_true, and_self]
      exact hh
theorem wr_13 {z0 : Int32} {z1 : Int32} (hd : 1 ≤ d) (hk : kO M p = 1) (h : Wp (d - 1) 77 0 [some (.ref p), some (.int z0), some (.int z1), none, none, none] [] M (WQ q [(11, 1), (12, 2), (13, 3)] Q)) : Wp d 13 0 [some (.ref p), some (.int z0), some (.int z1), some (.ref q), none] [] M Q := by
  simp (disch := first | (simp only [dd, dr]; done) | omega) only [W_13, hk, I_lt, I_le, I_inj, inB_I, tc_I, Int.toNat_natCast, fkt, rf1, rf0, cq, Nat.reduceAdd, Nat.reduceEqDiff, Int.reduceToNat, eq_self, true_and, and_true, true_or, or_true, bI_0, bI_1, mm, rAm, mF_sF, mR_sR, false_and, and_false, if_false, if_true, false_or, or_false, not_true_eq_false, not_false_eq_true, and_self]
  refine ca_77 (by omega) (h.mono (fun out M1 ho => ?_))
  rcases ho with ⟨z, rfl, kq, hh⟩ | ⟨a, e, k, rfl, ka, hm, hh⟩
  · simp (disch := first | (simp only [dd, dr]; done) | omega) only [W_13, kq, I_lt, I_le, I_inj, inB_I, tc_I, Int.toNat_natCast, fkt, rf1, rf0, cq, Nat.reduceAdd, Nat.reduceEqDiff, Int.reduceToNat, eq_self, true_and, and_true, true_or, or_true, bI_0, bI_1, mm, rAm, mF_sF, mR_sR, false_and, and_false, if_false, if_true, false_or, or_false, not_true_eq_false, not_false_eq_true, and_self]
    exact hh
  · simp only [List.mem_cons, List.not_mem_nil, or_false, Prod.mk.injEq] at hm
    simp (disch := first | (simp only [dd, dr]; done) | omega) only [W_13, I_lt, I_le, I_inj, inB_I, tc_I, Int.toNat_natCast, fkt, rf1, rf0, cq, Nat.reduceAdd, Nat.reduceEqDiff, Int.reduceToNat, eq_self, true_and, and_true, true_or, or_true, bI_0, bI_1, mm, rAm, mF_sF, mR_sR, false_and, and_false, if_false, if_true, false_or, or_false, not_true_eq_false, not_false_eq_true, and_self]
    rcases hm with ⟨rfl, rfl⟩ | ⟨rfl, rfl⟩ | ⟨rfl, rfl⟩
    · rw [Th_in (t := 13) ka (by decide) (by decide +kernel)]
      simp (disch := first | (simp only [dd, dr]; done) | omega) only [W_13, I_lt, I_le, I_inj, inB_I, tc_I, Int.toNat_natCast, fkt, rf1, rf0, cq, Nat.reduceAdd, Nat.reduceEqDiff, Int.reduceToNat, eq_self, true_and, and_true, true_or, or_true, bI_0, bI_1, mm, rAm, mF_sF, mR_sR, false_and, and_false, if_false, if_true, false_or, or_false, not_true_eq_false, not_false_eq_true, and_self]
      exact hh
    · rw [Th_in (t := 17) ka (by decide) (by decide +kernel)]
      simp (disch := first | (simp only [dd, dr]; done) | omega) only [W_13, I_lt, I_le, I_inj, inB_I, tc_I, Int.toNat_natCast, fkt, rf1, rf0, cq, Nat.reduceAdd, Nat.reduceEqDiff, Int.reduceToNat, eq_self, true_and, and_true, true_or, or_true, bI_0, bI_1, mm, rAm, mF_sF, mR_sR, false_and, and_false, if_false, if_true, false_or, or_false, not_true_eq_false, not_false_eq_true, and_self]
      exact hh
    · rw [Th_in (t := 21) ka (by decide) (by decide +kernel)]
      simp (disch := first | (simp only [dd, dr]; done) | omega) only [W_13, I_lt, I_le, I_inj, inB_I, tc_I, Int.toNat_natCast, fkt, rf1, rf0, cq, Nat.reduceAdd, Nat.reduceEqDiff, Int.reduceToNat, eq_self, true_and, and_true, true_or, or_true, bI_0, bI_1, mm, rAm, mF_sF, mR_sR, false_and, and_false, if_false, if_true, false_or, or_false, not_true_eq_false, not_false_eq_true, and_self]
      exact hh
theorem wr_14  (hd : 1 ≤ d) (hk : kO M p = 1) (h : Wp (d - 1) 78 0 [some (.ref p), none, none] [] M (WQ q [(11, 1), (14, 2)] Q)) : Wp d 14 0 [some (.ref p), some (.ref q), none] [] M Q := by
  simp (disch := first | (simp only [dd, dr]; done) | omega) only [W_14, hk, I_lt, I_le, I_inj, inB_I, tc_I, Int.toNat_natCast, fkt, rf1, rf0, cq, Nat.reduceAdd, Nat.reduceEqDiff, Int.reduceToNat, eq_self, true_and, and_true, true_or, or_true, bI_0, bI_1, mm, rAm, mF_sF, mR_sR, false_and, and_false, if_false, if_true, false_or, or_false, not_true_eq_false, not_false_eq_true, and_self]
  refine ca_78 (by omega) (h.mono (fun out M1 ho => ?_))
  rcases ho with ⟨z, rfl, kq, hh⟩ | ⟨a, e, k, rfl, ka, hm, hh⟩
  · simp (disch := first | (simp only [dd, dr]; done) | omega) only [W_14, kq, I_lt, I_le, I_inj, inB_I, tc_I, Int.toNat_natCast, fkt, rf1, rf0, cq, Nat.reduceAdd, Nat.reduceEqDiff, Int.reduceToNat, eq_self, true_and, and_true, true_or, or_true, bI_0, bI_1, mm, rAm, mF_sF, mR_sR, false_and, and_false, if_false, if_true, false_or, or_false, not_true_eq_false, not_false_eq_true, and_self]
    exact hh
  · simp only [List.mem_cons, List.not_mem_nil, or_false, Prod.mk.injEq] at hm
    simp (disch := first | (simp only [dd, dr]; done) | omega) only [W_14, I_lt, I_le, I_inj, inB_I, tc_I, Int.toNat_natCast, fkt, rf1, rf0, cq, Nat.reduceAdd, Nat.reduceEqDiff, Int.reduceToNat, eq_self, true_and, and_true, true_or, or_true, bI_0, bI_1, mm, rAm, mF_sF, mR_sR, false_and, and_false, if_false, if_true, false_or, or_false, not_true_eq_false, not_false_eq_true, and_self]
    rcases hm with ⟨rfl, rfl⟩ | ⟨rfl, rfl⟩
    · rw [Th_in (t := 11) ka (by decide) (by decide +kernel)]
      simp (disch := first | (simp only [dd, dr]; done) | omega) only [W_14, I_lt, I_le, I_inj, inB_I, tc_I, Int.toNat_natCast, fkt, rf1, rf0, cq, Nat.reduceAdd, Nat.reduceEqDiff, Int.reduceToNat, eq_self, true_and, and_true, true_or, or_true, bI_0, bI_1, mm, rAm, mF_sF, mR_sR, false_and, and_false, if_false, if_true, false_or, or_false, not_true_eq_false, not_false_eq_true, and_self]
      exact hh
    · rw [Th_in (t := 14) ka (by decide) (by decide +kernel)]
      simp (disch := first | (simp only [dd, dr]; done) | omega) only [W_14, I_lt, I_le, I_inj, inB_I, tc_I, Int.toNat_natCast, fkt, rf1, rf0, cq, Nat.reduceAdd, Nat.reduceEqDiff, Int.reduceToNat, eq_self, true_and, and_true, true_or, or_true, bI_0, bI_1, mm, rAm, mF_sF, mR_sR, false_and, and_false, if_false, if_true, false_or, or_false, not_true_eq_false, not_false_eq_true, and_self]
      exact hh
theorem wr_15  (hd : 1 ≤ d) (hk : kO M p = 1) (h : Wp (d - 1) 81 0 [some (.ref p), none] [] M (WQ q [(11, 1)] Q)) : Wp d 15 0 [some (.ref p), some (.ref q), none] [] M Q := by
  simp (disch := first | (simp only [dd, dr]; done) | omega) only [W_15, hk, I_lt, I_le, I_inj, inB_I, tc_I, Int.toNat_natCast, fkt, rf1, rf0, cq, Nat.reduceAdd, Nat.reduceEqDiff, Int.reduceToNat, eq_self, true_and, and_true, true_or, or_true, bI_0, bI_1, mm, rAm, mF_sF, mR_sR, false_and, and_false, if_false, if_true, false_or, or_false, not_true_eq_false, not_false_eq_true, and_self]
  refine ca_81 (by omega) (h.mono (fun out M1 ho => ?_))
  rcases ho with ⟨z, rfl, kq, hh⟩ | ⟨a, e, k, rfl, ka, hm, hh⟩
  · simp (disch := first | (simp only [dd, dr]; done) | omega) only [W_15, kq, I_lt, I_le, I_inj, inB_I, tc_I, Int.toNat_natCast, fkt, rf1, rf0, cq, Nat.reduceAdd, Nat.reduceEqDiff, Int.reduceToNat, eq_self, true_and, and_true, true_or, or_true, bI_0, bI_1, mm, rAm, mF_sF, mR_sR, false_and, and_false, if_false, if_true, false_or, or_false, not_true_eq_false, not_false_eq_true, and_self]
    exact hh
  · simp only [List.mem_cons, List.not_mem_nil, or_false, Prod.mk.injEq] at hm
    simp (disch := first | (simp only [dd, dr]; done) | omega) only [W_15, I_lt, I_le, I_inj, inB_I, tc_I, Int.toNat_natCast, fkt, rf1, rf0, cq, Nat.reduceAdd, Nat.reduceEqDiff, Int.reduceToNat, eq_self, true_and, and_true, true_or, or_true, bI_0, bI_1, mm, rAm, mF_sF, mR_sR, false_and, and_false, if_false, if_true, false_or, or_false, not_true_eq_false, not_false_eq_true, and_self]
    obtain ⟨rfl, rfl⟩ := hm
    · rw [Th_in (t := 11) ka (by decide) (by decide +kernel)]
      simp (disch := first | (simp only [dd, dr]; done) | omega) only [W_15, I_lt, I_le, I_inj, inB_I, tc_I, Int.toNat_natCast, fkt, rf1, rf0, cq, Nat.reduceAdd, Nat.reduceEqDiff, Int.reduceToNat, eq_self, true_and, and_true, true_or, or_true, bI_0, bI_1, mm, rAm, mF_sF, mR_sR, false_and, and_false, if_false, if_true, false_or, or_false, not_true_eq_false, not_false_eq_true, and_self]
      exact hh
theorem wr_16  (hd : 1 ≤ d) (hk : kO M p = 1) (h : Wp (d - 1) 82 0 [some (.ref p), none] [] M (WQ q [(11, 1)] Q)) : Wp d 16 0 [some (.ref p), some (.ref q), none] [] M Q := by
  simp (disch := first | (simp only [dd, dr]; done) | omega) only [W_16, hk, I_lt, I_le, I_inj, inB_I, tc_I, Int.toNat_natCast, fkt, rf1, rf0, cq, Nat.reduceAdd, Nat.reduceEqDiff, Int.reduceToNat, eq_self, true_and, and_true, true_or, or_true, bI_0, bI_1, mm, rAm, mF_sF, mR_sR, false_and, and_false, if_false, if_true, false_or, or_false, not_true_eq_false, not_false_eq_true, and_self]
  refine ca_82 (by omega) (h.mono (fun out M1 ho => ?_))
  rcases ho with ⟨z, rfl, kq, hh⟩ | ⟨a, e, k, rfl, ka, hm, hh⟩
  · simp (disch := first | (simp only [dd, dr]; done) | omega) only [W_16, kq, I_lt, I_le, I_inj, inB_I, tc_I, Int.toNat_natCast, fkt, rf1, rf0, cq, Nat.reduceAdd, Nat.reduceEqDiff, Int.reduceToNat, eq_self, true_and, and_true, true_or, or_true, bI_0, bI_1, mm, rAm, mF_sF, mR_sR, false_and, and_false, if_false, if_true, false_or, or_false, not_true_eq_false, not_false_eq_true, and_self]
    exact hh
  · simp only [List.mem_cons, List.not_mem_nil, or_false, Prod.mk.injEq] at hm
    simp (disch := first | (simp only [dd, dr]; done) | omega) only [W_16, I_lt, I_le, I_inj, inB_I, tc_I, Int.toNat_natCast, fkt, rf1, rf0, cq, Nat.reduceAdd, Nat.reduceEqDiff, Int.reduceToNat, eq_self, true_and, and_true, true_or, or_true, bI_0, bI_1, mm, rAm, mF_sF, mR_sR, false_and, and_false, if_false, if_true, false_or, or_false, not_true_eq_false, not_false_eq_true, and_self]
    obtain ⟨rfl, rfl⟩ := hm
    · rw [Th_in (t := 11) ka (by decide) (by decide +kernel)]
      simp (disch := first | (simp only [dd, dr]; done) | omega) only [W_16, I_lt, I_le, I_inj, inB_I, tc_I, Int.toNat_natCast, fkt, rf1, rf0, cq, Nat.reduceAdd, Nat.reduceEqDiff, Int.reduceToNat, eq_self, true_and, and_true, true_or, or_true, bI_0, bI_1, mm, rAm, mF_sF, mR_sR, false_and, and_false, if_false, if_true, false_or, or_false, not_true_eq_false, not_false_eq_true, and_self]
      exact hh
theorem wr_17 {z0 : Int32} (hd : 1 ≤ d) (hk : kO M p = 1) (h : Wp (d - 1) 84 0 [some (.ref p), some (.int z0)] [] M (WQ0 [(13, 1)] Q)) : Wp d 17 0 [some (.ref p), some (.int z0), none] [] M Q := by
  simp (disch := first | (simp only [dd, dr]; done) | omega) only [W_17, hk, I_lt, I_le, I_inj, inB_I, tc_I, Int.toNat_natCast, fkt, rf1, rf0, cq, Nat.reduceAdd, Nat.reduceEqDiff, Int.reduceToNat, eq_self, true_and, and_true, true_or, or_true, bI_0, bI_1, mm, rAm, mF_sF, mR_sR, false_and, and_false, if_false, if_true, false_or, or_false, not_true_eq_false, not_false_eq_true, and_self]
  refine ca_84 (by omega) (h.mono (fun out M1 ho => ?_))
  rcases ho with ⟨rfl, hh⟩ | ⟨a, e, k, rfl, ka, hm, hh⟩
  · simp (disch := first | (simp only [dd, dr]; done) | omega) only [W_17, I_lt, I_le, I_inj, inB_I, tc_I, Int.toNat_natCast, fkt, rf1, rf0, cq, Nat.reduceAdd, Nat.reduceEqDiff, Int.reduceToNat, eq_self, true_and, and_true, true_or, or_true, bI_0, bI_1, mm, rAm, mF_sF, mR_sR, false_and, and_false, if_false, if_true, false_or, or_false, not_true_eq_false, not_false_eq_true, and_self]
    exact hh
  · simp only [List.mem_cons, List.not_mem_nil, or_false, Prod.mk.injEq] at hm
    simp (disch := first | (simp only [dd, dr]; done) | omega) only [W_17, I_lt, I_le, I_inj, inB_I, tc_I, Int.toNat_natCast, fkt, rf1, rf0, cq, Nat.reduceAdd, Nat.reduceEqDiff, Int.reduceToNat, eq_self, true_and, and_true, true_or, or_true, bI_0, bI_1, mm, rAm, mF_sF, mR_sR, false_and, and_false, if_false, if_true, false_or, or_false, not_true_eq_false, not_false_eq_true, and_self]
    obtain ⟨rfl, rfl⟩ := hm
    · rw [Th_in (t := 8) ka (by decide) (by decide +kernel)]
      simp (disch := first | (simp only [dd, dr]; done) | omega) only [W_17, I_lt, I_le, I_inj, inB_I, tc_I, Int.toNat_natCast, fkt, rf1, rf0, cq, Nat.reduceAdd, Nat.reduceEqDiff, Int.reduceToNat, eq_self, true_and, and_true, true_or, or_true, bI_0, bI_1, mm, rAm, mF_sF, mR_sR, false_and, and_false, if_false, if_true, false_or, or_false, not_true_eq_false, not_false_eq_true, and_self]
      exact hh
theorem wr_18  (hd : 1 ≤ d) (hk : kO M p = 1) (h : Wp (d - 1) 85 0 [some (.ref p), none] [] M (WQ q [(14, 1)] Q)) : Wp d 18 0 [some (.ref p), some (.ref q), none] [] M Q := by
  simp (disch := first | (simp only [dd, dr]; done) | omega) only [W_18, hk, I_lt, I_le, I_inj, inB_I, tc_I, Int.toNat_natCast, fkt, rf1, rf0, cq, Nat.reduceAdd, Nat.reduceEqDiff, Int.reduceToNat, eq_self, true_and, and_true, true_or, or_true, bI_0, bI_1, mm, rAm, mF_sF, mR_sR, false_and, and_false, if_false, if_true, false_or, or_false, not_true_eq_false, not_false_eq_true, and_self]
  refine ca_85 (by omega) (h.mono (fun out M1 ho => ?_))
  rcases ho with ⟨z, rfl, kq, hh⟩ | ⟨a, e, k, rfl, ka, hm, hh⟩
  · simp (disch := first | (simp only [dd, dr]; done) | omega) only [W_18, kq, I_lt, I_le, I_inj, inB_I, tc_I, Int.toNat_natCast, fkt, rf1, rf0, cq, Nat.reduceAdd, Nat.reduceEqDiff, Int.reduceToNat, eq_self, true_and, and_true, true_or, or_true, bI_0, bI_1, mm, rAm, mF_sF, mR_sR, false_and, and_false, if_false, if_true, false_or, or_false, not_true_eq_false, not_false_eq_true, and_self]
    exact hh
  · simp only [List.mem_cons, List.not_mem_nil, or_false, Prod.mk.injEq] at hm
    simp (disch := first | (simp only [dd, dr]; done) | omega) only [W_18, I_lt, I_le, I_inj, inB_I, tc_I, Int.toNat_natCast, fkt, rf1, rf0, cq, Nat.reduceAdd, Nat.reduceEqDiff, Int.reduceToNat, eq_self, true_and, and_true, true_or, or_true, bI_0, bI_1, mm, rAm, mF_sF, mR_sR, false_and, and_false, if_false, if_true, false_or, or_false, not_true_eq_false, not_false_eq_true, and_self]
    obtain ⟨rfl, rfl⟩ := hm
    · rw [Th_in (t := 11) ka (by decide) (by decide +kernel)]
      simp (disch := first | (simp only [dd, dr]; done) | omega) only [W_18, I_lt, I_le, I_inj, inB_I, tc_I, Int.toNat_natCast, fkt, rf1, rf0, cq, Nat.reduceAdd, Nat.reduceEqDiff, Int.reduceToNat, eq_self, true_and, and_true, true_or, or_true, bI_0, bI_1, mm, rAm, mF_sF, mR_sR, false_and, and_false, if_false, if_true, false_or, or_false, not_true_eq_false, not_false_eq_true, and_self]
      exact hh
theorem wr_19 {z0 : Int32} (hd : 1 ≤ d) (hk : kO M p = 1) (h : Wp (d - 1) 86 0 [some (.ref p), some (.int z0), none, none, none, none, none, none] [] M (WQ q [(11, 1), (13, 2)] Q)) : Wp d 19 0 [some (.ref p), some (.int z0), some (.ref q), none] [] M Q := by
  simp (disch := first | (simp only [dd, dr]; done) | omega) only [W_19, hk, I_lt, I_le, I_inj, inB_I, tc_I, Int.toNat_natCast, fkt, rf1, rf0, cq, Nat.reduceAdd, Nat.reduceEqDiff, Int.reduceToNat, eq_self, true_and, and_true, true_or, or_true, bI_0, bI_1, mm, rAm, mF_sF, mR_sR, false_and, and_false, if_false, if_true, false_or, or_false, not_true_eq_false, not_false_eq_true, and_self]
  refine ca_86 (by omega) (h.mono (fun out M1 ho => ?_))
  rcases ho with ⟨z, rfl, kq, hh⟩ | ⟨a, e, k, rfl, ka, hm, hh⟩
  · simp (disch := first | (simp only [dd, dr]; done) | omega) only [W_19, kq, I_lt, I_le, I_inj, inB_I, tc_I, Int.toNat_natCast, fkt, rf1, rf0, cq, Nat.reduceAdd, Nat.reduceEqDiff, Int.reduceToNat, eq_self, true_and, and_true, true_or, or_true, bI_0, bI_1, mm, rAm, mF_sF, mR_sR, false_and, and_false, if_false, if_true, false_or, or_false, not_true_eq_false, not_false_eq_true, and_self]
    exact hh
  · simp only [List.mem_cons, List.not_mem_nil, or_false, Prod.mk.injEq] at hm
    simp (disch := first | (simp only [dd, dr]; done) | omega) only [W_19, I_lt, I_le, I_inj, inB_I, tc_I, Int.toNat_natCast, fkt, rf1, rf0, cq, Nat.reduceAdd, Nat.reduceEqDiff, Int.reduceToNat, eq_self, true_and, and_true, true_or, or_true, bI_0, bI_1, mm, rAm, mF_sF, mR_sR, false_and, and_false, if_false, if_true, false_or, or_false, not_true_eq_false, not_false_eq_true, and_self]
    rcases hm with ⟨rfl, rfl⟩ | ⟨rfl, rfl⟩
    · rw [Th_in (t := 12) ka (by decide) (by decide +kernel)]
      simp (disch := first | (simp only [dd, dr]; done) | omega) only [W_19, I_lt, I_le, I_inj, inB_I, tc_I, Int.toNat_natCast, fkt, rf1, rf0, cq, Nat.reduceAdd, Nat.reduceEqDiff, Int.reduceToNat, eq_self, true_and, and_true, true_or, or_true, bI_0, bI_1, mm, rAm, mF_sF, mR_sR, false_and, and_false, if_false, if_true, false_or, or_false, not_true_eq_false, not_false_eq_true, and_self]
      exact hh
    · rw [Th_in (t := 15) ka (by decide) (by decide +kernel)]
      simp (disch := first | (simp only [dd, dr]; done) | omega) only [W_19, I_lt, I_le, I_inj, inB_I, tc_I, Int.toNat_natCast, fkt, rf1, rf0, cq, Nat.reduceAdd, Nat.reduceEqDiff, Int.reduceToNat, eq_self, true_and, and_true, true_or, or_true, bI_0, bI_1, mm, rAm, mF_sF, mR_sR, false_and, and_false, if_false, if_true, false_or, or_false, not_true_eq_false, not_false_eq_true, and_self]
      exact hh
end Wrp
