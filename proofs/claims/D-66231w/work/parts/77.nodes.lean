/-! ===== THE COMPONENT: leafAt, innerAt ===== -/
section LA
variable {d t r m : Nat} {M : Mem} {Q : Outcome → Mem → Prop} {A : Ad} {T : Tr} {py : Nat → List Nat} {e : Option Nat}
theorem c_alone {q : Nat} (hk : kO M q = 5 ∨ kO M q = 6) (hQ : Q (.returned none) (sR (sR (sR M 33 q none) 30 q none) 31 q none)) : Wp d 150 0 [some (.ref q)] [] M Q := by
  obtain ⟨f30, f31, f32, f33⟩ := fkN hk
  simp (disch := first | (simp only [dd, dr]; done) | omega) only [W_150, f30, f31, f33, I_lt, I_le, I_inj, inB_I, tc_I, Int.toNat_natCast, fkt, rf1, rf0, cq, Nat.reduceAdd, Nat.reduceEqDiff, Int.reduceToNat, eq_self, true_and, and_true, true_or, or_true, bI_0, bI_1, mm, rAm, mF_sF, mR_sR, false_and, and_false, if_false, if_true, false_or, or_false, not_true_eq_false, not_false_eq_true, and_self]
  exact hQ
theorem c_beginL {q : Nat} (hd : 1 ≤ d) (hk : kO M q = 5) (hQ : Q (.returned none) (sF (sF (sR (sR (sR M 33 q none) 30 q none) 31 q none) 37 q (I 0)) 34 q (I 0))) : Wp d 121 0 [some (.ref q)] [] M Q := by
  simp (disch := first | (simp only [dd, dr]; done) | omega) only [W_121, hk, I_lt, I_le, I_inj, inB_I, tc_I, Int.toNat_natCast, fkt, rf1, rf0, cq, Nat.reduceAdd, Nat.reduceEqDiff, Int.reduceToNat, eq_self, true_and, and_true, true_or, or_true, bI_0, bI_1, mm, rAm, mF_sF, mR_sR, false_and, and_false, if_false, if_true, false_or, or_false, not_true_eq_false, not_false_eq_true, and_self]
  refine ca_150 (by omega) (c_alone (.inl hk) ?_)
  simp (disch := first | (simp only [dd, dr]; done) | omega) only [W_121, hk, I_lt, I_le, I_inj, inB_I, tc_I, Int.toNat_natCast, fkt, rf1, rf0, cq, Nat.reduceAdd, Nat.reduceEqDiff, Int.reduceToNat, eq_self, true_and, and_true, true_or, or_true, bI_0, bI_1, mm, rAm, mF_sF, mR_sR, false_and, and_false, if_false, if_true, false_or, or_false, not_true_eq_false, not_false_eq_true, and_self]
  exact hQ
theorem c_beginI {q : Nat} {z : Int} (hd : 1 ≤ d) (hk : kO M q = 6) (hQ : Q (.returned none) (sF (sF (sR (sR (sR M 33 q none) 30 q none) 31 q none) 41 q (I 0)) 40 q (I z))) : Wp d 141 0 [some (.ref q), some (.int (I z))] [] M Q := by
  simp (disch := first | (simp only [dd, dr]; done) | omega) only [W_141, hk, I_lt, I_le, I_inj, inB_I, tc_I, Int.toNat_natCast, fkt, rf1, rf0, cq, Nat.reduceAdd, Nat.reduceEqDiff, Int.reduceToNat, eq_self, true_and, and_true, true_or, or_true, bI_0, bI_1, mm, rAm, mF_sF, mR_sR, false_and, and_false, if_false, if_true, false_or, or_false, not_true_eq_false, not_false_eq_true, and_self]
  refine ca_150 (by omega) (c_alone (.inr hk) ?_)
  simp (disch := first | (simp only [dd, dr]; done) | omega) only [W_141, hk, I_lt, I_le, I_inj, inB_I, tc_I, Int.toNat_natCast, fkt, rf1, rf0, cq, Nat.reduceAdd, Nat.reduceEqDiff, Int.reduceToNat, eq_self, true_and, and_true, true_or, or_true, bI_0, bI_1, mm, rAm, mF_sF, mR_sR, false_and, and_false, if_false, if_true, false_or, or_false, not_true_eq_false, not_false_eq_true, and_self]
  exact hQ
theorem c_initN {q b : Nat} (hd : 1 ≤ d) (hk : kO M q = 5 ∨ kO M q = 6) (hQ : Q (.returned none) (sF M 32 q (I (b : Nat)))) : Wp d 149 0 [some (.ref q), some (.int (I (b : Nat)))] [] M Q := by
  obtain ⟨f30, f31, f32, f33⟩ := fkN hk
  simp (disch := first | (simp only [dd, dr]; done) | omega) only [W_149, f32, I_lt, I_le, I_inj, inB_I, tc_I, Int.toNat_natCast, fkt, rf1, rf0, cq, Nat.reduceAdd, Nat.reduceEqDiff, Int.reduceToNat, eq_self, true_and, and_true, true_or, or_true, bI_0, bI_1, mm, rAm, mF_sF, mR_sR, false_and, and_false, if_false, if_true, false_or, or_false, not_true_eq_false, not_false_eq_true, and_self]
  exact hQ
theorem c_initL {q b : Nat} (hd : 3 ≤ d) (hk : kO M q = 5) (hq : q < mN M) (hQ : Q (.returned none) (sR (nw (sR (nw (sR (nw (sF M 32 q (I (b : Nat))) (.inr (0, 24)) 24) 36 q (some (mN M))) (.inr (0, 24)) 24) 38 q (some (mN M + 1))) (.inr (1, 240)) 240) 35 q (some (mN M + 2)))) : Wp d 120 0 [some (.ref q), some (.int (I (b : Nat)))] [] M Q := by
  have n0 : (q = mN M) = False := eq_false (by omega)
  have n1 : (q = mN M + 1) = False := eq_false (by omega)
  have n2 : (q = mN M + 2) = False := eq_false (by omega)
  simp (disch := first | (simp only [dd, dr]; done) | omega) only [W_120, hk, I_lt, I_le, I_inj, inB_I, tc_I, Int.toNat_natCast, fkt, rf1, rf0, cq, Nat.reduceAdd, Nat.reduceEqDiff, Int.reduceToNat, eq_self, true_and, and_true, true_or, or_true, bI_0, bI_1, mm, rAm, mF_sF, mR_sR, false_and, and_false, if_false, if_true, false_or, or_false, not_true_eq_false, not_false_eq_true, and_self]
  refine ca_149 (by omega) (c_initN (by omega) (.inl hk) ?_)
  simp (disch := first | (simp only [dd, dr]; done) | omega) only [W_120, hk, kO_nwA, mN_nw, n0, n1, n2, kX_nwA, Nat.add_assoc, I_lt, I_le, I_inj, inB_I, tc_I, Int.toNat_natCast, fkt, rf1, rf0, cq, Nat.reduceAdd, Nat.reduceEqDiff, Int.reduceToNat, eq_self, true_and, and_true, true_or, or_true, bI_0, bI_1, mm, rAm, mF_sF, mR_sR, false_and, and_false, if_false, if_true, false_or, or_false, not_true_eq_false, not_false_eq_true, and_self]
  exact hQ
theorem c_initI {q b : Nat} (hd : 3 ≤ d) (hk : kO M q = 6) (hq : q < mN M) (hQ : Q (.returned none) (sR (nw (sF M 32 q (I (b : Nat))) (.inr (7, 6)) 6) 39 q (some (mN M)))) : Wp d 140 0 [some (.ref q), some (.int (I (b : Nat)))] [] M Q := by
  have n0 : (q = mN M) = False := eq_false (by omega)
  simp (disch := first | (simp only [dd, dr]; done) | omega) only [W_140, hk, I_lt, I_le, I_inj, inB_I, tc_I, Int.toNat_natCast, fkt, rf1, rf0, cq, Nat.reduceAdd, Nat.reduceEqDiff, Int.reduceToNat, eq_self, true_and, and_true, true_or, or_true, bI_0, bI_1, mm, rAm, mF_sF, mR_sR, false_and, and_false, if_false, if_true, false_or, or_false, not_true_eq_false, not_false_eq_true, and_self]
  refine ca_149 (by omega) (c_initN (by omega) (.inr hk) ?_)
  simp (disch := first | (simp only [dd, dr]; done) | omega) only [W_140, hk, kO_nwA, mN_nw, n0, kX_nwA, Nat.add_assoc, I_lt, I_le, I_inj, inB_I, tc_I, Int.toNat_natCast, fkt, rf1, rf0, cq, Nat.reduceAdd, Nat.reduceEqDiff, Int.reduceToNat, eq_self, true_and, and_true, true_or, or_true, bI_0, bI_1, mm, rAm, mF_sF, mR_sR, false_and, and_false, if_false, if_true, false_or, or_false, not_true_eq_false, not_false_eq_true, and_self]
  exact hQ
/-- a new leaf, a new inner node -/
def newL (M : Mem) (b : Nat) : Mem := sR (nw (sR (nw (sR (nw (sF (nw M (.inl 5) (cSz 5)) 32 (mN M) (I (b : Nat))) (.inr (0, 24)) 24) 36 (mN M) (some (mN M + 1))) (.inr (0, 24)) 24) 38 (mN M) (some (mN M + 2))) (.inr (1, 240)) 240) 35 (mN M) (some (mN M + 3))
def newI (M : Mem) (b : Nat) : Mem := sR (nw (sF (nw M (.inl 6) (cSz 6)) 32 (mN M) (I (b : Nat))) (.inr (7, 6)) 6) 39 (mN M) (some (mN M + 1))
theorem newL_old (M : Mem) (b : Nat) {a : Nat} (h : a < mN M) : mK (newL M b) a = mK M a ∧ Sm M (newL M b) a := by
  have e0 : (a = mN M) = False := eq_false (by omega)
  have e1 : (a = mN M + 1) = False := eq_false (by omega)
  have e2 : (a = mN M + 2) = False := eq_false (by omega)
  have e3 : (a = mN M + 3) = False := eq_false (by omega)
  unfold newL Sm
  simp only [mm, mF_sF, mR_sR, mF_nw, mR_nw, mA_nw, mQ_nw, mL_nw, mK_nw, mN_nw, e0, e1, e2, e3, and_false, if_false, implies_true, and_self, Nat.add_assoc, Nat.reduceAdd]
theorem newL_new (M : Mem) (b : Nat) : LfK (newL M b) (mN M) ∧ mF (newL M b) 32 (mN M) = I (b : Nat) ∧ mN (newL M b) = mN M + 4 ∧ mS (newL M b) = mS M + 297 ∧ ((∀ a, mN M ≤ a → mK M a = none) → ∀ a, mN M + 4 ≤ a → mK (newL M b) a = none) := by
  have n1 : (mN M = mN M + 1) = False := eq_false (by omega)
  have n2 : (mN M = mN M + 2) = False := eq_false (by omega)
  have n3 : (mN M = mN M + 3) = False := eq_false (by omega)
  have n4 : (mN M + 1 = mN M + 2) = False := eq_false (by omega)
  have n5 : (mN M + 1 = mN M + 3) = False := eq_false (by omega)
  have n6 : (mN M + 2 = mN M + 3) = False := eq_false (by omega)
  have n7 : (mN M + 2 = mN M + 1) = False := eq_false (by omega)
  have n8 : (mN M + 1 = mN M) = False := eq_false (by omega)
  have n9 : (mN M + 2 = mN M) = False := eq_false (by omega)
  have na' : (mN M + 3 = mN M) = False := eq_false (by omega)
  refine ⟨⟨?_, ?_, ?_, ?_, ?_, ?_, ?_⟩, ?_, ?_, ?_, fun G a ha => ?_⟩
  · unfold newL; simp only [mm, kO_nw, kO_nwA, mN_nw, n1, n2, n3, if_false, if_true, Nat.add_assoc, Nat.reduceAdd]
  · unfold newL; simp only [mm, mR_sR, mR_nw, mN_nw, n1, n2, n3, if_false, if_true, Nat.add_assoc, Nat.reduceAdd, Nat.reduceEqDiff, false_and, and_self]
  · unfold newL; simp only [mm, mR_sR, mR_nw, mN_nw, n1, n2, n3, if_false, if_true, Nat.add_assoc, Nat.reduceAdd, Nat.reduceEqDiff, false_and, and_self]
  · unfold newL; simp only [mm, mR_sR, mR_nw, mN_nw, n1, n2, n3, if_false, if_true, Nat.add_assoc, Nat.reduceAdd, Nat.reduceEqDiff, false_and, and_self]
  · unfold newL; simp only [mm, kX_nw, kX_nwA, mN_nw, n1, n2, n3, n4, n5, n6, n7, n8, if_false, if_true, Nat.add_assoc, Nat.reduceAdd]
  · unfold newL; simp only [mm, kX_nw, kX_nwA, mN_nw, n1, n2, n3, n4, n5, n6, n7, n8, if_false, if_true, Nat.add_assoc, Nat.reduceAdd]
  · unfold newL; simp only [mm, kX_nw, kX_nwA, mN_nw, n1, n2, n3, n4, n5, n6, n7, n8, if_false, if_true, Nat.add_assoc, Nat.reduceAdd]
  · unfold newL; simp only [mm, mF_sF, mF_nw, mN_nw, n1, n2, n3, if_false, if_true, Nat.add_assoc, Nat.reduceAdd, and_self]
  · unfold newL; simp only [mm, mN_nw, Nat.add_assoc, Nat.reduceAdd]
  · unfold newL; simp only [mm, mS_nw, Nat.add_assoc, Nat.reduceAdd]; rfl
  · have e0 : (a = mN M) = False := eq_false (by omega)
    have e1 : (a = mN M + 1) = False := eq_false (by omega)
    have e2 : (a = mN M + 2) = False := eq_false (by omega)
    have e3 : (a = mN M + 3) = False := eq_false (by omega)
    unfold newL
    simp only [mm, mK_nw, mN_nw, e0, e1, e2, e3, if_false, Nat.add_assoc, Nat.reduceAdd]
    exact G a (by omega)
theorem newI_old (M : Mem) (b : Nat) {a : Nat} (h : a < mN M) : mK (newI M b) a = mK M a ∧ Sm M (newI M b) a := by
  have e0 : (a = mN M) = False := eq_false (by omega)
  have e1 : (a = mN M + 1) = False := eq_false (by omega)
  unfold newI Sm
  simp only [mm, mF_sF, mR_sR, mF_nw, mR_nw, mA_nw, mQ_nw, mL_nw, mK_nw, mN_nw, e0, e1, and_false, if_false, implies_true, and_self, Nat.add_assoc, Nat.reduceAdd]
theorem newI_new (M : Mem) (b : Nat) : InK (newI M b) (mN M) ∧ mF (newI M b) 32 (mN M) = I (b : Nat) ∧ mN (newI M b) = mN M + 2 ∧ mS (newI M b) ≤ mS M + 20 ∧ ((∀ a, mN M ≤ a → mK M a = none) → ∀ a, mN M + 2 ≤ a → mK (newI M b) a = none) := by
  have n1 : (mN M = mN M + 1) = False := eq_false (by omega)
  refine ⟨⟨?_, ?_, ?_⟩, ?_, ?_, ?_, fun G a ha => ?_⟩
  · unfold newI; simp only [mm, kO_nw, kO_nwA, mN_nw, n1, if_false, if_true, Nat.add_assoc, Nat.reduceAdd]
  · unfold newI; simp only [mm, mR_sR, mR_nw, mN_nw, n1, if_false, if_true, Nat.add_assoc, Nat.reduceAdd, Nat.reduceEqDiff, false_and, and_self]
  · unfold newI; simp only [mm, kX_nw, kX_nwA, mN_nw, n1, if_false, if_true, Nat.add_assoc, Nat.reduceAdd]
  · unfold newI; simp only [mm, mF_sF, mF_nw, mN_nw, n1, if_false, if_true, Nat.add_assoc, Nat.reduceAdd, and_self]
  · unfold newI; simp only [mm, mN_nw, Nat.add_assoc, Nat.reduceAdd]
  · unfold newI; simp only [mm, mS_nw, Nat.add_assoc]; exact Nat.add_le_add_left (by decide) _
  · have e0 : (a = mN M) = False := eq_false (by omega)
    have e1 : (a = mN M + 1) = False := eq_false (by omega)
    unfold newI
    simp only [mm, mK_nw, mN_nw, e0, e1, if_false, Nat.add_assoc, Nat.reduceAdd]
    exact G a (by omega)
end LA
