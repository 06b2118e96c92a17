/-! ===== THE COMPONENT: its constructor, rows ===== -/
theorem N2_kO {M M1 : Mem} {n k a : Nat} (h : N2 M M1 n k) (ha : a < mN M) : kO M1 a = kO M a := by
  have e : mK M1 a = mK M a := by rw [h.2.2.1, if_neg (by omega), if_neg (by omega)]
  simp only [kO, e]
section Cn3
variable {d p m J : Nat} {M M' : Mem} {Q : Outcome → Mem → Prop}
theorem c_new20a (hk : kO M p = 1) (hN : mN M = p + 1) {v1 v2 : Option Value} (hQ : ∀ M1 M2, N2 M M1 96 129 → N2 (sR M1 4 p (some (p + 1))) M2 96 129 → Wp d 20 27 [some (.ref p), v1, v2, none, none] [.ref (p + 98), .ref p] M2 Q) : Wp d 20 0 [some (.ref p), v1, v2, none, none] [] M Q := by
  simp (disch := first | (simp only [dd, dr]; done) | omega) only [r_20_0, r_20_1, r_20_4, r_20_5, r_20_7, hk, I_lt, I_le, I_inj, inB_I, tc_I, Int.toNat_natCast, fkt, rf1, rf0, cq, Nat.reduceAdd, Nat.reduceEqDiff, Int.reduceToNat, eq_self, true_and, and_true, true_or, or_true, bI_0, bI_1, mm, rAm, mF_sF, mR_sR, false_and, and_false, if_false, if_true, false_or, or_false, not_true_eq_false, not_false_eq_true, and_self]
  refine st_20_10 (n := 96) (k := 129) (by omega) (by omega) (fun M1 h1 => ?_)
  have k1 : kO M1 p = 1 := by rw [N2_kO h1 (by omega)]; exact hk
  rw [hN]
  simp (disch := first | (simp only [dd, dr]; done) | omega) only [r_20_14, r_20_17, r_20_18, r_20_20, k1, I_lt, I_le, I_inj, inB_I, tc_I, Int.toNat_natCast, fkt, rf1, rf0, cq, Nat.reduceAdd, Nat.reduceEqDiff, Int.reduceToNat, eq_self, true_and, and_true, true_or, or_true, bI_0, bI_1, mm, rAm, mF_sF, mR_sR, false_and, and_false, if_false, if_true, false_or, or_false, not_true_eq_false, not_false_eq_true, and_self]
  refine st_20_23 (n := 96) (k := 129) (by omega) (by omega) (fun M2 h2 => ?_)
  have e : mN (sR M1 4 p (some (p + 1))) = p + 98 := by show mN M1 = _; rw [h1.1, hN]
  rw [e]
  exact hQ M1 M2 h1 h2
end Cn3
