/-! ===== THE COMPONENT: its constructor, device ===== -/
section Cn7
variable {d v J : Nat} {M M' : Mem} {Q : Outcome → Mem → Prop}
def nwE (M2 : Mem) (v : Nat) (z : Int32) : Mem := sF (sF (sR (nw (sR M2 22 v (some (v + 98))) (.inr (2, 96)) 96) 24 v (some (v + 195))) 23 v (I (-1))) 28 v z
theorem c_dev112 {z : Int32} (hk : kO M v = 4) (hN : mN M = v + 1) (hJ : J ≤ 64) (hQ : ∀ M1 M2 M3, N2 M M1 96 129 → N2 (sR M1 21 v (some (v + 1))) M2 96 129 → N2 (nwE M2 v z) M3 J 129 → Q (.returned none) (sR (nw (sR M3 26 v (some (v + 196))) (.inr (0, J)) J) 27 v (some (v + 197 + J)))) : Wp d 112 0 [some (.ref v), some (.int z), some (.int (I (J : Nat)))] [] M Q := by
  simp (disch := first | (simp only [dd, dr]; done) | omega) only [r_112_0, r_112_1, r_112_4, r_112_5, r_112_7, hk, I_lt, I_le, I_inj, inB_I, tc_I, Int.toNat_natCast, fkt, rf1, rf0, cq, Nat.reduceAdd, Nat.reduceEqDiff, Int.reduceToNat, eq_self, true_and, and_true, true_or, or_true, bI_0, bI_1, mm, rAm, mF_sF, mR_sR, false_and, and_false, if_false, if_true, false_or, or_false, not_true_eq_false, not_false_eq_true, and_self]
  refine st_112_10 (n := 96) (k := 129) (by omega) (by omega) (fun M1 h1 => ?_)
  have k1 : kO M1 v = 4 := by rw [N2_kO h1 (by omega)]; exact hk
  have n1 : mN M1 = v + 98 := by rw [h1.1, hN]
  rw [hN]
  simp (disch := first | (simp only [dd, dr]; done) | omega) only [r_112_14, r_112_17, r_112_18, r_112_20, k1, I_lt, I_le, I_inj, inB_I, tc_I, Int.toNat_natCast, fkt, rf1, rf0, cq, Nat.reduceAdd, Nat.reduceEqDiff, Int.reduceToNat, eq_self, true_and, and_true, true_or, or_true, bI_0, bI_1, mm, rAm, mF_sF, mR_sR, false_and, and_false, if_false, if_true, false_or, or_false, not_true_eq_false, not_false_eq_true, and_self]
  refine st_112_23 (n := 96) (k := 129) (by omega) (by omega) (fun M2 h2 => ?_)
  have e2 : mN (sR M1 21 v (some (v + 1))) = v + 98 := n1
  have k2 : kO M2 v = 4 := by rw [N2_kO h2 (by omega)]; exact k1
  have n2 : mN M2 = v + 195 := by rw [h2.1, e2]
  rw [e2]
  simp (disch := first | (simp only [dd, dr]; done) | omega | (simp only [mm, mN_nw, nw2_N]; omega)) only [r_112_27, r_112_30, r_112_31, r_112_33, r_112_35, r_112_38, r_112_39, r_112_40, r_112_43, r_112_44, r_112_45, r_112_48, r_112_49, r_112_50, k2, n2, o1_kO, mN_nw, I_lt, I_le, I_inj, inB_I, tc_I, Int.toNat_natCast, fkt, rf1, rf0, cq, Nat.reduceAdd, Nat.reduceEqDiff, Int.reduceToNat, eq_self, true_and, and_true, true_or, or_true, bI_0, bI_1, mm, rAm, mF_sF, mR_sR, false_and, and_false, if_false, if_true, false_or, or_false, not_true_eq_false, not_false_eq_true, and_self]
  refine st_112_53 (n := J) (k := 129) (by omega) (by omega) (fun M3 h3 => ?_)
  have e3 : mN (nwE M2 v z) = v + 196 := by show mN M2 + 1 = _; rw [n2]
  have k3 : kO M3 v = 4 := by
    have h3' : N2 (nwE M2 v z) M3 J 129 := h3
    rw [N2_kO h3' (by omega)]
    show kO (nw (sR M2 22 v (some (v + 98))) (.inr (2, 96)) 96) v = 4
    rw [o1_kO (by show v < mN M2; omega)]
    exact k2
  have n3 : mN M3 = v + 197 + J := by have := h3.1; have e3' : mN (nwE M2 v z) = v + 196 := e3; unfold nwE at e3'; omega
  have hQ3 := hQ M1 M2 M3 h1 h2 h3
  have e4 : mN (nwE M2 v z) = v + 196 := e3
  unfold nwE at e4
  rw [e4]
  simp (disch := first | (simp only [dd, dr]; done) | omega | (simp only [mm, mN_nw, nw2_N]; omega)) only [W_112, k3, n3, o1_kO, mN_nw, I_lt, I_le, I_inj, inB_I, tc_I, Int.toNat_natCast, fkt, rf1, rf0, cq, Nat.reduceAdd, Nat.reduceEqDiff, Int.reduceToNat, eq_self, true_and, and_true, true_or, or_true, bI_0, bI_1, mm, rAm, mF_sF, mR_sR, false_and, and_false, if_false, if_true, false_or, or_false, not_true_eq_false, not_false_eq_true, and_self]
  exact hQ3
end Cn7
