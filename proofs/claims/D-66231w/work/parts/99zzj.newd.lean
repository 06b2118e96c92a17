/-! ===== THE COMPONENT: its constructor, tree ===== -/
section Cn6
variable {d p m J : Nat} {M M' : Mem} {Q : Outcome → Mem → Prop}
def nwD (M : Mem) (p : Nat) : Mem := nw (sR (sR (sR (nw (sR (nw (sR (nw M (.inr (5, 96)) 96) 15 (p + 201) (some (p + 202))) (.inr (6, 96)) 96) 12 (p + 201) (some (p + 203))) (.inr (7, 8)) 8) 13 (p + 201) (some (p + 204))) 17 (p + 201) (some (p + 199))) 9 p (some (p + 201))) (.inl 4) (cSz 4)
theorem c_new20d (hd : 3 ≤ d) (hk : kO M p = 1) (hk2 : kO M (p + 201) = 3) (hN : mN M = p + 202) (h7 : mF M 7 p = I (m : Nat)) {z y : Int} (hQ : Ca d 20 119 [some (.ref p), some (.int (I z)), some (.int (I y)), none, none] 21 [.int (I y), .int (I 6), .int (I 64)] [.int (I (m : Nat)), .ref (p + 205), .ref (p + 205), .ref p] (nwD M p) Q) : Ca d 20 99 [some (.ref p), some (.int (I z)), some (.int (I y)), none, none] 94 [.ref (p + 201), .ref (p + 199)] [.ref (p + 201), .ref p] M Q := by
  refine cr_94 (by omega) (c_new94 hk2 (by omega) ?_)
  simp (disch := first | (simp only [dd, dr]; done) | omega | (simp only [mm, mN_nw, nw2_N]; omega)) only [W_20, hk, hN, h7, o1_kO, mN_nw, Nat.add_assoc, o1_mF, o1_mR, I_lt, I_le, I_inj, inB_I, tc_I, Int.toNat_natCast, fkt, rf1, rf0, cq, Nat.reduceAdd, Nat.reduceEqDiff, Int.reduceToNat, eq_self, true_and, and_true, true_or, or_true, bI_0, bI_1, mm, rAm, mF_sF, mR_sR, false_and, and_false, if_false, if_true, false_or, or_false, not_true_eq_false, not_false_eq_true, and_self]
  exact hQ
end Cn6
