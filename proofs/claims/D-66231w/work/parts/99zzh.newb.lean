/-! ===== THE COMPONENT: its constructor, other arrays ===== -/
section Cn4
variable {d p m J : Nat} {M M' : Mem} {Q : Outcome → Mem → Prop}
def nwB (M : Mem) (p : Nat) : Mem := sR (nw (sR (nw (sR (nw (sR (nw (sR M 8 p (some (p + 98))) (.inr (2, 96)) 96) 1 p (some (p + 195))) (.inr (1, 48)) 48) 0 p (some (p + 196))) (.inr (1, 2048)) 2048) 3 p (some (p + 197))) (.inr (0, 16)) 16) 5 p (some (p + 198))
theorem c_new20b (hk : kO M p = 1) (hN : mN M = p + 195) {z : Int} {v2 : Option Value} (hQ : Ca d 20 69 [some (.ref p), some (.int (I z)), v2, none, none] 21 [.int (I z), .int (I 16), .int (I 96)] [.ref p] (nwB M p) Q) : Wp d 20 27 [some (.ref p), some (.int (I z)), v2, none, none] [.ref (p + 98), .ref p] M Q := by
  simp (disch := first | (simp only [dd, dr]; done) | omega | (simp only [mm, mN_nw, nw2_N]; omega)) only [W_20, hk, hN, o1_kO, mN_nw, Nat.add_assoc, I_lt, I_le, I_inj, inB_I, tc_I, Int.toNat_natCast, fkt, rf1, rf0, cq, Nat.reduceAdd, Nat.reduceEqDiff, Int.reduceToNat, eq_self, true_and, and_true, true_or, or_true, bI_0, bI_1, mm, rAm, mF_sF, mR_sR, false_and, and_false, if_false, if_true, false_or, or_false, not_true_eq_false, not_false_eq_true, and_self]
  exact hQ
end Cn4
