/-! ===== THE COMPONENT: what its constructors make ===== -/
section Cn1
variable {d p m J : Nat} {M M' : Mem} {A A' : Ad} {T T' : Tr} {X X' : Ob} {Q : Outcome → Mem → Prop}
theorem o1_kO {κ : Kd} {n a : Nat} (h : a < mN M) : kO (nw M κ n) a = kO M a := by unfold kO; rw [mK_nw, if_neg (by omega)]
theorem o1_kX {κ : Kd} {n a : Nat} (h : a < mN M) : kX (nw M κ n) a = kX M a := by unfold kX; rw [mK_nw, if_neg (by omega)]
theorem o1_mF {κ : Kd} {n f a : Nat} (h : a < mN M) : mF (nw M κ n) f a = mF M f a := by rw [mF_nw, if_neg (by omega)]
theorem o1_mR {κ : Kd} {n f a : Nat} (h : a < mN M) : mR (nw M κ n) f a = mR M f a := by rw [mR_nw, if_neg (by omega)]
theorem o1_mA {κ : Kd} {n a i : Nat} (h : a < mN M) : mA (nw M κ n) a i = mA M a i := by rw [mA_nw, if_neg (by omega)]
theorem o1_mL {κ : Kd} {n a i : Nat} (h : a < mN M) : mL (nw M κ n) a i = mL M a i := by rw [mL_nw, if_neg (by omega)]
theorem o1_mQ {κ : Kd} {n a i : Nat} (h : a < mN M) : mQ (nw M κ n) a i = mQ M a i := by rw [mQ_nw, if_neg (by omega)]
theorem o1_mK {κ : Kd} {n a : Nat} (h : a < mN M) : mK (nw M κ n) a = mK M a := by rw [mK_nw, if_neg (by omega)]
theorem h1_kO {k n a : Nat} (h : a = mN M) : kO (nw M (.inl k) n) a = k := by rw [kO_nw, if_pos h]
theorem h1_kX {pr : Nat × Nat} {n a : Nat} (h : a = mN M) : kX (nw M (.inr pr) n) a = pr := by rw [kX_nwA, if_pos h]
theorem h1_mF {κ : Kd} {n f a : Nat} (h : a = mN M) : mF (nw M κ n) f a = 0 := by rw [mF_nw, if_pos h]
theorem h1_mR {κ : Kd} {n f a : Nat} (h : a = mN M) : mR (nw M κ n) f a = none := by rw [mR_nw, if_pos h]
theorem h1_mA {κ : Kd} {n a i : Nat} (h : a = mN M) : mA (nw M κ n) a i = 0 := by rw [mA_nw, if_pos h]
theorem h1_mQ {κ : Kd} {n a i : Nat} (h : a = mN M) : mQ (nw M κ n) a i = none := by rw [mQ_nw, if_pos h]
theorem n1_mK {κ : Kd} {n a : Nat} (h : mN M < a) (h0 : mK M a = none) : mK (nw M κ n) a = none := by rw [mK_nw, if_neg (by omega)]; exact h0
theorem o2_kO {k n a : Nat} (h : a < mN M) : kO (nw2 M n k) a = kO M a := by unfold kO; rw [(nw2_at M n k).1, if_neg (by omega), if_neg (by omega)]
theorem o2_kX {k n a : Nat} (h : a < mN M) : kX (nw2 M n k) a = kX M a := by unfold kX; rw [(nw2_at M n k).1, if_neg (by omega), if_neg (by omega)]
theorem o2_mF {k n f a : Nat} (h : a < mN M) : mF (nw2 M n k) f a = mF M f a := by rw [(nw2_at M n k).2.1, if_neg (by omega)]
theorem o2_mR {k n f a : Nat} (h : a < mN M) : mR (nw2 M n k) f a = mR M f a := by rw [(nw2_at M n k).2.2.1, if_neg (by omega)]
theorem o2_mA {k n a i : Nat} (h : a < mN M) : mA (nw2 M n k) a i = mA M a i := by rw [(nw2_at M n k).2.2.2.1, if_neg (by omega)]
theorem o2_mL {k n a i : Nat} (h : a < mN M) : mL (nw2 M n k) a i = mL M a i := by rw [(nw2_at M n k).2.2.2.2.1, if_neg (by omega)]
theorem o2_mQ {k n a i : Nat} (h : a < mN M) : mQ (nw2 M n k) a i = mQ M a i := by rw [(nw2_at M n k).2.2.2.2.2, if_neg (by omega), if_neg (by omega)]
theorem o2_mK {k n a : Nat} (h : a < mN M) : mK (nw2 M n k) a = mK M a := by rw [(nw2_at M n k).1, if_neg (by omega), if_neg (by omega)]
theorem h2_kX {k n a : Nat} (h : a = mN M) : kX (nw2 M n k) a = (4, n) := by unfold kX; rw [(nw2_at M n k).1, if_pos h]
theorem h2_kX' {k n a : Nat} (h : mN M < a ∧ a ≤ mN M + n) : kX (nw2 M n k) a = (1, k) := by unfold kX; rw [(nw2_at M n k).1, if_neg (by omega), if_pos h]
theorem h2_mA {k n a i : Nat} (h : mN M ≤ a ∧ a ≤ mN M + n) : mA (nw2 M n k) a i = 0 := by rw [(nw2_at M n k).2.2.2.1, if_pos h]
theorem h2_mQ {k n a i : Nat} (h : a = mN M ∧ i < n) : mQ (nw2 M n k) a i = some (mN M + 1 + i) := by rw [(nw2_at M n k).2.2.2.2.2, if_pos h]
theorem n2_mK {k n a : Nat} (h : mN M + n < a) (h0 : mK M a = none) : mK (nw2 M n k) a = none := by rw [(nw2_at M n k).1, if_neg (by omega), if_neg (by omega)]; exact h0
theorem c_new87 {r : Nat} {z : Int32} (hk : kO M r = 2) (hr : r < mN M) (hQ : Q (.returned none) (sF (sR (nw M (.inr (2, 96)) 96) 11 r (some (mN M))) 10 r z)) : Wp d 87 0 [some (.ref r), some (.int z)] [] M Q := by
  simp (disch := first | (simp only [dd, dr]; done) | omega | (simp only [mm, mN_nw, nw2_N]; omega)) only [W_87, hk, o1_kO, I_lt, I_le, I_inj, inB_I, tc_I, Int.toNat_natCast, fkt, rf1, rf0, cq, Nat.reduceAdd, Nat.reduceEqDiff, Int.reduceToNat, eq_self, true_and, and_true, true_or, or_true, bI_0, bI_1, mm, rAm, mF_sF, mR_sR, false_and, and_false, if_false, if_true, false_or, or_false, not_true_eq_false, not_false_eq_true, and_self]
  exact hQ
theorem c_new94 {r t : Nat} (hk : kO M t = 3) (hr : t < mN M) (hQ : Q (.returned none) (sR (sR (nw (sR (nw (sR (nw M (.inr (5, 96)) 96) 15 t (some (mN M))) (.inr (6, 96)) 96) 12 t (some (mN M + 1))) (.inr (7, 8)) 8) 13 t (some (mN M + 2))) 17 t (some r))) : Wp d 94 0 [some (.ref t), some (.ref r)] [] M Q := by
  simp (disch := first | (simp only [dd, dr]; done) | omega | (simp only [mm, mN_nw, nw2_N]; omega)) only [W_94, hk, o1_kO, o1_kX, h1_kX, mN_nw, Nat.add_assoc, I_lt, I_le, I_inj, inB_I, tc_I, Int.toNat_natCast, fkt, rf1, rf0, cq, Nat.reduceAdd, Nat.reduceEqDiff, Int.reduceToNat, eq_self, true_and, and_true, true_or, or_true, bI_0, bI_1, mm, rAm, mF_sF, mR_sR, false_and, and_false, if_false, if_true, false_or, or_false, not_true_eq_false, not_false_eq_true, and_self]
  exact hQ
theorem c_new112 {v : Nat} {z : Int32} (hk : kO M v = 4) (hr : v < mN M) (hJ : J ≤ 1000) (hQ : Q (.returned none) (sR (nw (sR (nw2 (sF (sF (sR (nw (sR (nw2 (sR (nw2 M 96 129) 21 v (some (mN M))) 96 129) 22 v (some (mN M + 97))) (.inr (2, 96)) 96) 24 v (some (mN M + 194))) 23 v (I (-1))) 28 v z) J 129) 26 v (some (mN M + 195))) (.inr (0, J)) J) 27 v (some (mN M + (196 + J))))) : Wp d 112 0 [some (.ref v), some (.int z), some (.int (I (J : Nat)))] [] M Q := by
  simp (disch := first | (simp only [dd, dr]; done) | omega | (simp only [mm, mN_nw, nw2_N]; omega)) only [W_112, hk, o1_kO, o2_kO, o1_kX, h1_kX, o2_kX, h2_kX, mN_nw, nw2_N, Nat.add_assoc, I_lt, I_le, I_inj, inB_I, tc_I, Int.toNat_natCast, fkt, rf1, rf0, cq, Nat.reduceAdd, Nat.reduceEqDiff, Int.reduceToNat, eq_self, true_and, and_true, true_or, or_true, bI_0, bI_1, mm, rAm, mF_sF, mR_sR, false_and, and_false, if_false, if_true, false_or, or_false, not_true_eq_false, not_false_eq_true, and_self]
  exact hQ
end Cn1
