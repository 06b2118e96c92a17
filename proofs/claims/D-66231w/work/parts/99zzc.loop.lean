/-! ===== THE LAW: its loop ===== -/
section Lw4
variable {d p o q a m J n i k N0 S0 : Nat} {sc : Nat → Int} {M M' : Mem} {A A' : Ad} {T T' Tc : Tr} {X X' Xc : Ob} {dt dtc la : Nat → Nat → Nat} {par parc : Nat → Nat} {v : Dv} {Q : Outcome → Mem → Prop}
theorem and31 (v : Int32) : v &&& 31 = I ((v.toBitVec.toNat % 32 : Nat) : Int) := by
  apply Int32.toBitVec_inj.mp
  unfold I
  rw [Int32.toBitVec_ofInt, BitVec.ofInt_natCast, Int32.toBitVec_and]
  apply BitVec.eq_of_toNat_eq
  rw [BitVec.toNat_ofNat, BitVec.toNat_and]
  have h3 : v.toBitVec.toNat &&& 31 = v.toBitVec.toNat % 32 := Nat.and_two_pow_sub_one_eq_mod v.toBitVec.toNat 5
  have h4 : (31 : Int32).toBitVec.toNat = 31 := by decide
  rw [h4, h3]
  omega
theorem and31_ex (z : Int) : ∃ x : Nat, x < 32 ∧ I z &&& I 31 = I (x : Nat) := ⟨_, Nat.mod_lt _ (by omega), by rw [show I 31 = 31 by decide]; exact and31 _⟩
theorem LWs.up (L : LWs M p o q a m J n sc N0 S0 A T X dt par Tc Xc dtc parc la v k) : LWs M p o q a m J n sc N0 S0 A T X dt par Tc Xc dtc parc la v (k + 1) := by
  obtain ⟨l1, l2, l3, l4, l5, l6, l7, l8, l9, l10⟩ := L
  exact ⟨l1, l2, l3, l4, l5, l6, l7, l8, by omega, by omega⟩
set_option maxHeartbeats 2000000 in
theorem law_case (hd : 120 ≤ d) (hn : n ≤ 3074) (hsc : ∀ i, i32 (sc i)) (L : LWs M p o q a m J n sc N0 S0 A T X dt par Tc Xc dtc parc la v k) (hi : i + 6 ≤ n) {l5 l6 : Option Value} (next : Nx d p o q a m J n sc N0 S0 k i Q) {x : Nat} (hx : x < 32) : Wp d 233 60 [some (.ref a), some (.ref p), some (.ref o), some (.ref q), some (.int (I (i : Nat))), l5, l6] [.int (I (x : Nat))] M Q := by
  have hl6 : (i : Int) + 6 = ((i + 6 : Nat) : Int) := by omega
  by_cases c0 : x = 0
  · have h := law_make hd hn hsc L hi (l5 := l5) (l6 := l6) next
    rw [show ((x : Nat) : Int) = 0 by omega, r_233_60]
    exact h
  by_cases c1 : x = 1
  · have h := law_link hd hn hsc L hi (l5 := l5) (l6 := l6) next
    rw [show ((x : Nat) : Int) = 1 by omega, r_233_60_1]
    exact h
  by_cases c2 : x = 2
  · have h := law_unlink hd hn hsc L hi (l5 := l5) (l6 := l6) next
    rw [show ((x : Nat) : Int) = 2 by omega, r_233_60_2]
    exact h
  by_cases c3 : x = 3
  · have h := law_move hd hn hsc L hi (l5 := l5) (l6 := l6) next
    rw [show ((x : Nat) : Int) = 3 by omega, r_233_60_3]
    exact h
  by_cases c4 : x = 4
  · have h := law_write hd hn hsc L hi (l5 := l5) (l6 := l6) next
    rw [show ((x : Nat) : Int) = 4 by omega, r_233_60_4]
    exact h
  by_cases c5 : x = 5
  · have h := law_fill hd hn hsc L hi (l5 := l5) (l6 := l6) next
    rw [show ((x : Nat) : Int) = 5 by omega, r_233_60_5]
    exact h
  by_cases c6 : x = 6
  · have h := law_cut hd hn hsc L hi (l5 := l5) (l6 := l6) next
    rw [show ((x : Nat) : Int) = 6 by omega, r_233_60_6]
    exact h
  by_cases c7 : x = 7
  · have h := law_read hd hn hsc L hi (l5 := l5) (l6 := l6) next
    rw [show ((x : Nat) : Int) = 7 by omega, r_233_60_7]
    exact h
  by_cases c8 : x = 8
  · have h := law_look hd hn hsc L hi (l5 := l5) (l6 := l6) next
    rw [show ((x : Nat) : Int) = 8 by omega, r_233_60_8]
    exact h
  by_cases c9 : x = 9
  · have h := law_name hd hn hsc L hi (l5 := l5) (l6 := l6) next
    rw [show ((x : Nat) : Int) = 9 by omega, r_233_60_9]
    exact h
  by_cases c10 : x = 10
  · have h := law_about hd hn hsc L hi (l5 := l5) (l6 := l6) next
    rw [show ((x : Nat) : Int) = 10 by omega, r_233_60_10]
    exact h
  by_cases c11 : x = 11
  · have h := law_node hd hn hsc L hi (l5 := l5) (l6 := l6) next
    rw [show ((x : Nat) : Int) = 11 by omega, r_233_60_11]
    exact h
  by_cases c12 : x = 12
  · have h := law_item hd hn hsc L hi (l5 := l5) (l6 := l6) next
    rw [show ((x : Nat) : Int) = 12 by omega, r_233_60_12]
    exact h
  by_cases c13 : x = 13
  · have h := law_commit hd hn hsc L hi (l5 := l5) (l6 := l6) next
    rw [show ((x : Nat) : Int) = 13 by omega, r_233_60_13]
    exact h
  by_cases c14 : x = 14
  · have h := law_check hd hn hsc L hi (l5 := l5) (l6 := l6) next
    rw [show ((x : Nat) : Int) = 14 by omega, r_233_60_14]
    exact h
  by_cases c15 : x = 15
  · have h := law_back hd hn hsc L hi (l5 := l5) (l6 := l6) next
    rw [show ((x : Nat) : Int) = 15 by omega, r_233_60_15]
    exact h
  by_cases c16 : x = 16
  · have h := law_fail hd hn hsc L hi (l5 := l5) (l6 := l6) next
    rw [show ((x : Nat) : Int) = 16 by omega, r_233_60_16]
    exact h
  by_cases c17 : x = 17
  · have h := law_off hd hn hsc L hi (l5 := l5) (l6 := l6) next
    rw [show ((x : Nat) : Int) = 17 by omega, r_233_60_17]
    exact h
  by_cases c18 : x = 18
  · have h := law_recover hd hn hsc L hi (l5 := l5) (l6 := l6) next
    rw [show ((x : Nat) : Int) = 18 by omega, r_233_60_18]
    exact h
  by_cases c19 : x = 19
  · have h := law_count hd hn hsc L hi (l5 := l5) (l6 := l6) next
    rw [show ((x : Nat) : Int) = 19 by omega, r_233_60_19]
    exact h
  rw [r_233_60_20 d _ _ _ _ _ (by omega) (by omega) (by omega)]
  simp (disch := first | (simp only [dd, dr]; done) | omega) only [W_233_22, W_233_23, hl6, I_lt, I_le, I_inj, inB_I, tc_I, Int.toNat_natCast, fkt, rf1, rf0, cq, Nat.reduceAdd, Nat.reduceEqDiff, Int.reduceToNat, eq_self, true_and, and_true, true_or, or_true, bI_0, bI_1, mm, rAm, mF_sF, mR_sR, false_and, and_false, if_false, if_true, false_or, or_false, not_true_eq_false, not_false_eq_true, and_self]
  exact next _ A T X dt par Tc Xc dtc parc la v _ _ L.up
theorem nC_le (A : Ad) : nC A ≤ 576 ∧ sC A ≤ 30720 := by
  have h1 := cn_le (fun b => (A.1 b).isSome) 96
  have h2 := cn_le (fun b => (A.2 b).isSome) 96
  unfold nC sC
  omega
theorem law_loop (hd : 120 ≤ d) (hn : n ≤ 3074) (hsc : ∀ i, i32 (sc i)) (hQ : ∀ M', mN M' ≤ N0 + 1088 → mS M' ≤ S0 + 33792 → Q (.returned (some (.int (I 1)))) M') : ∀ (u k : Nat), n + 6 ≤ u + 6 * k → (k = 0 ∨ 2 + 6 * k ≤ n) → ∀ (M : Mem) A T X dt par Tc Xc dtc parc la v (l5 l6 : Option Value), LWs M p o q a m J n sc N0 S0 A T X dt par Tc Xc dtc parc la v k → Wp d 233 43 [some (.ref a), some (.ref p), some (.ref o), some (.ref q), some (.int (I ((2 + 6 * k : Nat) : Int))), l5, l6] [] M Q := by
  intro u
  induction u with
  | zero =>
    intro k h1 h2
    omega
  | succ u ih =>
    intro k h1 h2 M A T X dt par Tc Xc dtc parc la v l5 l6 L
    have ka := L.2.2.2.1.2.1
    have hs := L.2.2.2.1.2.2
    generalize hi : 2 + 6 * k = i at *
    simp (disch := first | (simp only [dd, dr]; done) | omega) only [w_233_43, W_233_0, ka, I_lt, I_le, I_inj, inB_I, tc_I, Int.toNat_natCast, fkt, rf1, rf0, cq, Nat.reduceAdd, Nat.reduceEqDiff, Int.reduceToNat, eq_self, true_and, and_true, true_or, or_true, bI_0, bI_1, mm, rAm, mF_sF, mR_sR, false_and, and_false, if_false, if_true, false_or, or_false, not_true_eq_false, not_false_eq_true, and_self]
    refine ⟨fun h => ?_, fun h => ?_⟩
    · simp (disch := first | (simp only [dd, dr]; done) | omega) only [W_233_22, W_233_23, I_lt, I_le, I_inj, inB_I, tc_I, Int.toNat_natCast, fkt, rf1, rf0, cq, Nat.reduceAdd, Nat.reduceEqDiff, Int.reduceToNat, eq_self, true_and, and_true, true_or, or_true, bI_0, bI_1, mm, rAm, mF_sF, mR_sR, false_and, and_false, if_false, if_true, false_or, or_false, not_true_eq_false, not_false_eq_true, and_self]
      obtain ⟨_, _, _, _, _, _, _, _, l9, l10⟩ := L
      have := nC_le A
      exact hQ M (by omega) (by omega)
    · have e0 := hs i (by omega)
      obtain ⟨x, hx, ex⟩ := and31_ex (sc i)
      simp (disch := first | (simp only [dd, dr]; done) | omega) only [W_233_0, ka, e0, ex, I_lt, I_le, I_inj, inB_I, tc_I, Int.toNat_natCast, fkt, rf1, rf0, cq, Nat.reduceAdd, Nat.reduceEqDiff, Int.reduceToNat, eq_self, true_and, and_true, true_or, or_true, bI_0, bI_1, mm, rAm, mF_sF, mR_sR, false_and, and_false, if_false, if_true, false_or, or_false, not_true_eq_false, not_false_eq_true, and_self]
      refine law_case hd hn hsc L (by omega) (fun M' A' T' X' dt' par' Tc' Xc' dtc' parc' la' v' l5' l6' L' => ?_) hx
      have := ih (k + 1) (by omega) (by omega) M' A' T' X' dt' par' Tc' Xc' dtc' parc' la' v' l5' l6' L'
      rw [show 2 + 6 * (k + 1) = i + 6 by omega] at this
      exact this
end Lw4
