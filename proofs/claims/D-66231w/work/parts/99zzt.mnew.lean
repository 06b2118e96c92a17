/-! ===== THE MODEL: its constructor ===== -/
section Mn1
variable {d o m J : Nat} {M : Mem} {Q : Outcome → Mem → Prop}
def nwM (M : Mem) (o : Nat) : Mem := sR (nw (sR (nw (sR (nw (sR (nw (sR (nw M (.inr (0, 25366)) 25366) 53 o (some (o + 1))) (.inr (0, 25366)) 25366) 42 o (some (o + 2))) (.inr (0, 25366)) 25366) 45 o (some (o + 3))) (.inr (0, 2560)) 2560) 51 o (some (o + 4))) (.inr (2, 96)) 96) 48 o (some (o + 5))
theorem m_new1 (hk : kO M o = 8) (hN : mN M = o + 1) {v1 v2 : Option Value} (hQ : Wp d 153 48 [some (.ref o), v1, v2] [] (nwM M o) Q) : Wp d 153 0 [some (.ref o), v1, v2] [] M Q := by
  simp (disch := first | (simp only [dd, dr]; done) | omega | (simp only [mm, mN_nw, nw2_N]; omega)) only [r_153_0, r_153_1, r_153_4, r_153_5, r_153_8, r_153_10, r_153_13, r_153_14, r_153_17, r_153_19, r_153_22, r_153_23, r_153_26, r_153_28, r_153_31, r_153_32, r_153_35, r_153_37, r_153_40, r_153_41, r_153_43, r_153_45, hk, hN, o1_kO, mN_nw, Nat.add_assoc, I_lt, I_le, I_inj, inB_I, tc_I, Int.toNat_natCast, fkt, rf1, rf0, cq, Nat.reduceAdd, Nat.reduceEqDiff, Int.reduceToNat, eq_self, true_and, and_true, true_or, or_true, bI_0, bI_1, mm, rAm, mF_sF, mR_sR, false_and, and_false, if_false, if_true, false_or, or_false, not_true_eq_false, not_false_eq_true, and_self]
  exact hQ
def NWm (M M' : Mem) (o : Nat) : Prop := mN M' = o + 6 ∧ mS M' = mS M + 78754 ∧
  (∀ a, mK M' a = if a = o + 5 then some (.inr (2, 96)) else if a = o + 4 then some (.inr (0, 2560)) else if a = o + 3 then some (.inr (0, 25366)) else if a = o + 2 then some (.inr (0, 25366)) else if a = o + 1 then some (.inr (0, 25366)) else mK M a) ∧
  (∀ f a, mF M' f a = if o + 1 ≤ a ∧ a ≤ o + 5 then 0 else mF M f a) ∧
  (∀ f a, mR M' f a = if o + 1 ≤ a ∧ a ≤ o + 5 then none else if f = 48 ∧ a = o then some (o + 5) else if f = 51 ∧ a = o then some (o + 4) else if f = 45 ∧ a = o then some (o + 3) else if f = 42 ∧ a = o then some (o + 2) else if f = 53 ∧ a = o then some (o + 1) else mR M f a) ∧
  (∀ a i, mA M' a i = if o + 1 ≤ a ∧ a ≤ o + 5 then 0 else mA M a i) ∧ (∀ a i, mL M' a i = if o + 1 ≤ a ∧ a ≤ o + 5 then 0 else mL M a i) ∧ (∀ a i, mQ M' a i = if o + 1 ≤ a ∧ a ≤ o + 5 then none else mQ M a i)
theorem NWm.of (hN : mN M = o + 1) : NWm M (nwM M o) o := by
  unfold nwM
  refine ⟨?_, ?_, fun a => ?_, fun f a => ?_, fun f a => ?_, fun a i => ?_, fun a i => ?_, fun a i => ?_⟩
  · simp only [mm, mN_nw, hN]
  · simp only [mm, nw_S, Nat.add_assoc, Nat.reduceAdd]
  all_goals simp only [mm, mN_nw, mK_nw, mF_nw, mR_nw, rR_sR, mA_nw, mL_nw, mQ_nw, hN]
  all_goals repeat' split
  all_goals first | rfl | omega
theorem NWm.md {M' : Mem} (h : NWm M M' o) (hk : mK M o = some (.inl 8)) (hF : ∀ g, mF M g o = 0) : MD M' o (fun _ => 0) (fun _ => 0) (fun _ => 0) (fun _ => 0) (fun _ => 0) (fun _ => false) := by
  obtain ⟨a1, a2, aK, aF, aR, aA, aL, aQ⟩ := h
  refine ⟨⟨kO_of (by rw [aK, hk]; ((repeat (first | rw [if_neg (by omega)] | rw [if_pos (by omega)])) <;> first | rfl | (simp only [Option.some.injEq]; omega))), by rw [aR]; ((repeat (first | rw [if_neg (by omega)] | rw [if_pos (by omega)])) <;> first | rfl | (simp only [Option.some.injEq]; omega)), by rw [aR]; ((repeat (first | rw [if_neg (by omega)] | rw [if_pos (by omega)])) <;> first | rfl | (simp only [Option.some.injEq]; omega)), by rw [aR]; ((repeat (first | rw [if_neg (by omega)] | rw [if_pos (by omega)])) <;> first | rfl | (simp only [Option.some.injEq]; omega)), by rw [aR]; ((repeat (first | rw [if_neg (by omega)] | rw [if_pos (by omega)])) <;> first | rfl | (simp only [Option.some.injEq]; omega)), by rw [aR]; ((repeat (first | rw [if_neg (by omega)] | rw [if_pos (by omega)])) <;> first | rfl | (simp only [Option.some.injEq]; omega)), kX_of (by rw [aK]; ((repeat (first | rw [if_neg (by omega)] | rw [if_pos (by omega)])) <;> first | rfl | (simp only [Option.some.injEq]; omega))), kX_of (by rw [aK]; ((repeat (first | rw [if_neg (by omega)] | rw [if_pos (by omega)])) <;> first | rfl | (simp only [Option.some.injEq]; omega))), kX_of (by rw [aK]; ((repeat (first | rw [if_neg (by omega)] | rw [if_pos (by omega)])) <;> first | rfl | (simp only [Option.some.injEq]; omega))), kX_of (by rw [aK]; ((repeat (first | rw [if_neg (by omega)] | rw [if_pos (by omega)])) <;> first | rfl | (simp only [Option.some.injEq]; omega))), kX_of (by rw [aK]; ((repeat (first | rw [if_neg (by omega)] | rw [if_pos (by omega)])) <;> first | rfl | (simp only [Option.some.injEq]; omega)))⟩, fun g => ?_, fun i => ?_, fun i => ?_, fun i => ?_, fun i => ?_, fun i => ?_⟩
  · rw [aF, if_neg (by omega), hF]; rfl
  all_goals rw [aA, if_pos (by omega)]
  all_goals rfl
def f9 (m J : Nat) : Nat → Int := fu (fu (fu (fun _ => 0) 46 (-1)) 43 (m : Int)) 49 (J : Int)
theorem m_new2 {M1 : Mem} (hd : 3 ≤ d) (hD : MD M1 o (fun _ => 0) (fun _ => 0) (fun _ => 0) (fun _ => 0) (fun _ => 0) (fun _ => false)) {z y : Int} (z0 : -2147483648 ≤ z) (z1 : z < 2147483648) (y0 : -2147483648 ≤ y) (y1 : y < 2147483648) (hm : (m : Int) = if z < 16 then 16 else if 96 < z then 96 else z) (hJ : (J : Int) = if y < 6 then 6 else if 64 < y then 64 else y)
    (hQ : Q (.returned none) (ms M1 o (f9 m J) s9 (fun _ => 0) s9 (fun _ => 0) (fun _ => false))) : Wp d 153 48 [some (.ref o), some (.int (I z)), some (.int (I y))] [] M1 Q := by
  have hK := hD.1
  obtain ⟨k0, k1, k2, k3, k4, k5, k6, k7, k8, k9, k10⟩ := id hK
  rw [← hD.eq]
  have go2 : Wp d 153 104 [some (.ref o), some (.int (I z)), some (.int (I y))] [.int (I (J : Nat)), .ref o] (ms M1 o (fu (fu (fun _ => 0) 46 (-1)) 43 (m : Int)) (fun _ => 0) (fun _ => 0) (fun _ => 0) (fun _ => 0) (fun _ => false)) Q := by
    simp (disch := first | (simp only [dd, dr]; done) | omega) only [W_153, msK, msR, msF, ms1, msS1, k0, k1, k6, msSF, k3, I_lt, I_le, I_inj, inB_I, tc_I, Int.toNat_natCast, fkt, rf1, rf0, cq, Nat.reduceAdd, Nat.reduceEqDiff, Int.reduceToNat, eq_self, true_and, and_true, true_or, or_true, bI_0, bI_1, mm, rAm, mF_sF, mR_sR, false_and, and_false, if_false, if_true, false_or, or_false, not_true_eq_false, not_false_eq_true, and_self]
    refine cr_154 (by omega) (m_keepSC hK ?_)
    simp (disch := first | (simp only [dd, dr]; done) | omega) only [W_153, I_lt, I_le, I_inj, inB_I, tc_I, Int.toNat_natCast, fkt, rf1, rf0, cq, Nat.reduceAdd, Nat.reduceEqDiff, Int.reduceToNat, eq_self, true_and, and_true, true_or, or_true, bI_0, bI_1, mm, rAm, mF_sF, mR_sR, false_and, and_false, if_false, if_true, false_or, or_false, not_true_eq_false, not_false_eq_true, and_self]
    have e := s9_kp
    unfold s9 at e
    rw [e]
    exact hQ
  have go1 : Wp d 153 77 [some (.ref o), some (.int (I z)), some (.int (I y))] [.int (I (m : Nat)), .ref o] (ms M1 o (fu (fun _ => 0) 46 (-1)) (fun _ => 0) (fun _ => 0) (fun _ => 0) (fun _ => 0) (fun _ => false)) Q := by
    simp (disch := first | (simp only [dd, dr]; done) | omega) only [W_153, msK, msR, msF, ms1, msS1, k0, k1, k6, msSF, I_lt, I_le, I_inj, inB_I, tc_I, Int.toNat_natCast, fkt, rf1, rf0, cq, Nat.reduceAdd, Nat.reduceEqDiff, Int.reduceToNat, eq_self, true_and, and_true, true_or, or_true, bI_0, bI_1, mm, rAm, mF_sF, mR_sR, false_and, and_false, if_false, if_true, false_or, or_false, not_true_eq_false, not_false_eq_true, and_self]
    refine ⟨fun h1 => ?_, fun h1 => ?_⟩
    · simp (disch := first | (simp only [dd, dr]; done) | omega) only [W_153, I_lt, I_le, I_inj, inB_I, tc_I, Int.toNat_natCast, fkt, rf1, rf0, cq, Nat.reduceAdd, Nat.reduceEqDiff, Int.reduceToNat, eq_self, true_and, and_true, true_or, or_true, bI_0, bI_1, mm, rAm, mF_sF, mR_sR, false_and, and_false, if_false, if_true, false_or, or_false, not_true_eq_false, not_false_eq_true, and_self]
      refine ⟨fun h2 => ?_, fun h2 => ?_⟩
      · simp (disch := first | (simp only [dd, dr]; done) | omega) only [W_153, I_lt, I_le, I_inj, inB_I, tc_I, Int.toNat_natCast, fkt, rf1, rf0, cq, Nat.reduceAdd, Nat.reduceEqDiff, Int.reduceToNat, eq_self, true_and, and_true, true_or, or_true, bI_0, bI_1, mm, rAm, mF_sF, mR_sR, false_and, and_false, if_false, if_true, false_or, or_false, not_true_eq_false, not_false_eq_true, and_self]
        have e : (J : Int) = y := by rw [hJ, if_neg (by omega), if_neg (by omega)]
        rw [e] at go2; exact go2
      · simp (disch := first | (simp only [dd, dr]; done) | omega) only [W_153, I_lt, I_le, I_inj, inB_I, tc_I, Int.toNat_natCast, fkt, rf1, rf0, cq, Nat.reduceAdd, Nat.reduceEqDiff, Int.reduceToNat, eq_self, true_and, and_true, true_or, or_true, bI_0, bI_1, mm, rAm, mF_sF, mR_sR, false_and, and_false, if_false, if_true, false_or, or_false, not_true_eq_false, not_false_eq_true, and_self]
        have e : (J : Int) = 64 := by rw [hJ, if_neg (by omega), if_pos (by omega)]
        rw [e] at go2; exact go2
    · simp (disch := first | (simp only [dd, dr]; done) | omega) only [W_153, I_lt, I_le, I_inj, inB_I, tc_I, Int.toNat_natCast, fkt, rf1, rf0, cq, Nat.reduceAdd, Nat.reduceEqDiff, Int.reduceToNat, eq_self, true_and, and_true, true_or, or_true, bI_0, bI_1, mm, rAm, mF_sF, mR_sR, false_and, and_false, if_false, if_true, false_or, or_false, not_true_eq_false, not_false_eq_true, and_self]
      have e : (J : Int) = 6 := by rw [hJ, if_pos (by omega)]
      rw [e] at go2; exact go2
  simp (disch := first | (simp only [dd, dr]; done) | omega) only [W_153, msK, msR, msF, ms1, msS1, k0, k1, k6, msSF, I_lt, I_le, I_inj, inB_I, tc_I, Int.toNat_natCast, fkt, rf1, rf0, cq, Nat.reduceAdd, Nat.reduceEqDiff, Int.reduceToNat, eq_self, true_and, and_true, true_or, or_true, bI_0, bI_1, mm, rAm, mF_sF, mR_sR, false_and, and_false, if_false, if_true, false_or, or_false, not_true_eq_false, not_false_eq_true, and_self]
  refine ⟨fun h1 => ?_, fun h1 => ?_⟩
  · simp (disch := first | (simp only [dd, dr]; done) | omega) only [W_153, I_lt, I_le, I_inj, inB_I, tc_I, Int.toNat_natCast, fkt, rf1, rf0, cq, Nat.reduceAdd, Nat.reduceEqDiff, Int.reduceToNat, eq_self, true_and, and_true, true_or, or_true, bI_0, bI_1, mm, rAm, mF_sF, mR_sR, false_and, and_false, if_false, if_true, false_or, or_false, not_true_eq_false, not_false_eq_true, and_self]
    refine ⟨fun h2 => ?_, fun h2 => ?_⟩
    · simp (disch := first | (simp only [dd, dr]; done) | omega) only [W_153, I_lt, I_le, I_inj, inB_I, tc_I, Int.toNat_natCast, fkt, rf1, rf0, cq, Nat.reduceAdd, Nat.reduceEqDiff, Int.reduceToNat, eq_self, true_and, and_true, true_or, or_true, bI_0, bI_1, mm, rAm, mF_sF, mR_sR, false_and, and_false, if_false, if_true, false_or, or_false, not_true_eq_false, not_false_eq_true, and_self]
      have e : (m : Int) = z := by rw [hm, if_neg (by omega), if_neg (by omega)]
      rw [e] at go1; exact go1
    · simp (disch := first | (simp only [dd, dr]; done) | omega) only [W_153, I_lt, I_le, I_inj, inB_I, tc_I, Int.toNat_natCast, fkt, rf1, rf0, cq, Nat.reduceAdd, Nat.reduceEqDiff, Int.reduceToNat, eq_self, true_and, and_true, true_or, or_true, bI_0, bI_1, mm, rAm, mF_sF, mR_sR, false_and, and_false, if_false, if_true, false_or, or_false, not_true_eq_false, not_false_eq_true, and_self]
      have e : (m : Int) = 96 := by rw [hm, if_neg (by omega), if_pos (by omega)]
      rw [e] at go1; exact go1
  · simp (disch := first | (simp only [dd, dr]; done) | omega) only [W_153, I_lt, I_le, I_inj, inB_I, tc_I, Int.toNat_natCast, fkt, rf1, rf0, cq, Nat.reduceAdd, Nat.reduceEqDiff, Int.reduceToNat, eq_self, true_and, and_true, true_or, or_true, bI_0, bI_1, mm, rAm, mF_sF, mR_sR, false_and, and_false, if_false, if_true, false_or, or_false, not_true_eq_false, not_false_eq_true, and_self]
    have e : (m : Int) = 16 := by rw [hm, if_pos (by omega)]
    rw [e] at go1; exact go1
theorem m_comp (hd : 3 ≤ d) (hk : mK M o = some (.inl 8)) (hN : mN M = o + 1) (hF : ∀ g, mF M g o = 0) (hE : ∀ a, mN M ≤ a → mK M a = none) {z y : Int} (z0 : -2147483648 ≤ z) (z1 : z < 2147483648) (y0 : -2147483648 ≤ y) (y1 : y < 2147483648) (hm : (m : Int) = if z < 16 then 16 else if 96 < z then 96 else z) (hJ : (J : Int) = if y < 6 then 6 else if 64 < y then 64 else y)
    (hQ : ∀ M', MD M' o (f9 m J) s9 (fun _ => 0) s9 (fun _ => 0) (fun _ => false) → (∀ x, x < o → mK M' x = mK M x ∧ Sm M M' x) → (∀ a, mN M' ≤ a → mK M' a = none) → mN M' = o + 6 → mS M' = mS M + 78754 → Q (.returned none) M') : Wp d 153 0 [some (.ref o), some (.int (I z)), some (.int (I y))] [] M Q := by
  refine m_new1 (kO_of hk) hN ?_
  have h := NWm.of (M := M) (o := o) hN
  generalize nwM M o = M1 at h ⊢
  have hD := h.md hk hF
  obtain ⟨a1, a2, aK, aF, aR, aA, aL, aQ⟩ := id h
  refine m_new2 hd hD z0 z1 y0 y1 hm hJ (hQ _ (MD.of hD.1 _ _ _ _ _ _) (fun x hx => ⟨?_, fun f => ?_, fun f => ?_, fun i => ?_, fun i => ?_, fun i => ?_⟩) (fun a ha => ?_) a1 a2)
  · show mK M1 x = _
    rw [aK]; ((repeat (first | rw [if_neg (by omega)] | rw [if_pos (by omega)])) <;> first | rfl | (simp only [Option.some.injEq]; omega))
  · rw [msFn _ _ _ _ _ _ _ _ _ (by omega), aF, if_neg (by omega)]
  · show mR M1 f x = _
    rw [aR]; ((repeat (first | rw [if_neg (by omega)] | rw [if_pos (by omega)])) <;> first | rfl | (simp only [Option.some.injEq]; omega))
  · rw [msA _ _ _ _ _ _ _ _ (by omega), aA, if_neg (by omega)]
  · show mQ M1 x i = _
    rw [aQ]; ((repeat (first | rw [if_neg (by omega)] | rw [if_pos (by omega)])) <;> first | rfl | (simp only [Option.some.injEq]; omega))
  · show mL M1 x i = _
    rw [aL]; ((repeat (first | rw [if_neg (by omega)] | rw [if_pos (by omega)])) <;> first | rfl | (simp only [Option.some.injEq]; omega))
  · show mK M1 a = none
    have ha' : mN M1 ≤ a := ha
    rw [aK, hE a (by omega)]; ((repeat (first | rw [if_neg (by omega)] | rw [if_pos (by omega)])) <;> first | rfl | (simp only [Option.some.injEq]; omega))
theorem f9_FV : FV (f9 m J) (fun _ => false) m J v9d := ⟨rfl, rfl, rfl, rfl, rfl, rfl, rfl, fun _ _ => rfl⟩
end Mn1
