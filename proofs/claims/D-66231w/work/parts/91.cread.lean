/-! ===== THE COMPONENT: a leaf is read ===== -/
section RL
variable {d : Nat} {M : Mem} {Q : Outcome → Mem → Prop} {q w : Nat} {ks : List Nat} {py : Nat → List Nat}
theorem Rw.fr {M' : Mem} {g : Nat → Nat} (h : Rw M w g) (K : LfK M q) (F : LfFr q M M') : Rw M' w g := by
  obtain ⟨k0, k1, k2, k3, k4, k5, k6⟩ := K
  have f := F.f1
  refine ⟨by rw [f.2.1]; exact h.1, fun i hi => ?_⟩
  rw [f.2.2.2.1 _ _ (by intro e; rw [e] at h; rw [h.1] at k4; cases k4) (by intro e; rw [e] at h; rw [h.1] at k5; cases k5) (by intro e; rw [e] at h; rw [h.1] at k6; cases k6)]
  exact h.2 i hi
theorem lrw_key {k key : Nat} (hk : ks[k]? = some key) (hb : key < 16777216) (h120 : 2 + 4 * ks.length ≤ 128) : nb (fun i => lrw ks py i % 256) (2 + 4 * k) 3 = key := by
  have hkl := (List.getElem?_eq_some_iff.mp hk).1
  have hg : ks.getD k 0 = key := by rw [List.getD_eq_getElem?_getD, hk]; rfl
  have e : ∀ j, j < 3 → lrw ks py (2 + 4 * k + j) = if j = 0 then key / 65536 % 256 else if j = 1 then key / 256 % 256 else key % 256 := by
    intro j hj
    unfold lrw
    rw [if_neg (by omega), if_neg (by omega), if_neg (by omega), if_pos (by omega), show (2 + 4 * k + j - 2) / 4 = k by omega, hg, show (2 + 4 * k + j - 2) % 4 = j by omega]
    by_cases c0 : j = 0
    · rw [if_pos c0, if_pos c0]
    · rw [if_neg c0, if_neg c0]
      by_cases c1 : j = 1
      · rw [if_pos c1, if_pos c1]
      · rw [if_neg c1, if_neg c1, if_pos (by omega)]
  have e0 := e 0 (by omega)
  have e1 := e 1 (by omega)
  have e2 := e 2 (by omega)
  simp only [nb]
  simp at e0 e1 e2
  simp only [Nat.add_zero, e0, e1, e2]
  omega
theorem c_byteN {g : Nat → Nat} {k : Nat} {z : Int} (hr : Rw M w g) (hk : k < 129) (hz : z = (k : Nat)) (hQ : Q (.returned (some (.int (I ((g k % 256 : Nat) : Int))))) M) : Wp d 36 0 [some (.ref w), some (.int (I z))] [] M Q := by
  subst hz
  refine c_byteOf hr.1 (by omega) (by omega) (by omega) (by rw [Int.toNat_natCast]; exact hr.2 k hk) ?_
  have : ((g k : Nat) : Int) % 256 = ((g k % 256 : Nat) : Int) := by omega
  rw [this]; exact hQ
theorem c_numN {g : Nat → Nat} {k : Nat} {z : Int} (hd : 1 ≤ d) (hr : Rw M w g) (hk : k + 3 ≤ 129) (hz : z = (k : Nat)) (hQ : Q (.returned (some (.int (I (nb (fun i => g i % 256) k 3 : Nat))))) M) : Wp d 35 0 [some (.ref w), some (.int (I z)), some (.int (I 3)), none, none] [] M Q := by
  subst hz
  exact c_numberOf (m := 3) (n := 129) hd hr.1 hk (by omega) (by omega) (fun i => Nat.mod_lt _ (by omega)) (fun i hi => by rw [hr.2 _ (by omega)]; exact (bB_n _).symm) hQ
set_option maxHeartbeats 8000000 in
theorem c_takeL (hd : 3 ≤ d) (h : LfIs M q [] py) (hr : Rw M w (lrw ks py)) (hu : us py ks ≤ 120) (hks : ∀ x ∈ ks, x < 1000000) (hp : ∀ k ∈ ks, (py k).length ≤ 40) (hQ : ∀ M', LfFr q M M' → LfIs M' q ks py → Q (.returned none) M') : Wp d 135 0 [some (.ref q), some (.ref w), none, none, none, none] [] M Q := by
  have hul := hu
  unfold us at hul
  have kw := hr.1
  have e1 : mA M w 1 = bB ((ks.length : Nat) : Int) := by rw [hr.2 1 (by omega)]; rfl
  simp (disch := first | (simp only [dd, dr]; done) | omega) only [W_135, I_lt, I_le, I_inj, inB_I, tc_I, Int.toNat_natCast, fkt, rf1, rf0, cq, Nat.reduceAdd, Nat.reduceEqDiff, Int.reduceToNat, eq_self, true_and, and_true, true_or, or_true, bI_0, bI_1, mm, rAm, mF_sF, mR_sR, false_and, and_false, if_false, if_true, false_or, or_false, not_true_eq_false, not_false_eq_true, and_self]
  refine cr_36 (by omega) (c_byteN (k := 1) hr (by omega) rfl ?_)
  have el1 : lrw ks py 1 % 256 = ks.length := by show ks.length % 256 = ks.length; omega
  rw [el1]
  simp (disch := first | (simp only [dd, dr]; done) | omega) only [W_135, I_lt, I_le, I_inj, inB_I, tc_I, Int.toNat_natCast, fkt, rf1, rf0, cq, Nat.reduceAdd, Nat.reduceEqDiff, Int.reduceToNat, eq_self, true_and, and_true, true_or, or_true, bI_0, bI_1, mm, rAm, mF_sF, mR_sR, false_and, and_false, if_false, if_true, false_or, or_false, not_true_eq_false, not_false_eq_true, and_self]
  suffices H : ∀ n' (k : Nat) (M1 : Mem) (v5 : Option Value), lo v5 = false → k + n' = ks.length → LfFr q M M1 → LfIs M1 q (ks.take k) py → Wp d 135 15 [some (.ref q), some (.ref w), some (.int (I (ks.length : Nat))), some (.int (I ((2 + 4 * ks.length + ((ks.take k).flatMap py).length : Nat) : Int))), some (.int (I (k : Nat))), v5] [] M1 Q by
    have := H ks.length 0 M none rfl (by omega) (LfFr.refl q M) (by rw [List.take_zero]; exact h)
    rw [List.take_zero, List.flatMap_nil, List.length_nil] at this
    rw [show (2 + 4 * (ks.length : Int)) = ((2 + 4 * ks.length + 0 : Nat) : Int) by omega]
    exact this
  intro n'
  induction n' with
  | zero =>
    intro k M1 v5 hv5 hk F1 L1
    simp (disch := first | (simp only [dd, dr]; done) | omega) only [w_135_15, W_135, I_lt, I_le, I_inj, inB_I, tc_I, Int.toNat_natCast, fkt, rf1, rf0, cq, Nat.reduceAdd, Nat.reduceEqDiff, Int.reduceToNat, eq_self, true_and, and_true, true_or, or_true, bI_0, bI_1, mm, rAm, mF_sF, mR_sR, false_and, and_false, if_false, if_true, false_or, or_false, not_true_eq_false, not_false_eq_true, and_self]
    refine ⟨fun _ => ?_, (fun h => by first | exact False.elim h | exact absurd trivial h | (exfalso; omega) | exact absurd rfl h | cases h)⟩
    simp (disch := first | (simp only [dd, dr]; done) | omega) only [W_135, I_lt, I_le, I_inj, inB_I, tc_I, Int.toNat_natCast, fkt, rf1, rf0, cq, Nat.reduceAdd, Nat.reduceEqDiff, Int.reduceToNat, eq_self, true_and, and_true, true_or, or_true, bI_0, bI_1, mm, rAm, mF_sF, mR_sR, false_and, and_false, if_false, if_true, false_or, or_false, not_true_eq_false, not_false_eq_true, and_self]
    rw [List.take_of_length_le (by omega)] at L1
    exact hQ M1 F1 L1
  | succ n' ih =>
    intro k M1 v5 hv5 hk F1 L1
    have hkk : ks[k]? = some ks[k] := List.getElem?_eq_getElem (by omega)
    have hkm : ks[k] ∈ ks := List.getElem_mem _
    have hr1 := hr.fr h.1 F1
    have kq1 := L1.1.1
    have hg : ks.getD k 0 = ks[k] := by rw [List.getD_eq_getElem?_getD, hkk]; rfl
    have hszk := hp _ hkm
    have hkey := hks _ hkm
    have esz : lrw ks py (5 + 4 * k) % 256 = (py ks[k]).length := by
      unfold lrw
      rw [if_neg (by omega), if_neg (by omega), if_neg (by omega), if_pos (by omega), if_neg (by omega), if_neg (by omega), if_neg (by omega), show (5 + 4 * k - 2) / 4 = k by omega, hg]
      omega
    have hflat : ks.flatMap py = (ks.take k).flatMap py ++ (py ks[k] ++ (ks.drop (k + 1)).flatMap py) := by
      conv => lhs; rw [← List.take_append_drop k ks, List.drop_eq_getElem_cons (show k < ks.length by omega)]
      rw [List.flatMap_append, List.flatMap_cons]
    have hfl : (ks.flatMap py).length = ((ks.take k).flatMap py).length + ((py ks[k]).length + ((ks.drop (k + 1)).flatMap py).length) := by rw [hflat]; simp only [List.length_append]
    simp (disch := first | (simp only [dd, dr]; done) | omega) only [w_135_15, W_135, I_lt, I_le, I_inj, inB_I, tc_I, Int.toNat_natCast, fkt, rf1, rf0, cq, Nat.reduceAdd, Nat.reduceEqDiff, Int.reduceToNat, eq_self, true_and, and_true, true_or, or_true, bI_0, bI_1, mm, rAm, mF_sF, mR_sR, false_and, and_false, if_false, if_true, false_or, or_false, not_true_eq_false, not_false_eq_true, and_self]
    refine ⟨(fun h => by first | exact False.elim h | exact absurd trivial h | (exfalso; omega) | exact absurd rfl h | cases h), fun _ => ?_⟩
    simp (disch := first | (simp only [dd, dr]; done) | omega) only [W_135, I_lt, I_le, I_inj, inB_I, tc_I, Int.toNat_natCast, fkt, rf1, rf0, cq, Nat.reduceAdd, Nat.reduceEqDiff, Int.reduceToNat, eq_self, true_and, and_true, true_or, or_true, bI_0, bI_1, mm, rAm, mF_sF, mR_sR, false_and, and_false, if_false, if_true, false_or, or_false, not_true_eq_false, not_false_eq_true, and_self]
    refine cr_36 (by omega) (c_byteN (k := 5 + 4 * k) hr1 (by omega) (by omega) ?_)
    rw [esz]
    simp (disch := first | (simp only [dd, dr]; done) | omega) only [W_135, I_lt, I_le, I_inj, inB_I, tc_I, Int.toNat_natCast, fkt, rf1, rf0, cq, Nat.reduceAdd, Nat.reduceEqDiff, Int.reduceToNat, eq_self, true_and, and_true, true_or, or_true, bI_0, bI_1, mm, rAm, mF_sF, mR_sR, false_and, and_false, if_false, if_true, false_or, or_false, not_true_eq_false, not_false_eq_true, and_self]
    refine cr_35 (by omega) (c_numN (k := 2 + 4 * k) (by omega) hr1 (by omega) (by omega) ?_)
    rw [lrw_key hkk (by omega) (by omega)]
    simp (disch := first | (simp only [dd, dr]; done) | omega) only [W_135, kq1, I_lt, I_le, I_inj, inB_I, tc_I, Int.toNat_natCast, fkt, rf1, rf0, cq, Nat.reduceAdd, Nat.reduceEqDiff, Int.reduceToNat, eq_self, true_and, and_true, true_or, or_true, bI_0, bI_1, mm, rAm, mF_sF, mR_sR, false_and, and_false, if_false, if_true, false_or, or_false, not_true_eq_false, not_false_eq_true, and_self]
    have L1len : (ks.take k).length = k := by rw [List.length_take]; omega
    refine cr_127 (by omega) (l_put (py' := py) (n := 129) L1 (by omega) (by omega) (by omega) (by omega) (fun _ _ => rfl) hr1.1 (by omega) (by omega) (by intro e; have h1 := hr1.1; rw [e, L1.1.2.2.2.2.2.2] at h1; cases h1) (fun i v hv => ?_) (fun M2 F2 L2 => ?_))
    · have hi := (List.getElem?_eq_some_iff.mp hv).1
      rw [hr1.2 _ (by omega)]
      have : lrw ks py (2 + 4 * ks.length + ((ks.take k).flatMap py).length + i) = v := by
        unfold lrw
        rw [if_neg (by omega), if_neg (by omega), if_neg (by omega), if_neg (by omega), show 2 + 4 * ks.length + ((ks.take k).flatMap py).length + i - (2 + 4 * ks.length) = ((ks.take k).flatMap py).length + i by omega, List.getD_eq_getElem?_getD, hflat, List.getElem?_append_right (by omega), Nat.add_sub_cancel_left, List.getElem?_append_left hi, hv]
        rfl
      rw [this]
    · simp (disch := first | (simp only [dd, dr]; done) | omega) only [W_135, I_lt, I_le, I_inj, inB_I, tc_I, Int.toNat_natCast, fkt, rf1, rf0, cq, Nat.reduceAdd, Nat.reduceEqDiff, Int.reduceToNat, eq_self, true_and, and_true, true_or, or_true, bI_0, bI_1, mm, rAm, mF_sF, mR_sR, false_and, and_false, if_false, if_true, false_or, or_false, not_true_eq_false, not_false_eq_true, and_self]
      have e1 : (ks.take k).take k ++ ks[k] :: (ks.take k).drop k = ks.take (k + 1) := by
        rw [List.take_of_length_le (by omega), List.drop_eq_nil_of_le (by omega), List.take_succ_eq_append_getElem (by omega)]
      rw [e1] at L2
      have := ih (k + 1) M2 (some (.int (I ((py ks[k]).length : Nat)))) rfl (by omega) (F1.trans F2) L2
      have e2 : ((ks.take (k + 1)).flatMap py).length = ((ks.take k).flatMap py).length + (py ks[k]).length := by
        rw [List.take_succ_eq_append_getElem (by omega), List.flatMap_append, List.length_append]; simp
      rw [e2] at this
      rw [show (((2 + 4 * ks.length + ((ks.take k).flatMap py).length : Nat) : Int) + ((py ks[k]).length : Int)) = ((2 + 4 * ks.length + (((ks.take k).flatMap py).length + (py ks[k]).length) : Nat) : Int) by omega, show ((k : Int) + 1) = ((k + 1 : Nat) : Int) by omega]
      exact this
end RL
