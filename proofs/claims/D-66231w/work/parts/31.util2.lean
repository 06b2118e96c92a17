/-! ===== CONTRACTS: more of rows, numbers, rooms ===== -/
/-- a function changed at a place -/
def fu {α : Type} (f : Nat → α) (b : Nat) (v : α) : Nat → α := fun x => if x = b then v else f x
theorem fu_s {α : Type} (f : Nat → α) (b : Nat) (v : α) : fu f b v b = v := if_pos rfl
theorem fu_n {α : Type} (f : Nat → α) {b x : Nat} (v : α) (h : x ≠ b) : fu f b v x = f x := if_neg h
theorem sA_to_rA (M : Mem) (a i : Nat) (v : Int32) : sA M a i v = rA M a (fun q => if q = i then v else mA M a q) := by
  have h := sA_rA M a i v (fun q => mA M a q)
  rw [rA_id] at h
  exact h
theorem c_clear {d : Nat} {M : Mem} {Q : Outcome → Mem → Prop} {a : Nat} {k : Int} (ha : kX M a = (1, 129)) (hQ : Q (.returned none) (rA M a (fun i => if i < 128 then I 0 else if i = 128 then bB k else mA M a i))) : Wp d 26 0 [some (.ref a), some (.int (I k)), none] [] M Q := by
  simp (disch := first | (simp only [dd, dr]; done) | omega) only [W_26, I_lt, I_le, I_inj, inB_I, tc_I, Int.toNat_natCast, fkt, rf1, rf0, cq, Nat.reduceAdd, Nat.reduceEqDiff, Int.reduceToNat, eq_self, true_and, and_true, true_or, or_true, bI_0, bI_1, mm, rAm, mF_sF, mR_sR, false_and, and_false, if_false, if_true, false_or, or_false, not_true_eq_false, not_false_eq_true, and_self]
  suffices H : ∀ n (i : Nat), i + n = 128 → Wp d 26 2 [some (.ref a), some (.int (I k)), some (.int (I i))] [] (rA M a (fun q => if q < i then I 0 else mA M a q)) Q by
    have := H 128 0 rfl
    simp only [Nat.not_lt_zero, if_false, rA_id] at this
    exact this
  intro n
  induction n with
  | zero =>
    intro i hi
    obtain rfl : i = 128 := by omega
    simp (disch := first | (simp only [dd, dr]; done) | omega) only [w_26_2, W_26, I_lt, I_le, I_inj, inB_I, tc_I, Int.toNat_natCast, fkt, rf1, rf0, cq, Nat.reduceAdd, Nat.reduceEqDiff, Int.reduceToNat, eq_self, true_and, and_true, true_or, or_true, bI_0, bI_1, mm, rAm, mF_sF, mR_sR, false_and, and_false, if_false, if_true, false_or, or_false, not_true_eq_false, not_false_eq_true, and_self]
    refine ⟨fun _ => ?_, fun h => absurd h (by omega)⟩
    simp (disch := first | (simp only [dd, dr]; done) | omega) only [W_26, ha, bB_def, nrw_b, sA_rA, I_lt, I_le, I_inj, inB_I, tc_I, Int.toNat_natCast, fkt, rf1, rf0, cq, Nat.reduceAdd, Nat.reduceEqDiff, Int.reduceToNat, eq_self, true_and, and_true, true_or, or_true, bI_0, bI_1, mm, rAm, mF_sF, mR_sR, false_and, and_false, if_false, if_true, false_or, or_false, not_true_eq_false, not_false_eq_true, and_self]
    rw [rA_congr (g' := fun i => if i < 128 then I 0 else if i = 128 then bB k else mA M a i)]
    · exact hQ
    · intro q
      by_cases h1 : q = 128
      · subst h1; rfl
      · by_cases h2 : q < 128
        · rw [if_neg h1, if_pos h2, if_pos h2]
        · rw [if_neg h1, if_neg h2, if_neg h2, if_neg h1]
  | succ n ih =>
    intro i hi
    simp (disch := first | (simp only [dd, dr]; done) | omega) only [w_26_2, W_26, I_lt, I_le, I_inj, inB_I, tc_I, Int.toNat_natCast, fkt, rf1, rf0, cq, Nat.reduceAdd, Nat.reduceEqDiff, Int.reduceToNat, eq_self, true_and, and_true, true_or, or_true, bI_0, bI_1, mm, rAm, mF_sF, mR_sR, false_and, and_false, if_false, if_true, false_or, or_false, not_true_eq_false, not_false_eq_true, and_self]
    refine ⟨fun h => absurd h (by omega), fun _ => ?_⟩
    have e0 : nrw 1 (I 0) = I 0 := by decide
    simp (disch := first | (simp only [dd, dr]; done) | omega) only [W_26, ha, e0, sA_rA, I_lt, I_le, I_inj, inB_I, tc_I, Int.toNat_natCast, fkt, rf1, rf0, cq, Nat.reduceAdd, Nat.reduceEqDiff, Int.reduceToNat, eq_self, true_and, and_true, true_or, or_true, bI_0, bI_1, mm, rAm, mF_sF, mR_sR, false_and, and_false, if_false, if_true, false_or, or_false, not_true_eq_false, not_false_eq_true, and_self]
    have := ih (i + 1) (by omega)
    rw [rA_congr (g' := fun q => if q < i + 1 then I 0 else mA M a q)]
    · exact this
    · intro q
      by_cases h1 : q = i
      · subst h1; rw [if_pos rfl, if_pos (by omega)]
      · rw [if_neg h1]
        by_cases h2 : q < i
        · rw [if_pos h2, if_pos (by omega)]
        · rw [if_neg h2, if_neg (by omega)]
/-- the first k bytes of two rows are alike -/
def alk (M : Mem) (a b : Nat) : Nat → Bool
  | 0 => true
  | k + 1 => alk M a b k && decide (mA M a k = mA M b k)
theorem alk_iff (M : Mem) (a b : Nat) : ∀ k, alk M a b k = true ↔ ∀ i, i < k → mA M a i = mA M b i
  | 0 => ⟨fun _ i hi => absurd hi (Nat.not_lt_zero _), fun _ => rfl⟩
  | k + 1 => by
    rw [alk, Bool.and_eq_true, alk_iff M a b k, decide_eq_true_eq]
    exact ⟨fun h i hi => by by_cases e : i = k; (rw [e]; exact h.2); exact h.1 i (by omega), fun h => ⟨fun i hi => h i (by omega), h k (by omega)⟩⟩
theorem c_same {d : Nat} {M : Mem} {Q : Outcome → Mem → Prop} {a b : Nat} (ha : kX M a = (1, 129)) (hb : kX M b = (1, 129)) (hQ : Q (.returned (some (.int (I (bI (alk M a b 129)))))) M) : Wp d 80 0 [some (.ref a), some (.ref b), none] [] M Q := by
  simp (disch := first | (simp only [dd, dr]; done) | omega) only [W_80, I_lt, I_le, I_inj, inB_I, tc_I, Int.toNat_natCast, fkt, rf1, rf0, cq, Nat.reduceAdd, Nat.reduceEqDiff, Int.reduceToNat, eq_self, true_and, and_true, true_or, or_true, bI_0, bI_1, mm, rAm, mF_sF, mR_sR, false_and, and_false, if_false, if_true, false_or, or_false, not_true_eq_false, not_false_eq_true, and_self]
  suffices H : ∀ n (i : Nat), i + n = 129 → (∀ j, j < i → mA M a j = mA M b j) → Wp d 80 2 [some (.ref a), some (.ref b), some (.int (I i))] [] M Q from H 129 0 rfl (fun j hj => absurd hj (Nat.not_lt_zero _))
  intro n
  induction n with
  | zero =>
    intro i hi hj
    obtain rfl : i = 129 := by omega
    simp (disch := first | (simp only [dd, dr]; done) | omega) only [w_80_2, W_80, I_lt, I_le, I_inj, inB_I, tc_I, Int.toNat_natCast, fkt, rf1, rf0, cq, Nat.reduceAdd, Nat.reduceEqDiff, Int.reduceToNat, eq_self, true_and, and_true, true_or, or_true, bI_0, bI_1, mm, rAm, mF_sF, mR_sR, false_and, and_false, if_false, if_true, false_or, or_false, not_true_eq_false, not_false_eq_true, and_self]
    refine ⟨fun _ => ?_, fun h => absurd h (by omega)⟩
    simp (disch := first | (simp only [dd, dr]; done) | omega) only [W_80, I_lt, I_le, I_inj, inB_I, tc_I, Int.toNat_natCast, fkt, rf1, rf0, cq, Nat.reduceAdd, Nat.reduceEqDiff, Int.reduceToNat, eq_self, true_and, and_true, true_or, or_true, bI_0, bI_1, mm, rAm, mF_sF, mR_sR, false_and, and_false, if_false, if_true, false_or, or_false, not_true_eq_false, not_false_eq_true, and_self]
    refine ⟨fun h => absurd h (by omega), fun _ => ?_⟩
    simp (disch := first | (simp only [dd, dr]; done) | omega) only [W_80, I_lt, I_le, I_inj, inB_I, tc_I, Int.toNat_natCast, fkt, rf1, rf0, cq, Nat.reduceAdd, Nat.reduceEqDiff, Int.reduceToNat, eq_self, true_and, and_true, true_or, or_true, bI_0, bI_1, mm, rAm, mF_sF, mR_sR, false_and, and_false, if_false, if_true, false_or, or_false, not_true_eq_false, not_false_eq_true, and_self]
    rw [(alk_iff M a b 129).mpr hj] at hQ
    exact hQ
  | succ n ih =>
    intro i hi hj
    simp (disch := first | (simp only [dd, dr]; done) | omega) only [w_80_2, W_80, I_lt, I_le, I_inj, inB_I, tc_I, Int.toNat_natCast, fkt, rf1, rf0, cq, Nat.reduceAdd, Nat.reduceEqDiff, Int.reduceToNat, eq_self, true_and, and_true, true_or, or_true, bI_0, bI_1, mm, rAm, mF_sF, mR_sR, false_and, and_false, if_false, if_true, false_or, or_false, not_true_eq_false, not_false_eq_true, and_self]
    refine ⟨fun h => absurd h (by omega), fun _ => ?_⟩
    simp (disch := first | (simp only [dd, dr]; done) | omega) only [W_80, ha, hb, I_lt, I_le, I_inj, inB_I, tc_I, Int.toNat_natCast, fkt, rf1, rf0, cq, Nat.reduceAdd, Nat.reduceEqDiff, Int.reduceToNat, eq_self, true_and, and_true, true_or, or_true, bI_0, bI_1, mm, rAm, mF_sF, mR_sR, false_and, and_false, if_false, if_true, false_or, or_false, not_true_eq_false, not_false_eq_true, and_self]
    refine ⟨fun hne => ?_, fun he => ?_⟩
    · simp (disch := first | (simp only [dd, dr]; done) | omega) only [W_80, I_lt, I_le, I_inj, inB_I, tc_I, Int.toNat_natCast, fkt, rf1, rf0, cq, Nat.reduceAdd, Nat.reduceEqDiff, Int.reduceToNat, eq_self, true_and, and_true, true_or, or_true, bI_0, bI_1, mm, rAm, mF_sF, mR_sR, false_and, and_false, if_false, if_true, false_or, or_false, not_true_eq_false, not_false_eq_true, and_self]
      refine ⟨fun _ => ?_, fun h => absurd h (by omega)⟩
      simp (disch := first | (simp only [dd, dr]; done) | omega) only [W_80, I_lt, I_le, I_inj, inB_I, tc_I, Int.toNat_natCast, fkt, rf1, rf0, cq, Nat.reduceAdd, Nat.reduceEqDiff, Int.reduceToNat, eq_self, true_and, and_true, true_or, or_true, bI_0, bI_1, mm, rAm, mF_sF, mR_sR, false_and, and_false, if_false, if_true, false_or, or_false, not_true_eq_false, not_false_eq_true, and_self]
      have : alk M a b 129 = false := by
        cases hh : alk M a b 129 with
        | false => rfl
        | true => exact absurd ((alk_iff M a b 129).mp hh i (by omega)) hne
      rw [this] at hQ
      exact hQ
    · simp (disch := first | (simp only [dd, dr]; done) | omega) only [W_80, I_lt, I_le, I_inj, inB_I, tc_I, Int.toNat_natCast, fkt, rf1, rf0, cq, Nat.reduceAdd, Nat.reduceEqDiff, Int.reduceToNat, eq_self, true_and, and_true, true_or, or_true, bI_0, bI_1, mm, rAm, mF_sF, mR_sR, false_and, and_false, if_false, if_true, false_or, or_false, not_true_eq_false, not_false_eq_true, and_self]
      refine ih (i + 1) (by omega) (fun j h => ?_)
      by_cases e : j = i
      · rw [e]; exact Decidable.not_not.mp he
      · exact hj j (by omega)
theorem I_bvn (n : Nat) : (I (n : Int)).toBitVec = BitVec.ofNat 32 n := by
  apply BitVec.eq_of_toNat_eq
  rw [I_bv, BitVec.toNat_ofNat]
  omega
theorem sh8 {v u : Nat} (hv : v < 8388608) (hu : u < 256) : (I (v : Nat) <<< (I 8 &&& 31)) ||| I (u : Nat) = I ((v * 256 + u : Nat) : Int) := by
  apply Int32.toBitVec_inj.mp
  rw [Int32.toBitVec_or, Int32.toBitVec_shiftLeft, I_bvn, I_bvn, I_bvn]
  have e : ((I 8 &&& 31).toBitVec.smod 32) = 8#32 := by decide
  apply BitVec.eq_of_toNat_eq
  rw [e, BitVec.toNat_or]
  have e2 : (BitVec.ofNat 32 v <<< 8#32).toNat = v * 256 := by
    rw [show BitVec.ofNat 32 v <<< 8#32 = BitVec.ofNat 32 v <<< (8 : Nat) from rfl, BitVec.toNat_shiftLeft, BitVec.toNat_ofNat, Nat.shiftLeft_eq]
    omega
  rw [e2, BitVec.toNat_ofNat, BitVec.toNat_ofNat, Nat.mod_eq_of_lt (by omega : u < 2 ^ 32), Nat.mod_eq_of_lt (by omega : v * 256 + u < 2 ^ 32)]
  have := Nat.shiftLeft_add_eq_or_of_lt (i := 8) (b := u) (by omega) v
  rw [Nat.shiftLeft_eq] at this
  exact this.symm
theorem shr8 {v e : Nat} (hv : v < 2147483648) (he : e ≤ 2) : I (v : Nat) >>> (I (8 * (e : Int)) &&& 31) = I ((v / 256 ^ e : Nat) : Int) := by
  apply Int32.toInt_inj.mp
  rw [I_toInt (Int.le_trans (by decide) (Int.natCast_nonneg _)) (by have := Nat.div_le_self v (256 ^ e); omega)]
  have key : ∀ s : Int32, ∀ k : Nat, (s &&& 31).toBitVec.smod 32 = BitVec.ofNat 32 k → k < 32 → (I (v : Nat) >>> (s &&& 31)).toInt = ((v / 2 ^ k : Nat) : Int) := by
    intro s k hk hk2
    rw [← Int32.toInt_toBitVec, Int32.toBitVec_shiftRight, hk, BitVec.sshiftRight_eq', BitVec.toNat_ofNat, Nat.mod_eq_of_lt (by omega), BitVec.toInt_sshiftRight, Int32.toInt_toBitVec, I_toInt (by omega) (by omega), Int.shiftRight_eq_div_pow]
    norm_cast
  have h3 : e = 0 ∨ e = 1 ∨ e = 2 := by omega
  rcases h3 with rfl | rfl | rfl
  · exact key (I (8 * ((0 : Nat) : Int))) 0 (by decide) (by omega)
  · exact key (I (8 * ((1 : Nat) : Int))) 8 (by decide) (by omega)
  · exact key (I (8 * ((2 : Nat) : Int))) 16 (by decide) (by omega)
/-- a number of some bytes, the highest first -/
def nb (u : Nat → Nat) (k : Nat) : Nat → Nat
  | 0 => 0
  | m + 1 => nb u k m * 256 + u (k + m)
theorem nb_lt {u : Nat → Nat} {k : Nat} (hu : ∀ i, u i < 256) : ∀ m, nb u k m < 256 ^ m
  | 0 => Nat.one_pos
  | m + 1 => by
    have h1 := nb_lt (k := k) hu m
    have h2 := hu (k + m)
    rw [nb, Nat.pow_succ]
    omega
theorem c_numberOf {d : Nat} {M : Mem} {Q : Outcome → Mem → Prop} {a k m n : Nat} {u : Nat → Nat} (hd : 1 ≤ d) (ha : kX M a = (1, n)) (hn : k + m ≤ n) (hn2 : n < 100000) (hm : m ≤ 3) (hu : ∀ i, u i < 256) (hz : ∀ i, i < m → mA M a (k + i) = bB (u (k + i) : Nat)) (hQ : Q (.returned (some (.int (I (nb u k m : Nat))))) M) : Wp d 35 0 [some (.ref a), some (.int (I (k : Nat))), some (.int (I (m : Nat))), none, none] [] M Q := by
  simp (disch := first | (simp only [dd, dr]; done) | omega) only [W_35, I_lt, I_le, I_inj, inB_I, tc_I, Int.toNat_natCast, fkt, rf1, rf0, cq, Nat.reduceAdd, Nat.reduceEqDiff, Int.reduceToNat, eq_self, true_and, and_true, true_or, or_true, bI_0, bI_1, mm, rAm, mF_sF, mR_sR, false_and, and_false, if_false, if_true, false_or, or_false, not_true_eq_false, not_false_eq_true, and_self]
  suffices H : ∀ n' (i : Nat), i + n' = m → Wp d 35 5 [some (.ref a), some (.int (I (k : Nat))), some (.int (I (m : Nat))), some (.int (I (nb u k i : Nat))), some (.int (I (i : Nat)))] [] M Q from H m 0 (by omega)
  intro n'
  induction n' with
  | zero =>
    intro i hi
    obtain rfl : i = m := by omega
    simp (disch := first | (simp only [dd, dr]; done) | omega) only [w_35_5, W_35, I_lt, I_le, I_inj, inB_I, tc_I, Int.toNat_natCast, fkt, rf1, rf0, cq, Nat.reduceAdd, Nat.reduceEqDiff, Int.reduceToNat, eq_self, true_and, and_true, true_or, or_true, bI_0, bI_1, mm, rAm, mF_sF, mR_sR, false_and, and_false, if_false, if_true, false_or, or_false, not_true_eq_false, not_false_eq_true, and_self]
    refine ⟨fun _ => ?_, fun h => absurd h (by omega)⟩
    simp (disch := first | (simp only [dd, dr]; done) | omega) only [W_35, I_lt, I_le, I_inj, inB_I, tc_I, Int.toNat_natCast, fkt, rf1, rf0, cq, Nat.reduceAdd, Nat.reduceEqDiff, Int.reduceToNat, eq_self, true_and, and_true, true_or, or_true, bI_0, bI_1, mm, rAm, mF_sF, mR_sR, false_and, and_false, if_false, if_true, false_or, or_false, not_true_eq_false, not_false_eq_true, and_self]
    exact hQ
  | succ n' ih =>
    intro i hi
    simp (disch := first | (simp only [dd, dr]; done) | omega) only [w_35_5, W_35, I_lt, I_le, I_inj, inB_I, tc_I, Int.toNat_natCast, fkt, rf1, rf0, cq, Nat.reduceAdd, Nat.reduceEqDiff, Int.reduceToNat, eq_self, true_and, and_true, true_or, or_true, bI_0, bI_1, mm, rAm, mF_sF, mR_sR, false_and, and_false, if_false, if_true, false_or, or_false, not_true_eq_false, not_false_eq_true, and_self]
    refine ⟨fun h => absurd h (by omega), fun _ => ?_⟩
    simp (disch := first | (simp only [dd, dr]; done) | omega) only [W_35, I_lt, I_le, I_inj, inB_I, tc_I, Int.toNat_natCast, fkt, rf1, rf0, cq, Nat.reduceAdd, Nat.reduceEqDiff, Int.reduceToNat, eq_self, true_and, and_true, true_or, or_true, bI_0, bI_1, mm, rAm, mF_sF, mR_sR, false_and, and_false, if_false, if_true, false_or, or_false, not_true_eq_false, not_false_eq_true, and_self]
    have h1 := hz i (by omega)
    refine cr_36 (by omega) (c_byteOf (z := u (k + i)) ha (by omega) (by omega) (by omega) (by rw [show ((k : Int) + (i : Int)).toNat = k + i by omega]; exact h1) ?_)
    have h2 := hu (k + i)
    have h3 := nb_lt (k := k) hu i
    have h4 : nb u k i < 8388608 := Nat.lt_of_lt_of_le h3 (Nat.le_trans (Nat.pow_le_pow_right (by omega) (by omega : i ≤ 2)) (by decide))
    rw [show ((u (k + i) : Nat) : Int) % 256 = ((u (k + i) : Nat) : Int) by omega]
    simp (disch := first | (simp only [dd, dr]; done) | omega) only [W_35, sh8 h4 h2, I_lt, I_le, I_inj, inB_I, tc_I, Int.toNat_natCast, fkt, rf1, rf0, cq, Nat.reduceAdd, Nat.reduceEqDiff, Int.reduceToNat, eq_self, true_and, and_true, true_or, or_true, bI_0, bI_1, mm, rAm, mF_sF, mR_sR, false_and, and_false, if_false, if_true, false_or, or_false, not_true_eq_false, not_false_eq_true, and_self]
    exact ih (i + 1) (by omega)
theorem c_putNumber {d : Nat} {M : Mem} {Q : Outcome → Mem → Prop} {a k m n v : Nat} (ha : kX M a = (1, n)) (hn : k + m ≤ n) (hn2 : n < 100000) (hm : m ≤ 3) (hv : v < 2147483648)
    (hQ : Q (.returned none) (rA M a (fun j => if k ≤ j ∧ j < k + m then bB ((v / 256 ^ (m - 1 - (j - k)) : Nat) : Int) else mA M a j))) : Wp d 23 0 [some (.ref a), some (.int (I (k : Nat))), some (.int (I (m : Nat))), some (.int (I (v : Nat))), none] [] M Q := by
  simp (disch := first | (simp only [dd, dr]; done) | omega) only [W_23, I_lt, I_le, I_inj, inB_I, tc_I, Int.toNat_natCast, fkt, rf1, rf0, cq, Nat.reduceAdd, Nat.reduceEqDiff, Int.reduceToNat, eq_self, true_and, and_true, true_or, or_true, bI_0, bI_1, mm, rAm, mF_sF, mR_sR, false_and, and_false, if_false, if_true, false_or, or_false, not_true_eq_false, not_false_eq_true, and_self]
  suffices H : ∀ n' (i : Nat) (G : Nat → Int32), i + n' = m → (∀ j, G j = if k ≤ j ∧ j < k + i then bB ((v / 256 ^ (m - 1 - (j - k)) : Nat) : Int) else mA M a j) → Wp d 23 3 [some (.ref a), some (.int (I (k : Nat))), some (.int (I (m : Nat))), some (.int (I (v : Nat))), some (.int (I (i : Nat)))] [] (rA M a G) Q by
    have := H m 0 (fun q => mA M a q) (by omega) (fun j => by rw [if_neg (by omega)])
    rw [rA_id] at this
    exact this
  intro n'
  induction n' with
  | zero =>
    intro i G hi hG
    obtain rfl : i = m := by omega
    simp (disch := first | (simp only [dd, dr]; done) | omega) only [w_23_3, W_23, I_lt, I_le, I_inj, inB_I, tc_I, Int.toNat_natCast, fkt, rf1, rf0, cq, Nat.reduceAdd, Nat.reduceEqDiff, Int.reduceToNat, eq_self, true_and, and_true, true_or, or_true, bI_0, bI_1, mm, rAm, mF_sF, mR_sR, false_and, and_false, if_false, if_true, false_or, or_false, not_true_eq_false, not_false_eq_true, and_self]
    refine ⟨fun _ => ?_, fun h => absurd h (by omega)⟩
    simp (disch := first | (simp only [dd, dr]; done) | omega) only [W_23, I_lt, I_le, I_inj, inB_I, tc_I, Int.toNat_natCast, fkt, rf1, rf0, cq, Nat.reduceAdd, Nat.reduceEqDiff, Int.reduceToNat, eq_self, true_and, and_true, true_or, or_true, bI_0, bI_1, mm, rAm, mF_sF, mR_sR, false_and, and_false, if_false, if_true, false_or, or_false, not_true_eq_false, not_false_eq_true, and_self]
    rw [rA_congr (g' := fun j => if k ≤ j ∧ j < k + i then bB ((v / 256 ^ (i - 1 - (j - k)) : Nat) : Int) else mA M a j)]
    · exact hQ
    · exact hG
  | succ n' ih =>
    intro i G hi hG
    simp (disch := first | (simp only [dd, dr]; done) | omega) only [w_23_3, W_23, I_lt, I_le, I_inj, inB_I, tc_I, Int.toNat_natCast, fkt, rf1, rf0, cq, Nat.reduceAdd, Nat.reduceEqDiff, Int.reduceToNat, eq_self, true_and, and_true, true_or, or_true, bI_0, bI_1, mm, rAm, mF_sF, mR_sR, false_and, and_false, if_false, if_true, false_or, or_false, not_true_eq_false, not_false_eq_true, and_self]
    refine ⟨fun h => absurd h (by omega), fun _ => ?_⟩
    have e1 : (8 * ((m : Int) - 1 - (i : Int))) = 8 * ((m - 1 - i : Nat) : Int) := by omega
    simp (disch := first | (simp only [dd, dr]; done) | omega) only [W_23, I_lt, I_le, I_inj, inB_I, tc_I, Int.toNat_natCast, fkt, rf1, rf0, cq, Nat.reduceAdd, Nat.reduceEqDiff, Int.reduceToNat, eq_self, true_and, and_true, true_or, or_true, bI_0, bI_1, mm, rAm, mF_sF, mR_sR, false_and, and_false, if_false, if_true, false_or, or_false, not_true_eq_false, not_false_eq_true, and_self]
    rw [e1]
    simp (disch := first | (simp only [dd, dr]; done) | omega) only [W_23, ha, shr8 hv (show m - 1 - i ≤ 2 by omega), bB_def, nrw_b, sA_rA, I_lt, I_le, I_inj, inB_I, tc_I, Int.toNat_natCast, fkt, rf1, rf0, cq, Nat.reduceAdd, Nat.reduceEqDiff, Int.reduceToNat, eq_self, true_and, and_true, true_or, or_true, bI_0, bI_1, mm, rAm, mF_sF, mR_sR, false_and, and_false, if_false, if_true, false_or, or_false, not_true_eq_false, not_false_eq_true, and_self]
    refine ih (i + 1) _ (by omega) (fun j => ?_)
    by_cases h1 : j = ((k : Int) + (i : Int)).toNat
    · rw [if_pos h1, if_pos (by omega), show j - k = i by omega]
    · rw [if_neg h1, hG]
      by_cases h2 : k ≤ j ∧ j < k + i
      · rw [if_pos h2, if_pos (by omega)]
      · rw [if_neg h2, if_neg (by omega)]
/-! rooms -/
/-- at r there is a room of n blocks; u: which are in use -/
def RmIs (M : Mem) (r ta n : Nat) (u : Nat → Bool) : Prop := kO M r = 2 ∧ mF M 10 r = I (n : Nat) ∧ mR M 11 r = some ta ∧ kX M ta = (2, 96) ∧ n ≤ 96 ∧ ∀ b, b < n → mA M ta b = I (bI (u b))
theorem I_bI_eq (b c : Bool) : (I (bI b) = I (bI c)) = (b = c) := by cases b <;> cases c <;> decide
theorem r_take {d : Nat} {M : Mem} {Q : Outcome → Mem → Prop} {r ta n : Nat} {u : Nat → Bool} (h : RmIs M r ta n u) (hQ1 : ∀ k, k < n → u k = false → (∀ j, j < k → u j = true) → Q (.returned (some (.int (I (k : Nat))))) (sA M ta k (I 1))) (hQ2 : (∀ j, j < n → u j = true) → Q (.threw (mN M)) (nw M (.inl 14) 6)) : Wp d 88 0 [some (.ref r), none] [] M Q := by
  obtain ⟨k0, k1, k2, k3, k4, k5⟩ := h
  simp (disch := first | (simp only [dd, dr]; done) | omega) only [W_88, I_lt, I_le, I_inj, inB_I, tc_I, Int.toNat_natCast, fkt, rf1, rf0, cq, Nat.reduceAdd, Nat.reduceEqDiff, Int.reduceToNat, eq_self, true_and, and_true, true_or, or_true, bI_0, bI_1, mm, rAm, mF_sF, mR_sR, false_and, and_false, if_false, if_true, false_or, or_false, not_true_eq_false, not_false_eq_true, and_self]
  suffices H : ∀ n' (i : Nat), i + n' = n → (∀ j, j < i → u j = true) → Wp d 88 2 [some (.ref r), some (.int (I (i : Nat)))] [] M Q from H n 0 (by omega) (fun j hj => absurd hj (Nat.not_lt_zero _))
  intro n'
  induction n' with
  | zero =>
    intro i hi hj
    obtain rfl : i = n := by omega
    simp (disch := first | (simp only [dd, dr]; done) | omega) only [w_88_2, W_88, k0, k1, I_lt, I_le, I_inj, inB_I, tc_I, Int.toNat_natCast, fkt, rf1, rf0, cq, Nat.reduceAdd, Nat.reduceEqDiff, Int.reduceToNat, eq_self, true_and, and_true, true_or, or_true, bI_0, bI_1, mm, rAm, mF_sF, mR_sR, false_and, and_false, if_false, if_true, false_or, or_false, not_true_eq_false, not_false_eq_true, and_self]
    refine ⟨fun _ => ?_, fun h => absurd h (by omega)⟩
    simp (disch := first | (simp only [dd, dr]; done) | omega) only [W_88, k0, k1, I_lt, I_le, I_inj, inB_I, tc_I, Int.toNat_natCast, fkt, rf1, rf0, cq, Nat.reduceAdd, Nat.reduceEqDiff, Int.reduceToNat, eq_self, true_and, and_true, true_or, or_true, bI_0, bI_1, mm, rAm, mF_sF, mR_sR, false_and, and_false, if_false, if_true, false_or, or_false, not_true_eq_false, not_false_eq_true, and_self]
    refine ⟨fun h => h.elim, fun _ => ?_⟩
    simp (disch := first | (simp only [dd, dr]; done) | omega) only [W_88, I_lt, I_le, I_inj, inB_I, tc_I, Int.toNat_natCast, fkt, rf1, rf0, cq, Nat.reduceAdd, Nat.reduceEqDiff, Int.reduceToNat, eq_self, true_and, and_true, true_or, or_true, bI_0, bI_1, mm, rAm, mF_sF, mR_sR, false_and, and_false, if_false, if_true, false_or, or_false, not_true_eq_false, not_false_eq_true, and_self]
    exact hQ2 hj
  | succ n' ih =>
    intro i hi hj
    have e := k5 i (by omega)
    simp (disch := first | (simp only [dd, dr]; done) | omega) only [w_88_2, W_88, k0, k1, I_lt, I_le, I_inj, inB_I, tc_I, Int.toNat_natCast, fkt, rf1, rf0, cq, Nat.reduceAdd, Nat.reduceEqDiff, Int.reduceToNat, eq_self, true_and, and_true, true_or, or_true, bI_0, bI_1, mm, rAm, mF_sF, mR_sR, false_and, and_false, if_false, if_true, false_or, or_false, not_true_eq_false, not_false_eq_true, and_self]
    refine ⟨fun h => absurd h (by omega), fun _ => ?_⟩
    simp (disch := first | (simp only [dd, dr]; done) | omega) only [W_88, k0, k2, k3, e, I_lt, I_le, I_inj, inB_I, tc_I, Int.toNat_natCast, fkt, rf1, rf0, cq, Nat.reduceAdd, Nat.reduceEqDiff, Int.reduceToNat, eq_self, true_and, and_true, true_or, or_true, bI_0, bI_1, mm, rAm, mF_sF, mR_sR, false_and, and_false, if_false, if_true, false_or, or_false, not_true_eq_false, not_false_eq_true, and_self]
    refine ⟨fun hu => ?_, fun hu => ?_⟩
    · simp (disch := first | (simp only [dd, dr]; done) | omega) only [W_88, k0, k1, I_lt, I_le, I_inj, inB_I, tc_I, Int.toNat_natCast, fkt, rf1, rf0, cq, Nat.reduceAdd, Nat.reduceEqDiff, Int.reduceToNat, eq_self, true_and, and_true, true_or, or_true, bI_0, bI_1, mm, rAm, mF_sF, mR_sR, false_and, and_false, if_false, if_true, false_or, or_false, not_true_eq_false, not_false_eq_true, and_self]
      refine ⟨fun _ => ?_, fun h => absurd h (by omega)⟩
      have e0 : nrw 2 (I 1) = I 1 := by decide
      simp (disch := first | (simp only [dd, dr]; done) | omega) only [W_88, k0, k2, k3, e0, I_lt, I_le, I_inj, inB_I, tc_I, Int.toNat_natCast, fkt, rf1, rf0, cq, Nat.reduceAdd, Nat.reduceEqDiff, Int.reduceToNat, eq_self, true_and, and_true, true_or, or_true, bI_0, bI_1, mm, rAm, mF_sF, mR_sR, false_and, and_false, if_false, if_true, false_or, or_false, not_true_eq_false, not_false_eq_true, and_self]
      exact hQ1 i (by omega) hu hj
    · simp (disch := first | (simp only [dd, dr]; done) | omega) only [W_88, I_lt, I_le, I_inj, inB_I, tc_I, Int.toNat_natCast, fkt, rf1, rf0, cq, Nat.reduceAdd, Nat.reduceEqDiff, Int.reduceToNat, eq_self, true_and, and_true, true_or, or_true, bI_0, bI_1, mm, rAm, mF_sF, mR_sR, false_and, and_false, if_false, if_true, false_or, or_false, not_true_eq_false, not_false_eq_true, and_self]
      refine ih (i + 1) (by omega) (fun j h => ?_)
      by_cases e : j = i
      · rw [e]; cases hh : u i with
        | true => rfl
        | false => exact absurd hh hu
      · exact hj j (by omega)
theorem RmIs.set {M : Mem} {r ta n : Nat} {u : Nat → Bool} (h : RmIs M r ta n u) {b : Nat} (v : Bool) : RmIs (sA M ta b (I (bI v))) r ta n (fu u b v) := by
  obtain ⟨k0, k1, k2, k3, k4, k5⟩ := h
  refine ⟨k0, k1, k2, k3, k4, fun x hx => ?_⟩
  rw [mA_sA]
  by_cases e : x = b
  · rw [if_pos ⟨rfl, e⟩, e, fu_s]
  · rw [if_neg (fun h => e h.2), fu_n u v e]; exact k5 x hx
theorem r_free {d : Nat} {M : Mem} {Q : Outcome → Mem → Prop} {r ta n : Nat} {u : Nat → Bool} (h : RmIs M r ta n u) {b : Nat} (hb : b < 96) (hQ : Q (.returned none) (sA M ta b (I 0))) : Wp d 89 0 [some (.ref r), some (.int (I (b : Nat)))] [] M Q := by
  obtain ⟨k0, k1, k2, k3, k4, k5⟩ := h
  have e0 : nrw 2 (I 0) = I 0 := by decide
  simp (disch := first | (simp only [dd, dr]; done) | omega) only [W_89, k0, k2, k3, e0, I_lt, I_le, I_inj, inB_I, tc_I, Int.toNat_natCast, fkt, rf1, rf0, cq, Nat.reduceAdd, Nat.reduceEqDiff, Int.reduceToNat, eq_self, true_and, and_true, true_or, or_true, bI_0, bI_1, mm, rAm, mF_sF, mR_sR, false_and, and_false, if_false, if_true, false_or, or_false, not_true_eq_false, not_false_eq_true, and_self]
  exact hQ
theorem c_isTaken {d : Nat} {M : Mem} {Q : Outcome → Mem → Prop} {a b : Nat} {v : Int32} (ha : kX M a = (1, 129)) (hb : b < 128) (hv : mA M a (1 + b) = v) (hQ : Q (.returned (some (.int (I (bI (decide (v = I 1))))))) M) : Wp d 91 0 [some (.ref a), some (.int (I (b : Nat)))] [] M Q := by
  have e : mA M a ((1 : Int) + (b : Int)).toNat = v := by rw [show ((1 : Int) + (b : Int)).toNat = 1 + b by omega]; exact hv
  simp (disch := first | (simp only [dd, dr]; done) | omega) only [W_91, ha, e, I_lt, I_le, I_inj, inB_I, tc_I, Int.toNat_natCast, fkt, rf1, rf0, cq, Nat.reduceAdd, Nat.reduceEqDiff, Int.reduceToNat, eq_self, true_and, and_true, true_or, or_true, bI_0, bI_1, mm, rAm, mF_sF, mR_sR, false_and, and_false, if_false, if_true, false_or, or_false, not_true_eq_false, not_false_eq_true, and_self]
  refine ⟨fun hc => ?_, fun hc => ?_⟩
  · simp (disch := first | (simp only [dd, dr]; done) | omega) only [W_91, I_lt, I_le, I_inj, inB_I, tc_I, Int.toNat_natCast, fkt, rf1, rf0, cq, Nat.reduceAdd, Nat.reduceEqDiff, Int.reduceToNat, eq_self, true_and, and_true, true_or, or_true, bI_0, bI_1, mm, rAm, mF_sF, mR_sR, false_and, and_false, if_false, if_true, false_or, or_false, not_true_eq_false, not_false_eq_true, and_self]
    rwa [decide_eq_false hc] at hQ
  · simp (disch := first | (simp only [dd, dr]; done) | omega) only [W_91, I_lt, I_le, I_inj, inB_I, tc_I, Int.toNat_natCast, fkt, rf1, rf0, cq, Nat.reduceAdd, Nat.reduceEqDiff, Int.reduceToNat, eq_self, true_and, and_true, true_or, or_true, bI_0, bI_1, mm, rAm, mF_sF, mR_sR, false_and, and_false, if_false, if_true, false_or, or_false, not_true_eq_false, not_false_eq_true, and_self]
    rwa [decide_eq_true (Decidable.not_not.mp hc)] at hQ
