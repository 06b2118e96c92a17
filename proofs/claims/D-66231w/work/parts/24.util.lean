/-! ===== CONTRACTS: the rows of bytes ===== -/
/-- an array's cells become others -/
def rA (M : Mem) (a : Nat) (g : Nat → Int32) : Mem := (M.1, M.2.1, M.2.2.1, fun p q => if p = a then g q else M.2.2.2.1 p q, M.2.2.2.2)
theorem mA_rA (M : Mem) (a : Nat) (g : Nat → Int32) (p q : Nat) : mA (rA M a g) p q = if p = a then g q else mA M p q := rfl
theorem rAm : (∀ (M : Mem) (a : Nat) (g : Nat → Int32) (p q : Nat), mF (rA M a g) p q = mF M p q) ∧ (∀ (M : Mem) (a : Nat) (g : Nat → Int32) (p q : Nat), mR (rA M a g) p q = mR M p q) ∧ (∀ (M : Mem) (a : Nat) (g : Nat → Int32) (p q : Nat), mQ (rA M a g) p q = mQ M p q) ∧ (∀ (M : Mem) (a : Nat) (g : Nat → Int32) (p q : Nat), mL (rA M a g) p q = mL M p q) ∧ (∀ (M : Mem) (a : Nat) (g : Nat → Int32) (p : Nat), mK (rA M a g) p = mK M p) ∧ (∀ (M : Mem) (a : Nat) (g : Nat → Int32) (p : Nat), kO (rA M a g) p = kO M p) ∧ (∀ (M : Mem) (a : Nat) (g : Nat → Int32) (p : Nat), kX (rA M a g) p = kX M p) ∧ (∀ (M : Mem) (a : Nat) (g : Nat → Int32), mN (rA M a g) = mN M) ∧ (∀ (M : Mem) (a : Nat) (g : Nat → Int32), mS (rA M a g) = mS M) := ⟨fun _ _ _ _ _ => rfl, fun _ _ _ _ _ => rfl, fun _ _ _ _ _ => rfl, fun _ _ _ _ _ => rfl, fun _ _ _ _ => rfl, fun _ _ _ _ => rfl, fun _ _ _ _ => rfl, fun _ _ _ => rfl, fun _ _ _ => rfl⟩
theorem rA_id (M : Mem) (a : Nat) : rA M a (fun q => mA M a q) = M := by
  unfold rA
  have : (fun p q => if p = a then mA M a q else M.2.2.2.1 p q) = M.2.2.2.1 := by
    funext p q
    by_cases h : p = a
    · rw [if_pos h, h]; rfl
    · rw [if_neg h]
  rw [this]
theorem sA_rA (M : Mem) (a i : Nat) (v : Int32) (g : Nat → Int32) : sA (rA M a g) a i v = rA M a (fun q => if q = i then v else g q) := by
  unfold sA rA
  have : up2 (fun p q => if p = a then g q else M.2.2.2.1 p q) a i v = (fun p q => if p = a then (if q = i then v else g q) else M.2.2.2.1 p q) := by
    funext p q
    unfold up2
    by_cases h : p = a <;> by_cases h' : q = i <;> simp [h, h']
  simp only [this]
theorem rA_congr (M : Mem) (a : Nat) {g g' : Nat → Int32} (h : ∀ q, g q = g' q) : rA M a g = rA M a g' := by rw [show g = g' from funext h]
theorem c_near {d : Nat} {M : Mem} {Q : Outcome → Mem → Prop} {v f t : Int} (v1 : -2147483648 ≤ v) (v2 : v < 2147483648) (f1 : -2147483648 ≤ f) (f2 : f < 2147483648) (t1 : -2147483648 ≤ t) (t2 : t < 2147483648) (hQ : Q (.returned (some (.int (I (if v < f then f else if t < v then t else v))))) M) : Wp d 21 0 [some (.int (I v)), some (.int (I f)), some (.int (I t))] [] M Q := by
  simp (disch := first | (simp only [dd, dr]; done) | omega) only [W_21, I_lt, I_le, I_lt, I_le, I_inj, inB_I, tc_I, Int.toNat_natCast, fkt, rf1, rf0, cq, Nat.reduceAdd, Nat.reduceEqDiff, Int.reduceToNat, eq_self, true_and, and_true, true_or, or_true, bI_0, bI_1, mm, rAm]
  refine ⟨fun h => ?_, fun h => ?_⟩
  · simp (disch := first | (simp only [dd, dr]; done) | omega) only [W_21, I_lt, I_le, I_lt, I_le, I_inj, inB_I, tc_I, Int.toNat_natCast, fkt, rf1, rf0, cq, Nat.reduceAdd, Nat.reduceEqDiff, Int.reduceToNat, eq_self, true_and, and_true, true_or, or_true, bI_0, bI_1, mm, rAm]
    refine ⟨fun h' => ?_, fun h' => ?_⟩
    · simp (disch := first | (simp only [dd, dr]; done) | omega) only [W_21, I_lt, I_le, I_inj, inB_I, tc_I, Int.toNat_natCast, fkt, rf1, rf0, cq, Nat.reduceAdd, Nat.reduceEqDiff, Int.reduceToNat, eq_self, true_and, and_true, true_or, or_true, bI_0, bI_1, mm, rAm]
      rwa [if_neg (by omega), if_neg (by omega)] at hQ
    · simp (disch := first | (simp only [dd, dr]; done) | omega) only [W_21, I_lt, I_le, I_inj, inB_I, tc_I, Int.toNat_natCast, fkt, rf1, rf0, cq, Nat.reduceAdd, Nat.reduceEqDiff, Int.reduceToNat, eq_self, true_and, and_true, true_or, or_true, bI_0, bI_1, mm, rAm]
      rwa [if_neg (by omega), if_pos (by omega)] at hQ
  · simp (disch := first | (simp only [dd, dr]; done) | omega) only [W_21, I_lt, I_le, I_inj, inB_I, tc_I, Int.toNat_natCast, fkt, rf1, rf0, cq, Nat.reduceAdd, Nat.reduceEqDiff, Int.reduceToNat, eq_self, true_and, and_true, true_or, or_true, bI_0, bI_1, mm, rAm]
    rwa [if_pos (by omega)] at hQ
theorem c_keyOf {d : Nat} {M : Mem} {Q : Outcome → Mem → Prop} {o k n : Int} (hQ : Q (.returned (some (.int (I ((o * 4 + k) * 1024 + n))))) M) : Wp d 24 0 [some (.int (I o)), some (.int (I k)), some (.int (I n))] [] M Q := by
  simp (disch := first | (simp only [dd, dr]; done) | omega) only [W_24, I_lt, I_le, I_inj, inB_I, tc_I, Int.toNat_natCast, fkt, rf1, rf0, cq, Nat.reduceAdd, Nat.reduceEqDiff, Int.reduceToNat, eq_self, true_and, and_true, true_or, or_true, bI_0, bI_1, mm, rAm]
  exact hQ
theorem c_kindOf {d : Nat} {M : Mem} {Q : Outcome → Mem → Prop} {k : Int} (h1 : 0 ≤ k) (h2 : k < 2147483648) (hQ : Q (.returned (some (.int (I (k / 1024 % 4))))) M) : Wp d 61 0 [some (.int (I k))] [] M Q := by
  simp (disch := first | (simp only [dd, dr]; done) | omega) only [W_61, I_lt, I_le, I_inj, inB_I, tc_I, Int.toNat_natCast, fkt, rf1, rf0, cq, Nat.reduceAdd, Nat.reduceEqDiff, Int.reduceToNat, eq_self, true_and, and_true, true_or, or_true, bI_0, bI_1, mm, rAm]
  exact hQ
theorem c_objectOf {d : Nat} {M : Mem} {Q : Outcome → Mem → Prop} {k : Int} (h1 : 0 ≤ k) (h2 : k < 2147483648) (hQ : Q (.returned (some (.int (I (k / 1024 / 4))))) M) : Wp d 62 0 [some (.int (I k))] [] M Q := by
  simp (disch := first | (simp only [dd, dr]; done) | omega) only [W_62, I_lt, I_le, I_inj, inB_I, tc_I, Int.toNat_natCast, fkt, rf1, rf0, cq, Nat.reduceAdd, Nat.reduceEqDiff, Int.reduceToNat, eq_self, true_and, and_true, true_or, or_true, bI_0, bI_1, mm, rAm]
  exact hQ
theorem c_byteOf {d : Nat} {M : Mem} {Q : Outcome → Mem → Prop} {a n : Nat} {k z : Int} (ha : kX M a = (1, n)) (hn : n < 2147483648) (h1 : 0 ≤ k) (h2 : k < n) (hz : mA M a k.toNat = bB z) (hQ : Q (.returned (some (.int (I (z % 256))))) M) : Wp d 36 0 [some (.ref a), some (.int (I k))] [] M Q := by
  simp (disch := first | (simp only [dd, dr]; done) | omega) only [W_36, ha, inB_I, tc_I, hz, bB_and, true_or, and_self, true_and, I_lt, I_le, I_inj, inB_I, tc_I, Int.toNat_natCast, fkt, rf1, rf0, cq, Nat.reduceAdd, Nat.reduceEqDiff, Int.reduceToNat, eq_self, true_and, and_true, true_or, or_true, bI_0, bI_1, mm, rAm]
  exact hQ
theorem c_copy {d : Nat} {M : Mem} {Q : Outcome → Mem → Prop} {a b : Nat} (ha : kX M a = (1, 129)) (hb : kX M b = (1, 129)) (hab : a ≠ b) (hz : ∀ i, i < 129 → ∃ z, mA M a i = bB z) (hQ : Q (.returned none) (rA M b (fun i => if i < 129 then mA M a i else mA M b i))) : Wp d 27 0 [some (.ref a), some (.ref b), none] [] M Q := by
  simp (disch := first | (simp only [dd, dr]; done) | omega) only [W_27, I_lt, I_le, I_inj, inB_I, tc_I, Int.toNat_natCast, fkt, rf1, rf0, cq, Nat.reduceAdd, Nat.reduceEqDiff, Int.reduceToNat, eq_self, true_and, and_true, true_or, or_true, bI_0, bI_1, mm, rAm]
  suffices H : ∀ n (i : Nat), i + n = 129 → Wp d 27 2 [some (.ref a), some (.ref b), some (.int (I i))] [] (rA M b (fun q => if q < i then mA M a q else mA M b q)) Q by
    have := H 129 0 rfl
    simp only [Nat.not_lt_zero, if_false, rA_id] at this
    exact this
  intro n
  induction n with
  | zero =>
    intro i hi
    obtain rfl : i = 129 := by omega
    simp (disch := first | (simp only [dd, dr]; done) | omega) only [w_27_2, W_27, I_le, I_lt, I_le, I_inj, inB_I, tc_I, Int.toNat_natCast, fkt, rf1, rf0, cq, Nat.reduceAdd, Nat.reduceEqDiff, Int.reduceToNat, eq_self, true_and, and_true, true_or, or_true, bI_0, bI_1, mm, rAm]
    refine ⟨fun _ => ?_, fun h => absurd h (by omega)⟩
    simp (disch := first | (simp only [dd, dr]; done) | omega) only [W_27, I_lt, I_le, I_inj, inB_I, tc_I, Int.toNat_natCast, fkt, rf1, rf0, cq, Nat.reduceAdd, Nat.reduceEqDiff, Int.reduceToNat, eq_self, true_and, and_true, true_or, or_true, bI_0, bI_1, mm, rAm]
    exact hQ
  | succ n ih =>
    intro i hi
    simp (disch := first | (simp only [dd, dr]; done) | omega) only [w_27_2, W_27, I_le, I_lt, I_le, I_inj, inB_I, tc_I, Int.toNat_natCast, fkt, rf1, rf0, cq, Nat.reduceAdd, Nat.reduceEqDiff, Int.reduceToNat, eq_self, true_and, and_true, true_or, or_true, bI_0, bI_1, mm, rAm]
    refine ⟨fun h => absurd h (by omega), fun _ => ?_⟩
    obtain ⟨z, hz⟩ := hz i (by omega)
    simp (disch := first | (simp only [dd, dr]; done) | omega) only [W_27, rAm, ha, hb, inB_I, tc_I, mA_rA, Int.toNat_natCast, if_neg hab, hz, nrw_b, true_or, and_self, true_and, sA_rA, I_lt, I_le, I_inj, inB_I, tc_I, Int.toNat_natCast, fkt, rf1, rf0, cq, Nat.reduceAdd, Nat.reduceEqDiff, Int.reduceToNat, eq_self, true_and, and_true, true_or, or_true, bI_0, bI_1, mm, rAm]
    have := ih (i + 1) (by omega)
    rw [rA_congr (g' := fun q => if q < i + 1 then mA M a q else mA M b q)]
    · exact this
    · intro q
      by_cases h1 : q = i
      · subst h1; rw [if_pos rfl, if_pos (by omega), hz]
      · rw [if_neg h1]
        by_cases h2 : q < i
        · rw [if_pos h2, if_pos (by omega)]
        · rw [if_neg h2, if_neg (by omega)]
