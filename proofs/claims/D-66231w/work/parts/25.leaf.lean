/-! ===== CONTRACTS: the leaf, as arrays ===== -/
/-- the cells of a leaf that is at q -/
def LfK (M : Mem) (q : Nat) : Prop := kO M q = 5 ∧ mR M 36 q = some (q + 1) ∧ mR M 38 q = some (q + 2) ∧ mR M 35 q = some (q + 3) ∧ kX M (q + 1) = (0, 24) ∧ kX M (q + 2) = (0, 24) ∧ kX M (q + 3) = (1, 240)
/-- a leaf's contents become others -/
def lfW (M : Mem) (q : Nat) (m b : Int32) (g1 g2 g3 : Nat → Int32) : Mem :=
  (M.1, fun f a => if a = q then (if f = 37 then m else if f = 34 then b else M.2.1 f a) else M.2.1 f a, M.2.2.1,
   fun p i => if p = q + 1 then g1 i else if p = q + 2 then g2 i else if p = q + 3 then g3 i else M.2.2.2.1 p i, M.2.2.2.2)
theorem lfm : (∀ (M : Mem) (q : Nat) (m b : Int32) (g1 g2 g3 : Nat → Int32) (x y : Nat), mR (lfW M q m b g1 g2 g3) x y = mR M x y) ∧ (∀ (M : Mem) (q : Nat) (m b : Int32) (g1 g2 g3 : Nat → Int32) (x y : Nat), mQ (lfW M q m b g1 g2 g3) x y = mQ M x y) ∧ (∀ (M : Mem) (q : Nat) (m b : Int32) (g1 g2 g3 : Nat → Int32) (x y : Nat), mL (lfW M q m b g1 g2 g3) x y = mL M x y) ∧ (∀ (M : Mem) (q : Nat) (m b : Int32) (g1 g2 g3 : Nat → Int32) (x : Nat), mK (lfW M q m b g1 g2 g3) x = mK M x) ∧ (∀ (M : Mem) (q : Nat) (m b : Int32) (g1 g2 g3 : Nat → Int32) (x : Nat), kO (lfW M q m b g1 g2 g3) x = kO M x) ∧ (∀ (M : Mem) (q : Nat) (m b : Int32) (g1 g2 g3 : Nat → Int32) (x : Nat), kX (lfW M q m b g1 g2 g3) x = kX M x) ∧ (∀ (M : Mem) (q : Nat) (m b : Int32) (g1 g2 g3 : Nat → Int32), mN (lfW M q m b g1 g2 g3) = mN M) ∧ (∀ (M : Mem) (q : Nat) (m b : Int32) (g1 g2 g3 : Nat → Int32), mS (lfW M q m b g1 g2 g3) = mS M) :=
  ⟨fun _ _ _ _ _ _ _ _ _ => rfl, fun _ _ _ _ _ _ _ _ _ => rfl, fun _ _ _ _ _ _ _ _ _ => rfl, fun _ _ _ _ _ _ _ _ => rfl, fun _ _ _ _ _ _ _ _ => rfl, fun _ _ _ _ _ _ _ _ => rfl, fun _ _ _ _ _ _ _ => rfl, fun _ _ _ _ _ _ _ => rfl⟩
section LfW
variable (M : Mem) (q : Nat) (m b : Int32) (g1 g2 g3 : Nat → Int32)
theorem lf_37 : mF (lfW M q m b g1 g2 g3) 37 q = m := by simp [mF, lfW]
theorem lf_34 : mF (lfW M q m b g1 g2 g3) 34 q = b := by simp [mF, lfW]
theorem lf_1 (i : Nat) : mA (lfW M q m b g1 g2 g3) (q + 1) i = g1 i := by simp [mA, lfW]
theorem lf_2 (i : Nat) : mA (lfW M q m b g1 g2 g3) (q + 2) i = g2 i := by simp [mA, lfW]
theorem lf_3 (i : Nat) : mA (lfW M q m b g1 g2 g3) (q + 3) i = g3 i := by simp [mA, lfW]
theorem lf_A {p : Nat} (h1 : p ≠ q + 1) (h2 : p ≠ q + 2) (h3 : p ≠ q + 3) (i : Nat) : mA (lfW M q m b g1 g2 g3) p i = mA M p i := by simp [mA, lfW, h1, h2, h3]
theorem lf_F {f a : Nat} (h : a ≠ q) : mF (lfW M q m b g1 g2 g3) f a = mF M f a := by simp [mF, lfW, h]
theorem lf_Fq {f : Nat} (a : Nat) (h1 : f ≠ 37) (h2 : f ≠ 34) : mF (lfW M q m b g1 g2 g3) f a = mF M f a := by simp [mF, lfW, h1, h2]
theorem lf_s37 (v : Int32) : sF (lfW M q m b g1 g2 g3) 37 q v = lfW M q v b g1 g2 g3 := by
  unfold sF lfW up2
  congr 2
  funext f a
  by_cases h : a = q <;> by_cases h' : f = 37 <;> simp [h, h']
theorem lf_s34 (v : Int32) : sF (lfW M q m b g1 g2 g3) 34 q v = lfW M q m v g1 g2 g3 := by
  unfold sF lfW up2
  congr 2
  funext f a
  by_cases h : a = q <;> by_cases h' : f = 34 <;> simp [h, h']
theorem lf_s1 (i : Nat) (v : Int32) : sA (lfW M q m b g1 g2 g3) (q + 1) i v = lfW M q m b (fun j => if j = i then v else g1 j) g2 g3 := by
  unfold sA lfW up2
  congr 4
  funext p j
  by_cases h : p = q + 1 <;> by_cases h' : j = i <;> simp [h, h']
theorem lf_s2 (i : Nat) (v : Int32) : sA (lfW M q m b g1 g2 g3) (q + 2) i v = lfW M q m b g1 (fun j => if j = i then v else g2 j) g3 := by
  unfold sA lfW up2
  congr 4
  funext p j
  by_cases h : p = q + 2 <;> by_cases h' : j = i <;> simp [h, h']
theorem lf_s3 (i : Nat) (v : Int32) : sA (lfW M q m b g1 g2 g3) (q + 3) i v = lfW M q m b g1 g2 (fun j => if j = i then v else g3 j) := by
  unfold sA lfW up2
  congr 4
  funext p j
  by_cases h : p = q + 3 <;> by_cases h' : j = i <;> simp [h, h']
theorem lf_id : lfW M q (mF M 37 q) (mF M 34 q) (mA M (q + 1)) (mA M (q + 2)) (mA M (q + 3)) = M := by
  unfold lfW
  have e1 : (fun f a => if a = q then (if f = 37 then mF M 37 q else if f = 34 then mF M 34 q else M.2.1 f a) else M.2.1 f a) = M.2.1 := by
    funext f a
    by_cases h : a = q
    · subst h
      by_cases h1 : f = 37
      · subst h1; simp [mF]
      · by_cases h2 : f = 34
        · subst h2; simp [mF]
        · simp [h1, h2]
    · simp [h]
  have e2 : (fun p i => if p = q + 1 then mA M (q + 1) i else if p = q + 2 then mA M (q + 2) i else if p = q + 3 then mA M (q + 3) i else M.2.2.2.1 p i) = M.2.2.2.1 := by
    funext p i
    by_cases h1 : p = q + 1
    · subst h1; simp [mA]
    · by_cases h2 : p = q + 2
      · subst h2; simp [mA]
      · by_cases h3 : p = q + 3
        · subst h3; simp [mA]
        · simp [h1, h2, h3]
  rw [e1, e2]
theorem lf_lf (m' b' : Int32) (k1 k2 k3 : Nat → Int32) : lfW (lfW M q m b g1 g2 g3) q m' b' k1 k2 k3 = lfW M q m' b' k1 k2 k3 := by
  unfold lfW
  congr 2
  · funext f a
    by_cases h : a = q
    · by_cases h1 : f = 37 <;> by_cases h2 : f = 34 <;> simp [h, h1, h2]
    · simp [h]
  · congr 2
    funext p i
    by_cases h1 : p = q + 1 <;> by_cases h2 : p = q + 2 <;> by_cases h3 : p = q + 3 <;> simp [h1, h2, h3]
end LfW
/-- the sum of the first sizes -/
def sm (g : Nat → Nat) : Nat → Nat
  | 0 => 0
  | k + 1 => sm g k + g k
theorem sm_mono (g : Nat → Nat) {i j : Nat} (h : i ≤ j) : sm g i ≤ sm g j := by
  induction h with
  | refl => exact Nat.le_refl _
  | step _ ih => exact Nat.le_trans ih (Nat.le_add_right _ _)
theorem c_from {d : Nat} {M : Mem} {Q : Outcome → Mem → Prop} {q k n : Nat} {s : Nat → Nat} (hK : LfK M q) (hk : k ≤ n) (hn : n ≤ 24) (hs : ∀ i, i < n → mA M (q + 2) i = I (s i : Nat)) (hb : sm s n ≤ 240) (hQ : Q (.returned (some (.int (I (sm s k : Nat))))) M) : Wp d 126 0 [some (.ref q), some (.int (I (k : Nat))), none, none] [] M Q := by
  obtain ⟨k0, k1, k2, k3, k4, k5, k6⟩ := hK
  simp (disch := first | (simp only [dd, dr]; done) | omega) only [W_126, I_lt, I_le, I_inj, inB_I, tc_I, Int.toNat_natCast, fkt, rf1, rf0, cq, Nat.reduceAdd, Nat.reduceEqDiff, Int.reduceToNat, eq_self, true_and, and_true, true_or, or_true, bI_0, bI_1, mm, rAm]
  suffices H : ∀ n' (i : Nat), i + n' = k → Wp d 126 4 [some (.ref q), some (.int (I (k : Nat))), some (.int (I (sm s i : Nat))), some (.int (I (i : Nat)))] [] M Q from H k 0 (by omega)
  intro n'
  induction n' with
  | zero =>
    intro i hi
    obtain rfl : i = k := by omega
    simp (disch := first | (simp only [dd, dr]; done) | omega) only [w_126_4, W_126, I_lt, I_le, I_inj, inB_I, tc_I, Int.toNat_natCast, fkt, rf1, rf0, cq, Nat.reduceAdd, Nat.reduceEqDiff, Int.reduceToNat, eq_self, true_and, and_true, true_or, or_true, bI_0, bI_1, mm, rAm]
    refine ⟨fun _ => ?_, fun h => absurd h (by omega)⟩
    simp (disch := first | (simp only [dd, dr]; done) | omega) only [W_126, I_lt, I_le, I_inj, inB_I, tc_I, Int.toNat_natCast, fkt, rf1, rf0, cq, Nat.reduceAdd, Nat.reduceEqDiff, Int.reduceToNat, eq_self, true_and, and_true, true_or, or_true, bI_0, bI_1, mm, rAm]
    exact hQ
  | succ n' ih =>
    intro i hi
    simp (disch := first | (simp only [dd, dr]; done) | omega) only [w_126_4, W_126, I_lt, I_le, I_inj, inB_I, tc_I, Int.toNat_natCast, fkt, rf1, rf0, cq, Nat.reduceAdd, Nat.reduceEqDiff, Int.reduceToNat, eq_self, true_and, and_true, true_or, or_true, bI_0, bI_1, mm, rAm]
    refine ⟨fun h => absurd h (by omega), fun _ => ?_⟩
    have h1 := hs i (by omega)
    simp (disch := first | (simp only [dd, dr]; done) | omega) only [W_126, k0, k2, k5, h1, I_lt, I_le, I_inj, inB_I, tc_I, Int.toNat_natCast, fkt, rf1, rf0, cq, Nat.reduceAdd, Nat.reduceEqDiff, Int.reduceToNat, eq_self, true_and, and_true, true_or, or_true, bI_0, bI_1, mm, rAm]
    have h2 := ih (i + 1) (by omega)
    exact h2
theorem c_used {d : Nat} {M : Mem} {Q : Outcome → Mem → Prop} {q : Nat} {m b : Int} (hK : kO M q = 5) (hm : mF M 37 q = I m) (hb : mF M 34 q = I b) (hQ : Q (.returned (some (.int (I (8 * m + b))))) M) : Wp d 129 0 [some (.ref q)] [] M Q := by
  simp (disch := first | (simp only [dd, dr]; done) | omega) only [W_129, hK, hm, hb, I_lt, I_le, I_inj, inB_I, tc_I, Int.toNat_natCast, fkt, rf1, rf0, cq, Nat.reduceAdd, Nat.reduceEqDiff, Int.reduceToNat, eq_self, true_and, and_true, true_or, or_true, bI_0, bI_1, mm, rAm]
  exact hQ
theorem c_isOver {d : Nat} {M : Mem} {Q : Outcome → Mem → Prop} {q : Nat} {m b : Int} (hd : 1 ≤ d) (hK : kO M q = 5) (hm : mF M 37 q = I m) (hb : mF M 34 q = I b) (h1 : 0 ≤ m) (h2 : m ≤ 10000) (h3 : 0 ≤ b) (h4 : b ≤ 10000) (hQ : Q (.returned (some (.int (I (bI (decide (120 < 8 * m + b))))))) M) : Wp d 128 0 [some (.ref q)] [] M Q := by
  simp (disch := first | (simp only [dd, dr]; done) | omega) only [W_128, hK, I_lt, I_le, I_inj, inB_I, tc_I, Int.toNat_natCast, fkt, rf1, rf0, cq, Nat.reduceAdd, Nat.reduceEqDiff, Int.reduceToNat, eq_self, true_and, and_true, true_or, or_true, bI_0, bI_1, mm, rAm]
  refine ca_129 (by omega) (c_used hK hm hb ?_)
  simp (disch := first | (simp only [dd, dr]; done) | omega) only [W_128, I_lt, I_le, I_inj, inB_I, tc_I, Int.toNat_natCast, fkt, rf1, rf0, cq, Nat.reduceAdd, Nat.reduceEqDiff, Int.reduceToNat, eq_self, true_and, and_true, true_or, or_true, bI_0, bI_1, mm, rAm]
  refine ⟨fun h => ?_, fun h => ?_⟩
  · simp (disch := first | (simp only [dd, dr]; done) | omega) only [W_128, I_lt, I_le, I_inj, inB_I, tc_I, Int.toNat_natCast, fkt, rf1, rf0, cq, Nat.reduceAdd, Nat.reduceEqDiff, Int.reduceToNat, eq_self, true_and, and_true, true_or, or_true, bI_0, bI_1, mm, rAm]
    rwa [decide_eq_false (by omega)] at hQ
  · simp (disch := first | (simp only [dd, dr]; done) | omega) only [W_128, I_lt, I_le, I_inj, inB_I, tc_I, Int.toNat_natCast, fkt, rf1, rf0, cq, Nat.reduceAdd, Nat.reduceEqDiff, Int.reduceToNat, eq_self, true_and, and_true, true_or, or_true, bI_0, bI_1, mm, rAm]
    rwa [decide_eq_true (by omega)] at hQ
theorem c_cost {d : Nat} {M : Mem} {Q : Outcome → Mem → Prop} {q : Nat} {k z : Int} (hK : LfK M q) (h1 : 0 ≤ k) (h2 : k < 24) (hz : mA M (q + 2) k.toNat = I z) (hQ : Q (.returned (some (.int (I (8 + z))))) M) : Wp d 130 0 [some (.ref q), some (.int (I k))] [] M Q := by
  obtain ⟨k0, k1, k2, k3, k4, k5, k6⟩ := hK
  simp (disch := first | (simp only [dd, dr]; done) | omega) only [W_130, k0, k2, k5, hz, I_lt, I_le, I_inj, inB_I, tc_I, Int.toNat_natCast, fkt, rf1, rf0, cq, Nat.reduceAdd, Nat.reduceEqDiff, Int.reduceToNat, eq_self, true_and, and_true, true_or, or_true, bI_0, bI_1, mm, rAm]
  exact hQ
theorem c_fits {d : Nat} {M : Mem} {Q : Outcome → Mem → Prop} {q : Nat} {m b c : Int} (hd : 1 ≤ d) (hK : kO M q = 5) (hm : mF M 37 q = I m) (hb : mF M 34 q = I b) (h1 : 0 ≤ m) (h2 : m ≤ 10000) (h3 : 0 ≤ b) (h4 : b ≤ 10000) (h5 : 0 ≤ c) (h6 : c ≤ 10000) (hQ : Q (.returned (some (.int (I (bI (decide (8 * m + b + c ≤ 120))))))) M) : Wp d 131 0 [some (.ref q), some (.int (I c))] [] M Q := by
  simp (disch := first | (simp only [dd, dr]; done) | omega) only [W_131, hK, I_lt, I_le, I_inj, inB_I, tc_I, Int.toNat_natCast, fkt, rf1, rf0, cq, Nat.reduceAdd, Nat.reduceEqDiff, Int.reduceToNat, eq_self, true_and, and_true, true_or, or_true, bI_0, bI_1, mm, rAm]
  refine ca_129 (by omega) (c_used hK hm hb ?_)
  simp (disch := first | (simp only [dd, dr]; done) | omega) only [W_131, I_lt, I_le, I_inj, inB_I, tc_I, Int.toNat_natCast, fkt, rf1, rf0, cq, Nat.reduceAdd, Nat.reduceEqDiff, Int.reduceToNat, eq_self, true_and, and_true, true_or, or_true, bI_0, bI_1, mm, rAm]
  refine ⟨fun h => ?_, fun h => ?_⟩
  · simp (disch := first | (simp only [dd, dr]; done) | omega) only [W_131, I_lt, I_le, I_inj, inB_I, tc_I, Int.toNat_natCast, fkt, rf1, rf0, cq, Nat.reduceAdd, Nat.reduceEqDiff, Int.reduceToNat, eq_self, true_and, and_true, true_or, or_true, bI_0, bI_1, mm, rAm]
    rwa [decide_eq_false (by omega)] at hQ
  · simp (disch := first | (simp only [dd, dr]; done) | omega) only [W_131, I_lt, I_le, I_inj, inB_I, tc_I, Int.toNat_natCast, fkt, rf1, rf0, cq, Nat.reduceAdd, Nat.reduceEqDiff, Int.reduceToNat, eq_self, true_and, and_true, true_or, or_true, bI_0, bI_1, mm, rAm]
    rwa [decide_eq_true (by omega)] at hQ
