/-! ===== THE MODEL'S MEMORY ===== -/
/-- an array's place, by an int -/
def fz (s : Int → Int) (z v : Int) : Int → Int := fun x => if x = z then v else s x
theorem fz_e (s : Int → Int) {z x : Int} (v : Int) (h : x = z) : fz s z v x = v := if_pos h
theorem fz_n (s : Int → Int) {z x : Int} (v : Int) (h : x ≠ z) : fz s z v x = s x := if_neg h
theorem fu_e {α : Type} (f : Nat → α) {b x : Nat} (v : α) (h : x = b) : fu f b v x = v := if_pos h
/-- the memory M with a model at o: its fields f, its rows s, before, committed, now; what is in the journal -/
def ms (M : Mem) (o : Nat) (f : Nat → Int) (s b c w : Int → Int) (j : Nat → Bool) : Mem :=
  (M.1, fun g a => if a = o then I (f g) else M.2.1 g a, M.2.2.1,
   fun p i => if p = o + 1 then I (s i) else if p = o + 2 then I (b i) else if p = o + 3 then I (c i) else if p = o + 4 then I (w i) else if p = o + 5 then I (bI (j i)) else M.2.2.2.1 p i, M.2.2.2.2)
def MK (M : Mem) (o : Nat) : Prop := kO M o = 8 ∧ mR M 53 o = some (o + 1) ∧ mR M 42 o = some (o + 2) ∧ mR M 45 o = some (o + 3) ∧ mR M 51 o = some (o + 4) ∧ mR M 48 o = some (o + 5) ∧ kX M (o + 1) = (0, 25366) ∧ kX M (o + 2) = (0, 25366) ∧ kX M (o + 3) = (0, 25366) ∧ kX M (o + 4) = (0, 2560) ∧ kX M (o + 5) = (2, 96)
section Ms
variable (M : Mem) (o : Nat) (f : Nat → Int) (s b c w : Int → Int) (j : Nat → Bool)
theorem msK (x : Nat) : kO (ms M o f s b c w j) x = kO M x ∧ kX (ms M o f s b c w j) x = kX M x ∧ mK (ms M o f s b c w j) x = mK M x := ⟨rfl, rfl, rfl⟩
theorem msN : mN (ms M o f s b c w j) = mN M ∧ mS (ms M o f s b c w j) = mS M := ⟨rfl, rfl⟩
theorem msR (x y : Nat) : mR (ms M o f s b c w j) x y = mR M x y ∧ mQ (ms M o f s b c w j) x y = mQ M x y ∧ mL (ms M o f s b c w j) x y = mL M x y := ⟨rfl, rfl, rfl⟩
theorem msF (g : Nat) : mF (ms M o f s b c w j) g o = I (f g) := by simp [mF, ms]
theorem msFn (g : Nat) {a : Nat} (h : a ≠ o) : mF (ms M o f s b c w j) g a = mF M g a := by simp [mF, ms, h]
theorem ms1 {z : Int} (h : 0 ≤ z) : mA (ms M o f s b c w j) (o + 1) z.toNat = I (s z) := by simp [mA, ms, Int.toNat_of_nonneg h]
theorem ms2 {z : Int} (h : 0 ≤ z) : mA (ms M o f s b c w j) (o + 2) z.toNat = I (b z) := by simp [mA, ms, Int.toNat_of_nonneg h]
theorem ms3 {z : Int} (h : 0 ≤ z) : mA (ms M o f s b c w j) (o + 3) z.toNat = I (c z) := by simp [mA, ms, Int.toNat_of_nonneg h]
theorem ms4 {z : Int} (h : 0 ≤ z) : mA (ms M o f s b c w j) (o + 4) z.toNat = I (w z) := by simp [mA, ms, Int.toNat_of_nonneg h]
theorem ms5 (i : Nat) : mA (ms M o f s b c w j) (o + 5) i = I (bI (j i)) := by simp [mA, ms]
theorem msA {p : Nat} (h1 : p < o + 1 ∨ o + 5 < p) (i : Nat) : mA (ms M o f s b c w j) p i = mA M p i := by
  have : p ≠ o + 1 ∧ p ≠ o + 2 ∧ p ≠ o + 3 ∧ p ≠ o + 4 ∧ p ≠ o + 5 := by omega
  simp [mA, ms, this]
theorem msSF (g : Nat) (v : Int) : sF (ms M o f s b c w j) g o (I v) = ms M o (fu f g v) s b c w j := by
  unfold sF ms up2 fu
  congr 2
  funext x a
  by_cases h : a = o <;> by_cases h' : x = g <;> simp [h, h']
theorem msS1 {z : Int} (h : 0 ≤ z) (v : Int) : sA (ms M o f s b c w j) (o + 1) z.toNat (I v) = ms M o f (fz s z v) b c w j := by
  unfold sA ms up2 fz
  congr 4
  funext p i
  by_cases h1 : p = o + 1
  · have : (i = z.toNat) = ((i : Int) = z) := propext (by omega)
    by_cases h2 : (i : Int) = z <;> simp [h1, h2, this]
  · simp [h1]
theorem msS2 {z : Int} (h : 0 ≤ z) (v : Int) : sA (ms M o f s b c w j) (o + 2) z.toNat (I v) = ms M o f s (fz b z v) c w j := by
  unfold sA ms up2 fz
  congr 4
  funext p i
  by_cases h1 : p = o + 2
  · have : (i = z.toNat) = ((i : Int) = z) := propext (by omega)
    by_cases h2 : (i : Int) = z <;> simp [h1, h2, this]
  · simp [h1]
theorem msS3 {z : Int} (h : 0 ≤ z) (v : Int) : sA (ms M o f s b c w j) (o + 3) z.toNat (I v) = ms M o f s b (fz c z v) w j := by
  unfold sA ms up2 fz
  congr 4
  funext p i
  by_cases h1 : p = o + 3
  · have : (i = z.toNat) = ((i : Int) = z) := propext (by omega)
    by_cases h2 : (i : Int) = z <;> simp [h1, h2, this]
  · simp [h1]
theorem msS4 {z : Int} (h : 0 ≤ z) (v : Int) : sA (ms M o f s b c w j) (o + 4) z.toNat (I v) = ms M o f s b c (fz w z v) j := by
  unfold sA ms up2 fz
  congr 4
  funext p i
  by_cases h1 : p = o + 4
  · have : (i = z.toNat) = ((i : Int) = z) := propext (by omega)
    by_cases h2 : (i : Int) = z <;> simp [h1, h2, this]
  · simp [h1]
theorem msS5 (i : Nat) (v : Bool) : sA (ms M o f s b c w j) (o + 5) i (I (bI v)) = ms M o f s b c w (fu j i v) := by
  unfold sA ms up2 fu
  congr 4
  funext p x
  by_cases h1 : p = o + 5 <;> by_cases h2 : x = i <;> simp [h1, h2]
end Ms

section M1
variable {d : Nat} {M : Mem} {Q : Outcome → Mem → Prop} {o : Nat} {f : Nat → Int} {s b c w : Int → Int} {j : Nat → Bool}
theorem m_isIn {v lo_ hi : Int} (v1 : -2147483648 ≤ v) (v2 : v < 2147483648) (l1 : -2147483648 ≤ lo_) (l2 : lo_ < 2147483648) (h1 : -2147483648 ≤ hi) (h2 : hi < 2147483648) (hQ : Q (.returned (some (.int (I (bI (decide (lo_ ≤ v ∧ v ≤ hi))))))) M) : Wp d 159 0 [some (.int (I v)), some (.int (I lo_)), some (.int (I hi))] [] M Q := by
  simp (disch := first | (simp only [dd, dr]; done) | omega) only [W_159, I_lt, I_le, I_inj, inB_I, tc_I, Int.toNat_natCast, fkt, rf1, rf0, cq, Nat.reduceAdd, Nat.reduceEqDiff, Int.reduceToNat, eq_self, true_and, and_true, true_or, or_true, bI_0, bI_1, mm, rAm, mF_sF, mR_sR, false_and, and_false, if_false, if_true, false_or, or_false, not_true_eq_false, not_false_eq_true, and_self]
  refine ⟨fun hc => ?_, fun hc => ?_⟩
  · simp (disch := first | (simp only [dd, dr]; done) | omega) only [W_159, I_lt, I_le, I_inj, inB_I, tc_I, Int.toNat_natCast, fkt, rf1, rf0, cq, Nat.reduceAdd, Nat.reduceEqDiff, Int.reduceToNat, eq_self, true_and, and_true, true_or, or_true, bI_0, bI_1, mm, rAm, mF_sF, mR_sR, false_and, and_false, if_false, if_true, false_or, or_false, not_true_eq_false, not_false_eq_true, and_self]
    rwa [decide_eq_false (by omega)] at hQ
  · simp (disch := first | (simp only [dd, dr]; done) | omega) only [W_159, I_lt, I_le, I_inj, inB_I, tc_I, Int.toNat_natCast, fkt, rf1, rf0, cq, Nat.reduceAdd, Nat.reduceEqDiff, Int.reduceToNat, eq_self, true_and, and_true, true_or, or_true, bI_0, bI_1, mm, rAm, mF_sF, mR_sR, false_and, and_false, if_false, if_true, false_or, or_false, not_true_eq_false, not_false_eq_true, and_self]
    refine ⟨fun hc => ?_, fun hc => ?_⟩
    · simp (disch := first | (simp only [dd, dr]; done) | omega) only [W_159, I_lt, I_le, I_inj, inB_I, tc_I, Int.toNat_natCast, fkt, rf1, rf0, cq, Nat.reduceAdd, Nat.reduceEqDiff, Int.reduceToNat, eq_self, true_and, and_true, true_or, or_true, bI_0, bI_1, mm, rAm, mF_sF, mR_sR, false_and, and_false, if_false, if_true, false_or, or_false, not_true_eq_false, not_false_eq_true, and_self]
      rwa [decide_eq_false (by omega)] at hQ
    · simp (disch := first | (simp only [dd, dr]; done) | omega) only [W_159, I_lt, I_le, I_inj, inB_I, tc_I, Int.toNat_natCast, fkt, rf1, rf0, cq, Nat.reduceAdd, Nat.reduceEqDiff, Int.reduceToNat, eq_self, true_and, and_true, true_or, or_true, bI_0, bI_1, mm, rAm, mF_sF, mR_sR, false_and, and_false, if_false, if_true, false_or, or_false, not_true_eq_false, not_false_eq_true, and_self]
      rwa [decide_eq_true (by omega)] at hQ
theorem m_free (hK : MK M o) {x : Int} (h0 : 0 ≤ x) (h1 : x < 96) (hQ : Q (.returned none) (ms M o f (fz (fz (fz s (0 + x) 0) (3756 + x) 0) (3852 + x) 0) b c w j)) : Wp d 191 0 [some (.ref o), some (.int (I x))] [] (ms M o f s b c w j) Q := by
  obtain ⟨k0, k1, k2, k3, k4, k5, k6, k7, k8, k9, k10⟩ := hK
  simp (disch := first | (simp only [dd, dr]; done) | omega) only [W_191, msK, msR, k0, k1, k6, msS1, I_lt, I_le, I_inj, inB_I, tc_I, Int.toNat_natCast, fkt, rf1, rf0, cq, Nat.reduceAdd, Nat.reduceEqDiff, Int.reduceToNat, eq_self, true_and, and_true, true_or, or_true, bI_0, bI_1, mm, rAm, mF_sF, mR_sR, false_and, and_false, if_false, if_true, false_or, or_false, not_true_eq_false, not_false_eq_true, and_self]
  exact hQ
end M1
