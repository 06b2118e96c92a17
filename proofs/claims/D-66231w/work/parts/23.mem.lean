/-! ===== reading a memory that was written ===== -/
theorem mF_sF (M : Mem) (x y : Nat) (v : Int32) (p q : Nat) : mF (sF M x y v) p q = if p = x ∧ q = y then v else mF M p q := rfl
theorem mR_sR (M : Mem) (x y : Nat) (v : Option Nat) (p q : Nat) : mR (sR M x y v) p q = if p = x ∧ q = y then v else mR M p q := rfl
theorem mA_sA (M : Mem) (x y : Nat) (v : Int32) (p q : Nat) : mA (sA M x y v) p q = if p = x ∧ q = y then v else mA M p q := rfl
theorem mQ_sQ (M : Mem) (x y : Nat) (v : Option Nat) (p q : Nat) : mQ (sQ M x y v) p q = if p = x ∧ q = y then v else mQ M p q := rfl
theorem mL_sL (M : Mem) (x y : Nat) (v : Int64) (p q : Nat) : mL (sL M x y v) p q = if p = x ∧ q = y then v else mL M p q := rfl
theorem mm : (∀ (M : Mem) (x y : Nat) (v : Int32) (p : Nat) (q : Nat), mR (sF M x y v) p q = mR M p q) ∧
  (∀ (M : Mem) (x y : Nat) (v : Int32) (p : Nat) (q : Nat), mA (sF M x y v) p q = mA M p q) ∧
  (∀ (M : Mem) (x y : Nat) (v : Int32) (p : Nat) (q : Nat), mQ (sF M x y v) p q = mQ M p q) ∧
  (∀ (M : Mem) (x y : Nat) (v : Int32) (p : Nat) (q : Nat), mL (sF M x y v) p q = mL M p q) ∧
  (∀ (M : Mem) (x y : Nat) (v : Int32) (p : Nat), mK (sF M x y v) p = mK M p) ∧
  (∀ (M : Mem) (x y : Nat) (v : Int32) (p : Nat), kO (sF M x y v) p = kO M p) ∧
  (∀ (M : Mem) (x y : Nat) (v : Int32) (p : Nat), kX (sF M x y v) p = kX M p) ∧
  (∀ (M : Mem) (x y : Nat) (v : Int32), mN (sF M x y v) = mN M) ∧
  (∀ (M : Mem) (x y : Nat) (v : Int32), mS (sF M x y v) = mS M) ∧
  (∀ (M : Mem) (x y : Nat) (v : Option Nat) (p : Nat) (q : Nat), mF (sR M x y v) p q = mF M p q) ∧
  (∀ (M : Mem) (x y : Nat) (v : Option Nat) (p : Nat) (q : Nat), mA (sR M x y v) p q = mA M p q) ∧
  (∀ (M : Mem) (x y : Nat) (v : Option Nat) (p : Nat) (q : Nat), mQ (sR M x y v) p q = mQ M p q) ∧
  (∀ (M : Mem) (x y : Nat) (v : Option Nat) (p : Nat) (q : Nat), mL (sR M x y v) p q = mL M p q) ∧
  (∀ (M : Mem) (x y : Nat) (v : Option Nat) (p : Nat), mK (sR M x y v) p = mK M p) ∧
  (∀ (M : Mem) (x y : Nat) (v : Option Nat) (p : Nat), kO (sR M x y v) p = kO M p) ∧
  (∀ (M : Mem) (x y : Nat) (v : Option Nat) (p : Nat), kX (sR M x y v) p = kX M p) ∧
  (∀ (M : Mem) (x y : Nat) (v : Option Nat), mN (sR M x y v) = mN M) ∧
  (∀ (M : Mem) (x y : Nat) (v : Option Nat), mS (sR M x y v) = mS M) ∧
  (∀ (M : Mem) (x y : Nat) (v : Int32) (p : Nat) (q : Nat), mF (sA M x y v) p q = mF M p q) ∧
  (∀ (M : Mem) (x y : Nat) (v : Int32) (p : Nat) (q : Nat), mR (sA M x y v) p q = mR M p q) ∧
  (∀ (M : Mem) (x y : Nat) (v : Int32) (p : Nat) (q : Nat), mQ (sA M x y v) p q = mQ M p q) ∧
  (∀ (M : Mem) (x y : Nat) (v : Int32) (p : Nat) (q : Nat), mL (sA M x y v) p q = mL M p q) ∧
  (∀ (M : Mem) (x y : Nat) (v : Int32) (p : Nat), mK (sA M x y v) p = mK M p) ∧
  (∀ (M : Mem) (x y : Nat) (v : Int32) (p : Nat), kO (sA M x y v) p = kO M p) ∧
  (∀ (M : Mem) (x y : Nat) (v : Int32) (p : Nat), kX (sA M x y v) p = kX M p) ∧
  (∀ (M : Mem) (x y : Nat) (v : Int32), mN (sA M x y v) = mN M) ∧
  (∀ (M : Mem) (x y : Nat) (v : Int32), mS (sA M x y v) = mS M) ∧
  (∀ (M : Mem) (x y : Nat) (v : Option Nat) (p : Nat) (q : Nat), mF (sQ M x y v) p q = mF M p q) ∧
  (∀ (M : Mem) (x y : Nat) (v : Option Nat) (p : Nat) (q : Nat), mR (sQ M x y v) p q = mR M p q) ∧
  (∀ (M : Mem) (x y : Nat) (v : Option Nat) (p : Nat) (q : Nat), mA (sQ M x y v) p q = mA M p q) ∧
  (∀ (M : Mem) (x y : Nat) (v : Option Nat) (p : Nat) (q : Nat), mL (sQ M x y v) p q = mL M p q) ∧
  (∀ (M : Mem) (x y : Nat) (v : Option Nat) (p : Nat), mK (sQ M x y v) p = mK M p) ∧
  (∀ (M : Mem) (x y : Nat) (v : Option Nat) (p : Nat), kO (sQ M x y v) p = kO M p) ∧
  (∀ (M : Mem) (x y : Nat) (v : Option Nat) (p : Nat), kX (sQ M x y v) p = kX M p) ∧
  (∀ (M : Mem) (x y : Nat) (v : Option Nat), mN (sQ M x y v) = mN M) ∧
  (∀ (M : Mem) (x y : Nat) (v : Option Nat), mS (sQ M x y v) = mS M) ∧
  (∀ (M : Mem) (x y : Nat) (v : Int64) (p : Nat) (q : Nat), mF (sL M x y v) p q = mF M p q) ∧
  (∀ (M : Mem) (x y : Nat) (v : Int64) (p : Nat) (q : Nat), mR (sL M x y v) p q = mR M p q) ∧
  (∀ (M : Mem) (x y : Nat) (v : Int64) (p : Nat) (q : Nat), mA (sL M x y v) p q = mA M p q) ∧
  (∀ (M : Mem) (x y : Nat) (v : Int64) (p : Nat) (q : Nat), mQ (sL M x y v) p q = mQ M p q) ∧
  (∀ (M : Mem) (x y : Nat) (v : Int64) (p : Nat), mK (sL M x y v) p = mK M p) ∧
  (∀ (M : Mem) (x y : Nat) (v : Int64) (p : Nat), kO (sL M x y v) p = kO M p) ∧
  (∀ (M : Mem) (x y : Nat) (v : Int64) (p : Nat), kX (sL M x y v) p = kX M p) ∧
  (∀ (M : Mem) (x y : Nat) (v : Int64), mN (sL M x y v) = mN M) ∧
  (∀ (M : Mem) (x y : Nat) (v : Int64), mS (sL M x y v) = mS M) := ⟨fun _ _ _ _ _ _ => rfl, fun _ _ _ _ _ _ => rfl, fun _ _ _ _ _ _ => rfl, fun _ _ _ _ _ _ => rfl, fun _ _ _ _ _ => rfl, fun _ _ _ _ _ => rfl, fun _ _ _ _ _ => rfl, fun _ _ _ _ => rfl, fun _ _ _ _ => rfl, fun _ _ _ _ _ _ => rfl, fun _ _ _ _ _ _ => rfl, fun _ _ _ _ _ _ => rfl, fun _ _ _ _ _ _ => rfl, fun _ _ _ _ _ => rfl, fun _ _ _ _ _ => rfl, fun _ _ _ _ _ => rfl, fun _ _ _ _ => rfl, fun _ _ _ _ => rfl, fun _ _ _ _ _ _ => rfl, fun _ _ _ _ _ _ => rfl, fun _ _ _ _ _ _ => rfl, fun _ _ _ _ _ _ => rfl, fun _ _ _ _ _ => rfl, fun _ _ _ _ _ => rfl, fun _ _ _ _ _ => rfl, fun _ _ _ _ => rfl, fun _ _ _ _ => rfl, fun _ _ _ _ _ _ => rfl, fun _ _ _ _ _ _ => rfl, fun _ _ _ _ _ _ => rfl, fun _ _ _ _ _ _ => rfl, fun _ _ _ _ _ => rfl, fun _ _ _ _ _ => rfl, fun _ _ _ _ _ => rfl, fun _ _ _ _ => rfl, fun _ _ _ _ => rfl, fun _ _ _ _ _ _ => rfl, fun _ _ _ _ _ _ => rfl, fun _ _ _ _ _ _ => rfl, fun _ _ _ _ _ _ => rfl, fun _ _ _ _ _ => rfl, fun _ _ _ _ _ => rfl, fun _ _ _ _ _ => rfl, fun _ _ _ _ => rfl, fun _ _ _ _ => rfl⟩
theorem mN_nw (M : Mem) (κ : Kd) (n : Nat) : mN (nw M κ n) = mN M + 1 := rfl
theorem mS_nw (M : Mem) (κ : Kd) (n : Nat) : mS (nw M κ n) = mS M + n := rfl
theorem mK_nw (M : Mem) (κ : Kd) (n a : Nat) : mK (nw M κ n) a = if a = mN M then some κ else mK M a := rfl
theorem kO_nw (M : Mem) (k n a : Nat) : kO (nw M (.inl k) n) a = if a = mN M then k else kO M a := by
  unfold kO; rw [mK_nw]; by_cases h : a = mN M <;> simp only [h, if_true, if_false]
theorem kX_nw (M : Mem) (k n a : Nat) : kX (nw M (.inl k) n) a = if a = mN M then (9, 0) else kX M a := by
  unfold kX; rw [mK_nw]; by_cases h : a = mN M <;> simp only [h, if_true, if_false]
theorem kO_nwA (M : Mem) (p : Nat × Nat) (n a : Nat) : kO (nw M (.inr p) n) a = if a = mN M then 0 else kO M a := by
  unfold kO; rw [mK_nw]; by_cases h : a = mN M <;> simp only [h, if_true, if_false]
theorem kX_nwA (M : Mem) (p : Nat × Nat) (n a : Nat) : kX (nw M (.inr p) n) a = if a = mN M then p else kX M a := by
  unfold kX; rw [mK_nw]; by_cases h : a = mN M <;> simp only [h, if_true, if_false]
theorem mF_nw (M : Mem) (κ : Kd) (n f a : Nat) : mF (nw M κ n) f a = if a = mN M then 0 else mF M f a := rfl
theorem mR_nw (M : Mem) (κ : Kd) (n f a : Nat) : mR (nw M κ n) f a = if a = mN M then none else mR M f a := rfl
theorem mA_nw (M : Mem) (κ : Kd) (n a i : Nat) : mA (nw M κ n) a i = if a = mN M then 0 else mA M a i := rfl
theorem mQ_nw (M : Mem) (κ : Kd) (n a i : Nat) : mQ (nw M κ n) a i = if a = mN M then none else mQ M a i := rfl
theorem mL_nw (M : Mem) (κ : Kd) (n a i : Nat) : mL (nw M κ n) a i = if a = mN M then 0 else mL M a i := rfl
theorem nwz (M : Mem) (κ : Kd) (n k : Nat) (p : Nat × Nat) (f a i : Nat) : mF (nw M κ n) f a = (if a = mN M then 0 else mF M f a) ∧ mR (nw M κ n) f a = (if a = mN M then none else mR M f a) ∧ mA (nw M κ n) a i = (if a = mN M then 0 else mA M a i) ∧ mQ (nw M κ n) a i = (if a = mN M then none else mQ M a i) ∧ mL (nw M κ n) a i = (if a = mN M then 0 else mL M a i) := ⟨rfl, rfl, rfl, rfl, rfl⟩
theorem fkt : fk 0 1 = true ∧ fk 1 1 = true ∧ fk 2 1 = true ∧ fk 3 1 = true ∧ fk 4 1 = true ∧ fk 5 1 = true ∧ fk 6 1 = true ∧ fk 7 1 = true ∧ fk 8 1 = true ∧ fk 9 1 = true ∧ fk 10 2 = true ∧ fk 11 2 = true ∧ fk 12 3 = true ∧ fk 13 3 = true ∧ fk 14 3 = true ∧ fk 15 3 = true ∧ fk 16 3 = true ∧ fk 17 3 = true ∧ fk 18 3 = true ∧ fk 19 4 = true ∧ fk 20 4 = true ∧ fk 21 4 = true ∧ fk 22 4 = true ∧ fk 23 4 = true ∧ fk 24 4 = true ∧ fk 25 4 = true ∧ fk 26 4 = true ∧ fk 27 4 = true ∧ fk 28 4 = true ∧ fk 29 4 = true ∧ fk 30 5 = true ∧ fk 31 5 = true ∧ fk 32 5 = true ∧ fk 33 5 = true ∧ fk 34 5 = true ∧ fk 35 5 = true ∧ fk 36 5 = true ∧ fk 37 5 = true ∧ fk 38 5 = true ∧ fk 30 6 = true ∧ fk 31 6 = true ∧ fk 32 6 = true ∧ fk 33 6 = true ∧ fk 39 6 = true ∧ fk 40 6 = true ∧ fk 41 6 = true ∧ fk 42 8 = true ∧ fk 43 8 = true ∧ fk 44 8 = true ∧ fk 45 8 = true ∧ fk 46 8 = true ∧ fk 47 8 = true ∧ fk 48 8 = true ∧ fk 49 8 = true ∧ fk 50 8 = true ∧ fk 51 8 = true ∧ fk 52 8 = true ∧ fk 53 8 = true ∧ fk 54 8 = true ∧ fk 55 8 = true ∧ fk 56 8 = true := by decide
theorem rf1 (a : Nat) : va_rf (some a) = .ref a := rfl
theorem rf0 : va_rf none = .null := rfl
theorem cq {d y pc : Nat} {ls : Lc} {r : List Value} {Q : Outcome → Mem → Prop} {M : Mem} : Cq d y pc ls r Q (.returned none) M = Wp d y (pc + 3) ls r M Q ∧ (∀ v, Cq d y pc ls r Q (.returned (some v)) M = Wp d y (pc + 3) ls (v :: r) M Q) ∧ (∀ a, Cq d y pc ls r Q (.threw a) M = Th d y pc ls a M Q) := ⟨rfl, fun _ => rfl, fun _ => rfl⟩
theorem bI_0 (b : Bool) : (I (bI b) = I 0) = (b = false) := by cases b <;> decide
theorem bI_1 (b : Bool) : (I (bI b) = I 1) = (b = true) := by cases b <;> decide
theorem bI_t : bI true = 1 := rfl
theorem bI_f : bI false = 0 := rfl
/-- the byte of an int -/
def bB (z : Int) : Int32 := (I z).toInt8.toInt32
theorem bB_def (z : Int) : (I z).toInt8.toInt32 = bB z := rfl
theorem bB_i2b (z : Int) : (bB z).toInt8.toInt32 = bB z := by
  have h := pk_vb (I z)
  rw [vp_nar_byte] at h
  exact h
theorem nrw_1 (v : Int32) : nrw 1 v = v.toInt8.toInt32 := vp_nar_byte v
theorem nrw_b (z : Int) : nrw 1 (bB z) = bB z := by rw [nrw_1, bB_i2b]
theorem nrw_2 {z : Int} (h : z = 0 ∨ z = 1) : nrw 2 (I z) = I z := by rcases h with rfl | rfl <;> decide
theorem nrw_2b (b : Bool) : nrw 2 (I (bI b)) = I (bI b) := by cases b <;> decide
theorem I_nat (n : Nat) : I (n : Int) = nI n := rfl
theorem I_bv (z : Int) : (I z).toBitVec.toNat = (z % 4294967296).toNat := by
  have : (I z).toBitVec = BitVec.ofInt 32 z := rfl
  rw [this, BitVec.toNat_ofInt]; rfl
theorem bB_toInt (z : Int) : (bB z).toInt = if z % 256 < 128 then z % 256 else z % 256 - 256 := by
  unfold bB
  rw [Int8.toInt_toInt32, Int32.toInt_toInt8]
  have e1 : (I z).toInt.bmod (2 ^ 8) = z.bmod (2 ^ 8) := by
    have : (I z).toInt = z.bmod Int32.size := Int32.toInt_ofInt
    rw [this]
    exact Int.bmod_bmod_of_dvd (by decide)
  rw [e1, Int.bmod_def]
  rfl
theorem bB_and (z : Int) : bB z &&& I 255 = I (z % 256) := by
  have h1 := bB_toInt z
  rw [pk_and (bB z) (m := I 255) 8 (by decide), I_of (bB z), I_bv, ← I_nat, h1]
  congr 1
  split <;> omega
theorem bB_mod (z : Int) : bB (z % 256) = bB z := by
  apply Int32.toInt_inj.mp
  rw [bB_toInt, bB_toInt, Int.emod_emod_of_dvd _ (by decide)]
theorem bB_inj {a b : Int} : (bB a = bB b) = (a % 256 = b % 256) := by
  refine propext ⟨fun h => ?_, fun h => ?_⟩
  · have h2 := congrArg (fun w => w &&& I 255) h
    simp only [bB_and] at h2
    rw [I_inj (by omega) (by omega) (by omega) (by omega)] at h2
    exact h2
  · rw [← bB_mod a, ← bB_mod b, h]
theorem bB_0 : bB 0 = I 0 := by decide
theorem bB_1 : bB 1 = I 1 := by decide
/-! what the run of the code discharges by itself -/
theorem dd : (∀ a, lo (some (.ref a)) = false) ∧ (∀ v, lo (some (.int v)) = false) ∧ lo (some .null) = false ∧ lo none = false ∧ smallR [] = true := ⟨fun _ => rfl, fun _ => rfl, rfl, rfl, rfl⟩
theorem cat_le (v : Value) : v.category ≤ 2 := by cases v <;> simp [Value.category]
theorem dr : (∀ a, smallR [a] = true) ∧ (∀ a b, smallR [a, b] = true) ∧ (∀ a b c, smallR [a, b, c] = true) ∧ (∀ a b c d, smallR [a, b, c, d] = true) := by
  refine ⟨fun a => ?_, fun a b => ?_, fun a b c => ?_, fun a b c d => ?_⟩ <;> (unfold smallR; simp only [List.map_cons, List.map_nil, List.sum_cons, List.sum_nil, decide_eq_true_eq])
  · have := cat_le a; omega
  · have := cat_le a; have := cat_le b; omega
  · have := cat_le a; have := cat_le b; have := cat_le c; omega
  · have := cat_le a; have := cat_le b; have := cat_le c; have := cat_le d; omega

