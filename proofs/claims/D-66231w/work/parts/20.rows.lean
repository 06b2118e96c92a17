/-! ===== ROWS OF Wp, one for each kind of instruction ===== -/
/-- an int of the machine -/
def I (z : Int) : Int32 := Int32.ofInt z
theorem I_add (a b : Int) : I a + I b = I (a + b) := (Int32.ofInt_add a b).symm
theorem I_sub (a b : Int) : I a - I b = I (a - b) := (Int32.ofInt_sub a b).symm
theorem I_mul (a b : Int) : I a * I b = I (a * b) := (Int32.ofInt_mul a b).symm
theorem I_toInt {z : Int} (h1 : -2147483648 ≤ z) (h2 : z < 2147483648) : (I z).toInt = z := Int32.toInt_ofInt_of_le (by omega) (by omega)
theorem I_of (x : Int32) : x = I x.toInt := (Int32.ofInt_toInt x).symm
theorem I_inj {a b : Int} (a1 : -2147483648 ≤ a) (a2 : a < 2147483648) (b1 : -2147483648 ≤ b) (b2 : b < 2147483648) : (I a = I b) = (a = b) := by
  refine propext ⟨fun h => ?_, fun h => by rw [h]⟩
  have := congrArg Int32.toInt h
  rwa [I_toInt a1 a2, I_toInt b1 b2] at this
theorem I_lt {a b : Int} (a1 : -2147483648 ≤ a) (a2 : a < 2147483648) (b1 : -2147483648 ≤ b) (b2 : b < 2147483648) : (I a < I b) = (a < b) := by
  rw [Int32.lt_iff_toInt_lt, I_toInt a1 a2, I_toInt b1 b2]
theorem I_le {a b : Int} (a1 : -2147483648 ≤ a) (a2 : a < 2147483648) (b1 : -2147483648 ≤ b) (b2 : b < 2147483648) : (I a ≤ I b) = (a ≤ b) := by
  rw [Int32.le_iff_toInt_le, I_toInt a1 a2, I_toInt b1 b2]
theorem tc_I {z : Int} (h1 : 0 ≤ z) (h2 : z < 2147483648) : (I z).toNatClampNeg = z.toNat := by
  rw [Int32.toNatClampNeg, I_toInt (by omega) h2]
theorem I_0 : (0 : Int32) = I 0 := rfl
theorem I_1 : (1 : Int32) = I 1 := rfl
theorem inB_I {z : Int} {n : Nat} (h1 : 0 ≤ z) (h2 : z < n) (h3 : n < 2147483648) : inB (I z) n = true := by
  unfold inB
  simp only [tc_I h1 (show z < 2147483648 by omega), Bool.and_eq_true, Bool.not_eq_true', decide_eq_false_iff_not, decide_eq_true_eq]
  rw [I_0, I_lt (by omega) (by omega) (by omega) (by omega)]
  omega
theorem I_div {a b : Int} (a1 : 0 ≤ a) (a2 : a < 2147483648) (b1 : 0 < b) (b2 : b < 2147483648) : I a / I b = I (a / b) := by
  have h : ¬ (a / b < 0) := by have := Int.ediv_nonneg a1 (by omega : 0 ≤ b); omega
  have h9 : a / b ≤ a := Int.ediv_le_self b a1
  apply Int32.toInt_inj.mp
  rw [Int32.toInt_div_of_ne_left, I_toInt (by omega) a2, I_toInt (by omega) b2, I_toInt (by omega) (by omega), Int.tdiv_eq_ediv_of_nonneg a1]
  intro h5
  have h6 := congrArg Int32.toInt h5
  rw [I_toInt (by omega) a2] at h6
  have h7 : (Int32.minValue).toInt = -2147483648 := by decide
  omega
theorem I_rem {a b : Int} (a1 : 0 ≤ a) (a2 : a < 2147483648) (b1 : 0 < b) (b2 : b < 2147483648) : I a - I a / I b * I b = I (a % b) := by
  rw [I_div a1 a2 b1 b2, I_mul, I_sub, Int.emod_def, Int.mul_comm b]
/-- the class of an object; an array's type and length -/
def kO (M : Mem) (a : Nat) : Nat := match mK M a with
  | some (.inl k) => k
  | _ => 0
def kX (M : Mem) (a : Nat) : Nat × Nat := match mK M a with
  | some (.inr p) => p
  | _ => (9, 0)
def fk (f k : Nat) : Bool := decide (f ∈ cFl k)
/-- a branch -/
def Br (c : Prop) (d y t pc : Nat) (ls : Lc) (st : List Value) (M : Mem) (Q : Outcome → Mem → Prop) : Prop := (c → Wp d y t ls st M Q) ∧ (¬ c → Wp d y pc ls st M Q)
def lo : Option Value → Bool
  | some w => w.category == 2
  | none => false
section Rows
variable {d y pc : Nat} {ls : Lc} {st : List Value} {M : Mem} {Q : Outcome → Mem → Prop}
theorem wM {i : Instr} {len pc' : Nat} {st' : List Value} {M' : Mem} (h : ins y pc = some (i, len)) (hA : stA i len pc ls st = none) (hM : stM (mC y) ((mq y).1.name == "<init>") i len pc st M = some (pc', st', M')) : Wp d y pc ls st M Q = Wp d y pc' ls st' M' Q := by
  refine propext ((Wp_iff h).trans ?_)
  unfold Xo
  rw [hA]
  simp only [hM]
theorem wN {i : Instr} {len : Nat} (h : ins y pc = some (i, len)) (hA : stA i len pc ls st = none) (hM : stM (mC y) ((mq y).1.name == "<init>") i len pc st M = none) (hc : cal (mC y) i len st M = none) (hr : rt1 (mq y) i len st = none) (ht : tnw (mq y) i len pc st M = none) (hi : i ≠ .athrow) : Wp d y pc ls st M Q = False := by
  refine propext ((Wp_iff h).trans ?_)
  unfold Xo
  rw [hA]
  simp only [hM, hc, hr, ht]
  split
  · exact (hi rfl).elim
  · exact Iff.rfl
theorem wOr {i : Instr} {len pc' : Nat} {st' : List Value} {M' : Mem} {P : Prop} (h : ins y pc = some (i, len)) (hA : stA i len pc ls st = none) (hM : P → stM (mC y) ((mq y).1.name == "<init>") i len pc st M = some (pc', st', M')) (hN : ¬ P → stM (mC y) ((mq y).1.name == "<init>") i len pc st M = none) (hc : cal (mC y) i len st M = none) (hr : rt1 (mq y) i len st = none) (ht : tnw (mq y) i len pc st M = none) (hi : i ≠ .athrow) : Wp d y pc ls st M Q = (P ∧ Wp d y pc' ls st' M' Q) := by
  by_cases hP : P
  · rw [wM h hA (hM hP)]; exact propext ⟨fun k => ⟨hP, k⟩, fun k => k.2⟩
  · rw [wN h hA (hN hP) hc hr ht hi]; exact propext ⟨fun k => k.elim, fun k => hP k.1⟩
theorem w_getI {idx f r0 a : Nat} {b0 : Bool} (h : ins y pc = some (.getfield idx, 3)) (hr : fRes (mC y) idx = some (f, r0, b0)) (hk : ¬ (fD f).2.2.2.2 = 2) : Wp d y pc ls (.ref a :: st) M Q = (fk f (kO M a) = true ∧ Wp d y (pc + 3) ls (.int (mF M f a) :: st) M Q) := by
  have e1 : ∀ k, mK M a = some (.inl k) → kO M a = k := fun k hk => by simp only [kO, hk]
  refine wOr h rfl ?_ ?_ rfl rfl rfl (by intro h; cases h)
  · intro hP
    unfold stM
    simp only [hr]
    unfold kO at hP
    split at hP
    · rename_i k hK
      simp only [hK]
      rw [if_pos ⟨trivial, of_decide_eq_true hP⟩, fV, if_neg hk]
    · exact absurd hP (by simp [fk, cFl])
  · intro hP
    unfold stM
    simp only [hr]
    unfold kO at hP
    split
    · rename_i k hK
      simp only [hK] at hP
      rw [if_neg (fun h => hP (decide_eq_true h.2))]
    · rfl
theorem w_getR {idx f r0 a : Nat} {b0 : Bool} (h : ins y pc = some (.getfield idx, 3)) (hr : fRes (mC y) idx = some (f, r0, b0)) (hk : (fD f).2.2.2.2 = 2) : Wp d y pc ls (.ref a :: st) M Q = (fk f (kO M a) = true ∧ Wp d y (pc + 3) ls (va_rf (mR M f a) :: st) M Q) := by
  refine wOr h rfl ?_ ?_ rfl rfl rfl (by intro h; cases h)
  · intro hP
    unfold stM
    simp only [hr]
    unfold kO at hP
    split at hP
    · rename_i k hK
      simp only [hK]
      rw [if_pos ⟨trivial, of_decide_eq_true hP⟩, fV, if_pos hk]
    · exact absurd hP (by simp [fk, cFl])
  · intro hP
    unfold stM
    simp only [hr]
    unfold kO at hP
    split
    · rename_i k hK
      simp only [hK] at hP
      rw [if_neg (fun h => hP (decide_eq_true h.2))]
    · rfl
theorem w_put {idx f r0 a : Nat} {b0 : Bool} {v : Value} {M' : Mem} (h : ins y pc = some (.putfield idx, 3)) (hr : fRes (mC y) idx = some (f, r0, b0)) (hfin : (fD f).2.2.2.1 = true → ((mq y).1.name == "<init>") = true ∧ b0 = false ∧ (fD f).1 = nmC (mC y)) (hP : fP M f a v = some M') : Wp d y pc ls (v :: .ref a :: st) M Q = (fk f (kO M a) = true ∧ Wp d y (pc + 3) ls st M' Q) := by
  refine wOr h rfl ?_ ?_ rfl rfl rfl (by intro h; cases h)
  · intro hO
    unfold stM
    simp only [hr, hP]
    unfold kO at hO
    split at hO
    · rename_i k hK
      simp only [hK]
      rw [if_pos ⟨trivial, of_decide_eq_true hO, hfin⟩]
    · exact absurd hO (by simp [fk, cFl])
  · intro hO
    unfold stM
    simp only [hr, hP]
    unfold kO at hO
    split
    · rename_i k M'' hK hM''
      simp only [hK] at hO
      rw [if_neg (fun h => hO (decide_eq_true h.2.1))]
    · rfl
theorem w_putI {idx f r0 a : Nat} {b0 : Bool} {v : Int32} (h : ins y pc = some (.putfield idx, 3)) (hr : fRes (mC y) idx = some (f, r0, b0)) (hfin : (fD f).2.2.2.1 = true → ((mq y).1.name == "<init>") = true ∧ b0 = false ∧ (fD f).1 = nmC (mC y)) (hk : (fD f).2.2.2.2 = 0) : Wp d y pc ls (.int v :: .ref a :: st) M Q = (fk f (kO M a) = true ∧ Wp d y (pc + 3) ls st (sF M f a v) Q) :=
  w_put h hr hfin (by unfold fP; simp only [hk])
theorem w_putZ {idx f r0 a : Nat} {b0 : Bool} {v : Int} (h : ins y pc = some (.putfield idx, 3)) (hr : fRes (mC y) idx = some (f, r0, b0)) (hfin : (fD f).2.2.2.1 = true → ((mq y).1.name == "<init>") = true ∧ b0 = false ∧ (fD f).1 = nmC (mC y)) (hk : (fD f).2.2.2.2 = 1) (hv : v = 0 ∨ v = 1) : Wp d y pc ls (.int (I v) :: .ref a :: st) M Q = (fk f (kO M a) = true ∧ Wp d y (pc + 3) ls st (sF M f a (I v)) Q) :=
  w_put h hr hfin (by unfold fP; simp only [hk]; exact if_pos (by rcases hv with h | h; exact .inl (by rw [h]; rfl); exact .inr (by rw [h]; rfl)))
theorem w_putR {idx f r0 a : Nat} {b0 : Bool} {v : Option Nat} (h : ins y pc = some (.putfield idx, 3)) (hr : fRes (mC y) idx = some (f, r0, b0)) (hfin : (fD f).2.2.2.1 = true → ((mq y).1.name == "<init>") = true ∧ b0 = false ∧ (fD f).1 = nmC (mC y)) (hk : (fD f).2.2.2.2 = 2) : Wp d y pc ls (va_rf v :: .ref a :: st) M Q = (fk f (kO M a) = true ∧ Wp d y (pc + 3) ls st (sR M f a v) Q) :=
  w_put h hr hfin (by unfold fP; simp only [hk]; cases v <;> rfl)
theorem w_iaload {a : Nat} {j : Int32} (h : ins y pc = some (.iaload, 1)) : Wp d y pc ls (.int j :: .ref a :: st) M Q = ((((kX M a).1 = 0 ∨ (kX M a).1 = 8) ∧ inB j (kX M a).2 = true) ∧ Wp d y (pc + 1) ls (.int (mA M a j.toNatClampNeg) :: st) M Q) := by
  refine wOr h rfl ?_ ?_ rfl rfl rfl (by intro h; cases h)
  · intro hP
    unfold stM
    unfold kX at hP
    split at hP
    · rename_i p hK
      simp only [hK]
      rw [if_pos ⟨trivial, hP⟩]
    · simp at hP
  · intro hP
    unfold stM
    unfold kX at hP
    simp only []
    split
    · rename_i t n hK
      simp only [hK] at hP
      rw [if_neg (fun h => hP h.2)]
    · rfl
theorem w_baload {a : Nat} {j : Int32} (h : ins y pc = some (.baload, 1)) : Wp d y pc ls (.int j :: .ref a :: st) M Q = ((((kX M a).1 = 1 ∨ (kX M a).1 = 2) ∧ inB j (kX M a).2 = true) ∧ Wp d y (pc + 1) ls (.int (mA M a j.toNatClampNeg) :: st) M Q) := by
  refine wOr h rfl ?_ ?_ rfl rfl rfl (by intro h; cases h)
  · intro hP
    unfold stM
    unfold kX at hP
    split at hP
    · rename_i p hK
      simp only [hK]
      rw [if_pos ⟨trivial, hP⟩]
    · simp at hP
  · intro hP
    unfold stM
    unfold kX at hP
    simp only []
    split
    · rename_i t n hK
      simp only [hK] at hP
      rw [if_neg (fun h => hP h.2)]
    · rfl
theorem w_laload {a : Nat} {j : Int32} (h : ins y pc = some (.laload, 1)) : Wp d y pc ls (.int j :: .ref a :: st) M Q = (((kX M a).1 = 3 ∧ inB j (kX M a).2 = true) ∧ Wp d y (pc + 1) ls (.long (mL M a j.toNatClampNeg) :: st) M Q) := by
  refine wOr h rfl ?_ ?_ rfl rfl rfl (by intro h; cases h)
  · intro hP
    unfold stM
    unfold kX at hP
    split at hP
    · rename_i p hK
      simp only [hK]
      rw [if_pos ⟨trivial, hP⟩]
    · simp at hP
  · intro hP
    unfold stM
    unfold kX at hP
    simp only []
    split
    · rename_i t n hK
      simp only [hK] at hP
      rw [if_neg (fun h => hP h.2)]
    · rfl
theorem w_aaload {a : Nat} {j : Int32} (h : ins y pc = some (.aaload, 1)) : Wp d y pc ls (.int j :: .ref a :: st) M Q = ((((kX M a).1 = 4 ∨ (kX M a).1 = 5 ∨ (kX M a).1 = 6 ∨ (kX M a).1 = 7) ∧ inB j (kX M a).2 = true) ∧ Wp d y (pc + 1) ls (va_rf (mQ M a j.toNatClampNeg) :: st) M Q) := by
  refine wOr h rfl ?_ ?_ rfl rfl rfl (by intro h; cases h)
  · intro hP
    unfold stM
    unfold kX at hP
    split at hP
    · rename_i p hK
      simp only [hK]
      rw [if_pos ⟨trivial, hP⟩]
    · simp at hP
  · intro hP
    unfold stM
    unfold kX at hP
    simp only []
    split
    · rename_i t n hK
      simp only [hK] at hP
      rw [if_neg (fun h => hP h.2)]
    · rfl
theorem w_iastore {a : Nat} {j v : Int32} (h : ins y pc = some (.iastore, 1)) : Wp d y pc ls (.int v :: .int j :: .ref a :: st) M Q = (((kX M a).1 = 0 ∧ inB j (kX M a).2 = true) ∧ Wp d y (pc + 1) ls st (sA M a j.toNatClampNeg v) Q) := by
  refine wOr h rfl ?_ ?_ rfl rfl rfl (by intro h; cases h)
  · intro hP
    unfold stM
    unfold kX at hP
    split at hP
    · rename_i p hK
      simp only [hK]
      rw [if_pos ⟨trivial, hP⟩]
    · simp at hP
  · intro hP
    unfold stM
    unfold kX at hP
    simp only []
    split
    · rename_i t n hK
      simp only [hK] at hP
      rw [if_neg (fun h => hP h.2)]
    · rfl
theorem w_lastore {a : Nat} {j : Int32} {v : Int64} (h : ins y pc = some (.lastore, 1)) : Wp d y pc ls (.long v :: .int j :: .ref a :: st) M Q = (((kX M a).1 = 3 ∧ inB j (kX M a).2 = true) ∧ Wp d y (pc + 1) ls st (sL M a j.toNatClampNeg v) Q) := by
  refine wOr h rfl ?_ ?_ rfl rfl rfl (by intro h; cases h)
  · intro hP
    unfold stM
    unfold kX at hP
    split at hP
    · rename_i p hK
      simp only [hK]
      rw [if_pos ⟨trivial, hP⟩]
    · simp at hP
  · intro hP
    unfold stM
    unfold kX at hP
    simp only []
    split
    · rename_i t n hK
      simp only [hK] at hP
      rw [if_neg (fun h => hP h.2)]
    · rfl
/-- what an array of bytes or booleans takes of an int -/
def nrw (t : Nat) (v : Int32) : Int32 := vp_nar (tyA t) v
theorem w_bastore {a : Nat} {j v : Int32} (h : ins y pc = some (.bastore, 1)) : Wp d y pc ls (.int v :: .int j :: .ref a :: st) M Q = ((((kX M a).1 = 1 ∨ (kX M a).1 = 2) ∧ inB j (kX M a).2 = true) ∧ Wp d y (pc + 1) ls st (sA M a j.toNatClampNeg (nrw (kX M a).1 v)) Q) := by
  refine wOr h rfl ?_ ?_ rfl rfl rfl (by intro h; cases h)
  · intro hP
    unfold stM
    unfold kX at hP
    split at hP
    · rename_i p hK
      simp only [hK, kX]
      rw [if_pos ⟨trivial, hP⟩, nrw]
    · simp at hP
  · intro hP
    unfold stM
    unfold kX at hP
    simp only []
    split
    · rename_i t n hK
      simp only [hK] at hP
      rw [if_neg (fun h => hP h.2)]
    · rfl
theorem w_aastoreN {a : Nat} {j : Int32} (h : ins y pc = some (.aastore, 1)) : Wp d y pc ls (.null :: .int j :: .ref a :: st) M Q = ((((kX M a).1 = 5 ∨ (kX M a).1 = 6 ∨ (kX M a).1 = 7) ∧ inB j (kX M a).2 = true) ∧ Wp d y (pc + 1) ls st (sQ M a j.toNatClampNeg none) Q) := by
  refine wOr h rfl ?_ ?_ rfl rfl rfl (by intro h; cases h)
  · intro hP
    unfold stM
    unfold kX at hP
    split at hP
    · rename_i p hK
      simp only [hK]
      rw [if_pos ⟨trivial, hP⟩]
    · simp at hP
  · intro hP
    unfold stM
    unfold kX at hP
    simp only []
    split
    · rename_i t n hK
      simp only [hK] at hP
      rw [if_neg (fun h => hP h.2)]
    · rfl
theorem w_aastore {a v : Nat} {j : Int32} (h : ins y pc = some (.aastore, 1)) : Wp d y pc ls (.ref v :: .int j :: .ref a :: st) M Q = ((fitQ (kX M a).1 (kO M v) = true ∧ inB j (kX M a).2 = true) ∧ Wp d y (pc + 1) ls st (sQ M a j.toNatClampNeg (some v)) Q) := by
  refine wOr h rfl ?_ ?_ rfl rfl rfl (by intro h; cases h)
  · intro hP
    unfold stM
    unfold kX kO at hP
    split at hP
    · rename_i p hK
      simp only [hK]
      split at hP
      · rename_i k hO
        simp only [hO]
        rw [if_pos ⟨trivial, hP⟩]
      · simp [fitQ] at hP
    · simp [fitQ] at hP
  · intro hP
    unfold stM
    unfold kX kO at hP
    simp only []
    split
    · rename_i t n k hK hO
      simp only [hK, hO] at hP
      rw [if_neg (fun h => hP h.2)]
    · rfl
theorem w_arrlen {a t n : Nat} (h : ins y pc = some (.arraylength, 1)) (hk : kX M a = (t, n)) (ht : t ≠ 9) : Wp d y pc ls (.ref a :: st) M Q = Wp d y (pc + 1) ls (.int (I (n : Nat)) :: st) M Q := by
  unfold kX at hk
  split at hk
  · rename_i p hK
    subst hk
    exact wM h rfl (by unfold stM; simp only [hK]; rfl)
  · cases hk; exact absurd rfl ht
end Rows
