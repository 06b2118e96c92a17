/-! ===== THE COMPONENT: small methods on objects ===== -/
section Sml
variable {d p m J : Nat} {M : Mem} {A : Ad} {T : Tr} {X : Ob} {Q : Outcome → Mem → Prop}
theorem nw_kO (M : Mem) (k n : Nat) : kO (nw M (.inl k) n) (mN M) = k := by
  unfold kO mK nw
  simp
theorem c_there {b : Bool} (h1 : b = true → Q (.returned none) M) (h2 : b = false → Q (.threw (mN M)) (nw M (.inl 12) 6)) : Wp d 37 0 [some (.int (I (bI b)))] [] M Q := by
  simp (disch := first | (simp only [dd, dr]; done) | omega) only [W_37, I_lt, I_le, I_inj, inB_I, tc_I, Int.toNat_natCast, fkt, rf1, rf0, cq, Nat.reduceAdd, Nat.reduceEqDiff, Int.reduceToNat, eq_self, true_and, and_true, true_or, or_true, bI_0, bI_1, mm, rAm, mF_sF, mR_sR, false_and, and_false, if_false, if_true, false_or, or_false, not_true_eq_false, not_false_eq_true, and_self]
  refine ⟨fun h => ?_, fun h => ?_⟩
  · simp (disch := first | (simp only [dd, dr]; done) | omega) only [W_37, I_lt, I_le, I_inj, inB_I, tc_I, Int.toNat_natCast, fkt, rf1, rf0, cq, Nat.reduceAdd, Nat.reduceEqDiff, Int.reduceToNat, eq_self, true_and, and_true, true_or, or_true, bI_0, bI_1, mm, rAm, mF_sF, mR_sR, false_and, and_false, if_false, if_true, false_or, or_false, not_true_eq_false, not_false_eq_true, and_self]; exact h1 (by simpa using h)
  · simp (disch := first | (simp only [dd, dr]; done) | omega) only [W_37, I_lt, I_le, I_inj, inB_I, tc_I, Int.toNat_natCast, fkt, rf1, rf0, cq, Nat.reduceAdd, Nat.reduceEqDiff, Int.reduceToNat, eq_self, true_and, and_true, true_or, or_true, bI_0, bI_1, mm, rAm, mF_sF, mR_sR, false_and, and_false, if_false, if_true, false_or, or_false, not_true_eq_false, not_false_eq_true, and_self]; exact h2 (by simpa using h)
theorem c_proper {b : Bool} (h1 : b = true → Q (.returned none) M) (h2 : b = false → Q (.threw (mN M)) (nw M (.inl 13) 6)) : Wp d 39 0 [some (.int (I (bI b)))] [] M Q := by
  simp (disch := first | (simp only [dd, dr]; done) | omega) only [W_39, I_lt, I_le, I_inj, inB_I, tc_I, Int.toNat_natCast, fkt, rf1, rf0, cq, Nat.reduceAdd, Nat.reduceEqDiff, Int.reduceToNat, eq_self, true_and, and_true, true_or, or_true, bI_0, bI_1, mm, rAm, mF_sF, mR_sR, false_and, and_false, if_false, if_true, false_or, or_false, not_true_eq_false, not_false_eq_true, and_self]
  refine ⟨fun h => ?_, fun h => ?_⟩
  · simp (disch := first | (simp only [dd, dr]; done) | omega) only [W_39, I_lt, I_le, I_inj, inB_I, tc_I, Int.toNat_natCast, fkt, rf1, rf0, cq, Nat.reduceAdd, Nat.reduceEqDiff, Int.reduceToNat, eq_self, true_and, and_true, true_or, or_true, bI_0, bI_1, mm, rAm, mF_sF, mR_sR, false_and, and_false, if_false, if_true, false_or, or_false, not_true_eq_false, not_false_eq_true, and_self]; exact h1 (by simpa using h)
  · simp (disch := first | (simp only [dd, dr]; done) | omega) only [W_39, I_lt, I_le, I_inj, inB_I, tc_I, Int.toNat_natCast, fkt, rf1, rf0, cq, Nat.reduceAdd, Nat.reduceEqDiff, Int.reduceToNat, eq_self, true_and, and_true, true_or, or_true, bI_0, bI_1, mm, rAm, mF_sF, mR_sR, false_and, and_false, if_false, if_true, false_or, or_false, not_true_eq_false, not_false_eq_true, and_self]; exact h2 (by simpa using h)
theorem c_can {b : Bool} (h1 : b = true → Q (.returned none) M) (h2 : b = false → Q (.threw (mN M)) (nw M (.inl 14) 6)) : Wp d 42 0 [some (.int (I (bI b)))] [] M Q := by
  simp (disch := first | (simp only [dd, dr]; done) | omega) only [W_42, I_lt, I_le, I_inj, inB_I, tc_I, Int.toNat_natCast, fkt, rf1, rf0, cq, Nat.reduceAdd, Nat.reduceEqDiff, Int.reduceToNat, eq_self, true_and, and_true, true_or, or_true, bI_0, bI_1, mm, rAm, mF_sF, mR_sR, false_and, and_false, if_false, if_true, false_or, or_false, not_true_eq_false, not_false_eq_true, and_self]
  refine ⟨fun h => ?_, fun h => ?_⟩
  · simp (disch := first | (simp only [dd, dr]; done) | omega) only [W_42, I_lt, I_le, I_inj, inB_I, tc_I, Int.toNat_natCast, fkt, rf1, rf0, cq, Nat.reduceAdd, Nat.reduceEqDiff, Int.reduceToNat, eq_self, true_and, and_true, true_or, or_true, bI_0, bI_1, mm, rAm, mF_sF, mR_sR, false_and, and_false, if_false, if_true, false_or, or_false, not_true_eq_false, not_false_eq_true, and_self]; exact h1 (by simpa using h)
  · simp (disch := first | (simp only [dd, dr]; done) | omega) only [W_42, I_lt, I_le, I_inj, inB_I, tc_I, Int.toNat_natCast, fkt, rf1, rf0, cq, Nat.reduceAdd, Nat.reduceEqDiff, Int.reduceToNat, eq_self, true_and, and_true, true_or, or_true, bI_0, bI_1, mm, rAm, mF_sF, mR_sR, false_and, and_false, if_false, if_true, false_or, or_false, not_true_eq_false, not_false_eq_true, and_self]; exact h2 (by simpa using h)
theorem c_on {off : Bool} (P : PK M p m J) (ho : mF M 25 (p + 205) = I (bI off)) (h1 : off = false → Q (.returned none) M) (h2 : off = true → Q (.threw (mN M)) (nw M (.inl 11) 6)) : Wp d 30 0 [some (.ref p)] [] M Q := by
  have k0 := P.1.1
  have k2 := P.1.2.2.2.2.2.2.2.2.2.1
  have kd := P.2.2.2.2.1.1
  simp (disch := first | (simp only [dd, dr]; done) | omega) only [W_30, k0, k2, kd, ho, I_lt, I_le, I_inj, inB_I, tc_I, Int.toNat_natCast, fkt, rf1, rf0, cq, Nat.reduceAdd, Nat.reduceEqDiff, Int.reduceToNat, eq_self, true_and, and_true, true_or, or_true, bI_0, bI_1, mm, rAm, mF_sF, mR_sR, false_and, and_false, if_false, if_true, false_or, or_false, not_true_eq_false, not_false_eq_true, and_self]
  refine ⟨fun h => ?_, fun h => ?_⟩
  · simp (disch := first | (simp only [dd, dr]; done) | omega) only [W_30, I_lt, I_le, I_inj, inB_I, tc_I, Int.toNat_natCast, fkt, rf1, rf0, cq, Nat.reduceAdd, Nat.reduceEqDiff, Int.reduceToNat, eq_self, true_and, and_true, true_or, or_true, bI_0, bI_1, mm, rAm, mF_sF, mR_sR, false_and, and_false, if_false, if_true, false_or, or_false, not_true_eq_false, not_false_eq_true, and_self]; exact h1 h
  · simp (disch := first | (simp only [dd, dr]; done) | omega) only [W_30, I_lt, I_le, I_inj, inB_I, tc_I, Int.toNat_natCast, fkt, rf1, rf0, cq, Nat.reduceAdd, Nat.reduceEqDiff, Int.reduceToNat, eq_self, true_and, and_true, true_or, or_true, bI_0, bI_1, mm, rAm, mF_sF, mR_sR, false_and, and_false, if_false, if_true, false_or, or_false, not_true_eq_false, not_false_eq_true, and_self]; exact h2 (by simpa using h)
theorem c_isName {z : Int} (z0 : -2147483648 ≤ z) (z1 : z < 2147483648) (hQ : Q (.returned (some (.int (I (bI (decide (0 ≤ z ∧ z < 1000))))))) M) : Wp d 38 0 [some (.int (I z))] [] M Q := by
  simp (disch := first | (simp only [dd, dr]; done) | omega) only [W_38, I_lt, I_le, I_inj, inB_I, tc_I, Int.toNat_natCast, fkt, rf1, rf0, cq, Nat.reduceAdd, Nat.reduceEqDiff, Int.reduceToNat, eq_self, true_and, and_true, true_or, or_true, bI_0, bI_1, mm, rAm, mF_sF, mR_sR, false_and, and_false, if_false, if_true, false_or, or_false, not_true_eq_false, not_false_eq_true, and_self]
  refine ⟨fun h => ?_, fun h => ?_⟩
  · rw [decide_eq_false (by omega)] at hQ; simp (disch := first | (simp only [dd, dr]; done) | omega) only [W_38, I_lt, I_le, I_inj, inB_I, tc_I, Int.toNat_natCast, fkt, rf1, rf0, cq, Nat.reduceAdd, Nat.reduceEqDiff, Int.reduceToNat, eq_self, true_and, and_true, true_or, or_true, bI_0, bI_1, mm, rAm, mF_sF, mR_sR, false_and, and_false, if_false, if_true, false_or, or_false, not_true_eq_false, not_false_eq_true, and_self]; exact hQ
  · simp (disch := first | (simp only [dd, dr]; done) | omega) only [W_38, I_lt, I_le, I_inj, inB_I, tc_I, Int.toNat_natCast, fkt, rf1, rf0, cq, Nat.reduceAdd, Nat.reduceEqDiff, Int.reduceToNat, eq_self, true_and, and_true, true_or, or_true, bI_0, bI_1, mm, rAm, mF_sF, mR_sR, false_and, and_false, if_false, if_true, false_or, or_false, not_true_eq_false, not_false_eq_true, and_self]
    refine ⟨fun h => ?_, fun h => ?_⟩
    · rw [decide_eq_false (by omega)] at hQ; simp (disch := first | (simp only [dd, dr]; done) | omega) only [W_38, I_lt, I_le, I_inj, inB_I, tc_I, Int.toNat_natCast, fkt, rf1, rf0, cq, Nat.reduceAdd, Nat.reduceEqDiff, Int.reduceToNat, eq_self, true_and, and_true, true_or, or_true, bI_0, bI_1, mm, rAm, mF_sF, mR_sR, false_and, and_false, if_false, if_true, false_or, or_false, not_true_eq_false, not_false_eq_true, and_self]; exact hQ
    · rw [decide_eq_true (by omega)] at hQ; simp (disch := first | (simp only [dd, dr]; done) | omega) only [W_38, I_lt, I_le, I_inj, inB_I, tc_I, Int.toNat_natCast, fkt, rf1, rf0, cq, Nat.reduceAdd, Nat.reduceEqDiff, Int.reduceToNat, eq_self, true_and, and_true, true_or, or_true, bI_0, bI_1, mm, rAm, mF_sF, mR_sR, false_and, and_false, if_false, if_true, false_or, or_false, not_true_eq_false, not_false_eq_true, and_self]; exact hQ
/-- tails and blocks of a file of so many bytes -/
def tlO (n : Nat) : Nat := if n % 128 ≤ 40 ∧ n ≤ 512 then n % 128 else 0
def dtO (n : Nat) : Nat := n / 128 + (if tlO n < n % 128 then 1 else 0)
theorem tlO_le (n : Nat) : tlO n ≤ 40 := by unfold tlO; split <;> omega
theorem dtO_le {n : Nat} (h : n ≤ 2048) : dtO n ≤ 16 := by
  unfold dtO
  split <;> omega
theorem dtO_tl {n : Nat} : 128 * dtO n + tlO n ≤ n + 128 ∧ (n ≤ 128 * dtO n + tlO n) ∧ (tlO n ≠ 0 → 128 * dtO n + tlO n = n) ∧ (dtO n ≠ 0 → 128 * (dtO n - 1) < n) := by
  unfold dtO tlO
  split <;> split <;> omega
theorem c_tailOf {n : Nat} (hn : n < 100000) (hQ : Q (.returned (some (.int (I (tlO n : Nat))))) M) : Wp d 69 0 [some (.int (I (n : Nat))), none] [] M Q := by
  simp (disch := first | (simp only [dd, dr]; done) | omega) only [W_69, I_lt, I_le, I_inj, inB_I, tc_I, Int.toNat_natCast, fkt, rf1, rf0, cq, Nat.reduceAdd, Nat.reduceEqDiff, Int.reduceToNat, eq_self, true_and, and_true, true_or, or_true, bI_0, bI_1, mm, rAm, mF_sF, mR_sR, false_and, and_false, if_false, if_true, false_or, or_false, not_true_eq_false, not_false_eq_true, and_self]
  unfold tlO at hQ
  refine ⟨fun h => ?_, fun h => ?_⟩
  · rw [if_neg (by omega)] at hQ; simp (disch := first | (simp only [dd, dr]; done) | omega) only [W_69, I_lt, I_le, I_inj, inB_I, tc_I, Int.toNat_natCast, fkt, rf1, rf0, cq, Nat.reduceAdd, Nat.reduceEqDiff, Int.reduceToNat, eq_self, true_and, and_true, true_or, or_true, bI_0, bI_1, mm, rAm, mF_sF, mR_sR, false_and, and_false, if_false, if_true, false_or, or_false, not_true_eq_false, not_false_eq_true, and_self]; exact hQ
  · simp (disch := first | (simp only [dd, dr]; done) | omega) only [W_69, I_lt, I_le, I_inj, inB_I, tc_I, Int.toNat_natCast, fkt, rf1, rf0, cq, Nat.reduceAdd, Nat.reduceEqDiff, Int.reduceToNat, eq_self, true_and, and_true, true_or, or_true, bI_0, bI_1, mm, rAm, mF_sF, mR_sR, false_and, and_false, if_false, if_true, false_or, or_false, not_true_eq_false, not_false_eq_true, and_self]
    refine ⟨fun h => ?_, fun h => ?_⟩
    · rw [if_neg (by omega)] at hQ; simp (disch := first | (simp only [dd, dr]; done) | omega) only [W_69, I_lt, I_le, I_inj, inB_I, tc_I, Int.toNat_natCast, fkt, rf1, rf0, cq, Nat.reduceAdd, Nat.reduceEqDiff, Int.reduceToNat, eq_self, true_and, and_true, true_or, or_true, bI_0, bI_1, mm, rAm, mF_sF, mR_sR, false_and, and_false, if_false, if_true, false_or, or_false, not_true_eq_false, not_false_eq_true, and_self]; exact hQ
    · rw [if_pos (by omega)] at hQ; simp (disch := first | (simp only [dd, dr]; done) | omega) only [W_69, I_lt, I_le, I_inj, inB_I, tc_I, Int.toNat_natCast, fkt, rf1, rf0, cq, Nat.reduceAdd, Nat.reduceEqDiff, Int.reduceToNat, eq_self, true_and, and_true, true_or, or_true, bI_0, bI_1, mm, rAm, mF_sF, mR_sR, false_and, and_false, if_false, if_true, false_or, or_false, not_true_eq_false, not_false_eq_true, and_self]; exact hQ
theorem c_blocksOf {n : Nat} (hd : 1 ≤ d) (hn : n < 100000) (hQ : Q (.returned (some (.int (I (dtO n : Nat))))) M) : Wp d 68 0 [some (.int (I (n : Nat)))] [] M Q := by
  simp (disch := first | (simp only [dd, dr]; done) | omega) only [W_68, I_lt, I_le, I_inj, inB_I, tc_I, Int.toNat_natCast, fkt, rf1, rf0, cq, Nat.reduceAdd, Nat.reduceEqDiff, Int.reduceToNat, eq_self, true_and, and_true, true_or, or_true, bI_0, bI_1, mm, rAm, mF_sF, mR_sR, false_and, and_false, if_false, if_true, false_or, or_false, not_true_eq_false, not_false_eq_true, and_self]
  refine ca_69 (by omega) (c_tailOf hn ?_)
  have := tlO_le n
  unfold dtO at hQ
  simp (disch := first | (simp only [dd, dr]; done) | omega) only [W_68, I_lt, I_le, I_inj, inB_I, tc_I, Int.toNat_natCast, fkt, rf1, rf0, cq, Nat.reduceAdd, Nat.reduceEqDiff, Int.reduceToNat, eq_self, true_and, and_true, true_or, or_true, bI_0, bI_1, mm, rAm, mF_sF, mR_sR, false_and, and_false, if_false, if_true, false_or, or_false, not_true_eq_false, not_false_eq_true, and_self]
  refine ⟨fun h => ?_, fun h => ?_⟩
  · rw [if_neg (by omega)] at hQ; simp (disch := first | (simp only [dd, dr]; done) | omega) only [W_68, I_lt, I_le, I_inj, inB_I, tc_I, Int.toNat_natCast, fkt, rf1, rf0, cq, Nat.reduceAdd, Nat.reduceEqDiff, Int.reduceToNat, eq_self, true_and, and_true, true_or, or_true, bI_0, bI_1, mm, rAm, mF_sF, mR_sR, false_and, and_false, if_false, if_true, false_or, or_false, not_true_eq_false, not_false_eq_true, and_self]; exact hQ
  · rw [if_pos (by omega)] at hQ; simp (disch := first | (simp only [dd, dr]; done) | omega) only [W_68, I_lt, I_le, I_inj, inB_I, tc_I, Int.toNat_natCast, fkt, rf1, rf0, cq, Nat.reduceAdd, Nat.reduceEqDiff, Int.reduceToNat, eq_self, true_and, and_true, true_or, or_true, bI_0, bI_1, mm, rAm, mF_sF, mR_sR, false_and, and_false, if_false, if_true, false_or, or_false, not_true_eq_false, not_false_eq_true, and_self]; exact hQ
/-- what is small of objects -/
def OK1 (T : Tr) (X : Ob) : Prop := ∀ o, o ≤ 60 → ky o 0 0 ∈ its T → 1 ≤ oK X o ∧ oK X o ≤ 2 ∧ oL X o < 65536 ∧ oS X o < 65536
def isk (T : Tr) (X : Ob) (z : Int) (k : Nat) : Bool := iso T z && decide (oK X z.toNat = k + 1)
theorem n_isKind (hd : 15 ≤ d) (C : CX M p m J A T X) (O : OK1 T X) {z : Int} (z0 : -2147483648 ≤ z) (z1 : z < 2147483648) {k : Nat} (hk : k ≤ 1) (hQ : ∀ M', Tw (p + 201) M M' → CX M' p m J A T X → Q (.returned (some (.int (I (bI (isk T X z k)))))) M') : Wp d 32 0 [some (.ref p), some (.int (I z)), some (.int (I (k : Nat)))] [] M Q := by
  have k0 := C.1.1.1
  simp (disch := first | (simp only [dd, dr]; done) | omega) only [W_32, k0, I_lt, I_le, I_inj, inB_I, tc_I, Int.toNat_natCast, fkt, rf1, rf0, cq, Nat.reduceAdd, Nat.reduceEqDiff, Int.reduceToNat, eq_self, true_and, and_true, true_or, or_true, bI_0, bI_1, mm, rAm, mF_sF, mR_sR, false_and, and_false, if_false, if_true, false_or, or_false, not_true_eq_false, not_false_eq_true, and_self]
  refine ca_33 (by omega) (n_isObject (by omega) C z0 z1 (fun M1 T1 C1 => ?_))
  have k01 := C1.1.1.1
  simp (disch := first | (simp only [dd, dr]; done) | omega) only [W_32, I_lt, I_le, I_inj, inB_I, tc_I, Int.toNat_natCast, fkt, rf1, rf0, cq, Nat.reduceAdd, Nat.reduceEqDiff, Int.reduceToNat, eq_self, true_and, and_true, true_or, or_true, bI_0, bI_1, mm, rAm, mF_sF, mR_sR, false_and, and_false, if_false, if_true, false_or, or_false, not_true_eq_false, not_false_eq_true, and_self]
  refine ⟨fun h => ?_, fun h => ?_⟩
  · have := hQ M1 T1 C1
    unfold isk at this
    rw [h] at this
    simp (disch := first | (simp only [dd, dr]; done) | omega) only [W_32, I_lt, I_le, I_inj, inB_I, tc_I, Int.toNat_natCast, fkt, rf1, rf0, cq, Nat.reduceAdd, Nat.reduceEqDiff, Int.reduceToNat, eq_self, true_and, and_true, true_or, or_true, bI_0, bI_1, mm, rAm, mF_sF, mR_sR, false_and, and_false, if_false, if_true, false_or, or_false, not_true_eq_false, not_false_eq_true, and_self]
    exact this
  · have h : iso T z = true := by simpa using h
    obtain ⟨h1, h2, h3⟩ := of_decide_eq_true h
    obtain ⟨o, rfl⟩ : ∃ o : Nat, z = o := ⟨z.toNat, by omega⟩
    have h3 : ky o 0 0 ∈ its T := h3
    obtain ⟨o1, o2, o3, o4⟩ := O o (by omega) h3
    simp (disch := first | (simp only [dd, dr]; done) | omega) only [W_32, k01, I_lt, I_le, I_inj, inB_I, tc_I, Int.toNat_natCast, fkt, rf1, rf0, cq, Nat.reduceAdd, Nat.reduceEqDiff, Int.reduceToNat, eq_self, true_and, and_true, true_or, or_true, bI_0, bI_1, mm, rAm, mF_sF, mR_sR, false_and, and_false, if_false, if_true, false_or, or_false, not_true_eq_false, not_false_eq_true, and_self]
    have nz : (nb (fun i => (stB (oK X o) (oL X o) (oS X o)).getD i 0) 0 1) = oK X o - 1 := by
      rw [nb, nb, Nat.zero_mul, Nat.zero_add]; rfl
    have hst := n_stat (d := d - 1) (Q := Cq d 32 12 [some (.ref p), some (.int (I (o : Nat))), some (.int (I (k : Nat)))] [] Q) (k := 0) (n := 1) (by omega) C1 (o := o) (by omega) (by omega) (by omega) h3 (by omega) (fun M2 T2 C2 => ?_)
    · exact ca_34 (by omega) hst
    · have fin := hQ M2 (T1.trans T2) C2
      unfold isk at fin
      rw [h, Bool.true_and] at fin
      have fin : Q (.returned (some (.int (I (bI (decide (oK X o = k + 1))))))) M2 := fin
      rw [nz]
      simp (disch := first | (simp only [dd, dr]; done) | omega) only [W_32, I_lt, I_le, I_inj, inB_I, tc_I, Int.toNat_natCast, fkt, rf1, rf0, cq, Nat.reduceAdd, Nat.reduceEqDiff, Int.reduceToNat, eq_self, true_and, and_true, true_or, or_true, bI_0, bI_1, mm, rAm, mF_sF, mR_sR, false_and, and_false, if_false, if_true, false_or, or_false, not_true_eq_false, not_false_eq_true, and_self]
      refine ⟨fun h => ?_, fun h => ?_⟩
      · rw [decide_eq_false (by omega)] at fin; simp (disch := first | (simp only [dd, dr]; done) | omega) only [W_32, I_lt, I_le, I_inj, inB_I, tc_I, Int.toNat_natCast, fkt, rf1, rf0, cq, Nat.reduceAdd, Nat.reduceEqDiff, Int.reduceToNat, eq_self, true_and, and_true, true_or, or_true, bI_0, bI_1, mm, rAm, mF_sF, mR_sR, false_and, and_false, if_false, if_true, false_or, or_false, not_true_eq_false, not_false_eq_true, and_self]; exact fin
      · rw [decide_eq_true (by omega)] at fin; simp (disch := first | (simp only [dd, dr]; done) | omega) only [W_32, I_lt, I_le, I_inj, inB_I, tc_I, Int.toNat_natCast, fkt, rf1, rf0, cq, Nat.reduceAdd, Nat.reduceEqDiff, Int.reduceToNat, eq_self, true_and, and_true, true_or, or_true, bI_0, bI_1, mm, rAm, mF_sF, mR_sR, false_and, and_false, if_false, if_true, false_or, or_false, not_true_eq_false, not_false_eq_true, and_self]; exact fin
theorem n_isDirectory (hd : 16 ≤ d) (C : CX M p m J A T X) (O : OK1 T X) {z : Int} (z0 : -2147483648 ≤ z) (z1 : z < 2147483648) (hQ : ∀ M', Tw (p + 201) M M' → CX M' p m J A T X → Q (.returned (some (.int (I (bI (isk T X z 0)))))) M') : Wp d 31 0 [some (.ref p), some (.int (I z))] [] M Q := by
  have k0 := C.1.1.1
  simp (disch := first | (simp only [dd, dr]; done) | omega) only [W_31, k0, I_lt, I_le, I_inj, inB_I, tc_I, Int.toNat_natCast, fkt, rf1, rf0, cq, Nat.reduceAdd, Nat.reduceEqDiff, Int.reduceToNat, eq_self, true_and, and_true, true_or, or_true, bI_0, bI_1, mm, rAm, mF_sF, mR_sR, false_and, and_false, if_false, if_true, false_or, or_false, not_true_eq_false, not_false_eq_true, and_self]
  refine ca_32 (by omega) (n_isKind (k := 0) (by omega) C O z0 z1 (by omega) (fun M1 T1 C1 => ?_))
  simp (disch := first | (simp only [dd, dr]; done) | omega) only [W_31, I_lt, I_le, I_inj, inB_I, tc_I, Int.toNat_natCast, fkt, rf1, rf0, cq, Nat.reduceAdd, Nat.reduceEqDiff, Int.reduceToNat, eq_self, true_and, and_true, true_or, or_true, bI_0, bI_1, mm, rAm, mF_sF, mR_sR, false_and, and_false, if_false, if_true, false_or, or_false, not_true_eq_false, not_false_eq_true, and_self]
  exact hQ M1 T1 C1
theorem n_isFile (hd : 16 ≤ d) (C : CX M p m J A T X) (O : OK1 T X) {z : Int} (z0 : -2147483648 ≤ z) (z1 : z < 2147483648) (hQ : ∀ M', Tw (p + 201) M M' → CX M' p m J A T X → Q (.returned (some (.int (I (bI (isk T X z 1)))))) M') : Wp d 52 0 [some (.ref p), some (.int (I z))] [] M Q := by
  have k0 := C.1.1.1
  simp (disch := first | (simp only [dd, dr]; done) | omega) only [W_52, k0, I_lt, I_le, I_inj, inB_I, tc_I, Int.toNat_natCast, fkt, rf1, rf0, cq, Nat.reduceAdd, Nat.reduceEqDiff, Int.reduceToNat, eq_self, true_and, and_true, true_or, or_true, bI_0, bI_1, mm, rAm, mF_sF, mR_sR, false_and, and_false, if_false, if_true, false_or, or_false, not_true_eq_false, not_false_eq_true, and_self]
  refine ca_32 (by omega) (n_isKind (k := 1) (by omega) C O z0 z1 (by omega) (fun M1 T1 C1 => ?_))
  simp (disch := first | (simp only [dd, dr]; done) | omega) only [W_52, I_lt, I_le, I_inj, inB_I, tc_I, Int.toNat_natCast, fkt, rf1, rf0, cq, Nat.reduceAdd, Nat.reduceEqDiff, Int.reduceToNat, eq_self, true_and, and_true, true_or, or_true, bI_0, bI_1, mm, rAm, mF_sF, mR_sR, false_and, and_false, if_false, if_true, false_or, or_false, not_true_eq_false, not_false_eq_true, and_self]
  exact hQ M1 T1 C1
theorem nb_st {k l n : Nat} (hl : l < 65536) (hn : n < 65536) : nb (fun i => (stB k l n).getD i 0) 0 1 = k - 1 ∧ nb (fun i => (stB k l n).getD i 0) 1 2 = l ∧ nb (fun i => (stB k l n).getD i 0) 3 2 = n := by
  refine ⟨?_, ?_, ?_⟩
  · rw [nb, nb, Nat.zero_mul, Nat.zero_add]; rfl
  · rw [nb, nb, nb, Nat.zero_mul, Nat.zero_add]
    show l / 256 % 256 * 256 + l % 256 = l
    omega
  · rw [nb, nb, nb, Nat.zero_mul, Nat.zero_add]
    show n / 256 % 256 * 256 + n % 256 = n
    omega
theorem n_linksOf (hd : 15 ≤ d) (C : CX M p m J A T X) (O : OK1 T X) {o : Nat} (ho : o ≤ 60) (hi : ky o 0 0 ∈ its T) (hQ : ∀ M', Tw (p + 201) M M' → CX M' p m J A T X → Q (.returned (some (.int (I (oL X o : Nat))))) M') : Wp d 46 0 [some (.ref p), some (.int (I (o : Nat)))] [] M Q := by
  have k0 := C.1.1.1
  obtain ⟨o1, o2, o3, o4⟩ := O o ho hi
  simp (disch := first | (simp only [dd, dr]; done) | omega) only [W_46, k0, I_lt, I_le, I_inj, inB_I, tc_I, Int.toNat_natCast, fkt, rf1, rf0, cq, Nat.reduceAdd, Nat.reduceEqDiff, Int.reduceToNat, eq_self, true_and, and_true, true_or, or_true, bI_0, bI_1, mm, rAm, mF_sF, mR_sR, false_and, and_false, if_false, if_true, false_or, or_false, not_true_eq_false, not_false_eq_true, and_self]
  refine ca_34 (by omega) (n_stat (k := 1) (n := 2) (by omega) C ho (by omega) (by omega) hi (by omega) (fun M2 T2 C2 => ?_))
  rw [(nb_st o3 o4).2.1]
  simp (disch := first | (simp only [dd, dr]; done) | omega) only [W_46, I_lt, I_le, I_inj, inB_I, tc_I, Int.toNat_natCast, fkt, rf1, rf0, cq, Nat.reduceAdd, Nat.reduceEqDiff, Int.reduceToNat, eq_self, true_and, and_true, true_or, or_true, bI_0, bI_1, mm, rAm, mF_sF, mR_sR, false_and, and_false, if_false, if_true, false_or, or_false, not_true_eq_false, not_false_eq_true, and_self]
  exact hQ M2 T2 C2
theorem n_sizeOf (hd : 15 ≤ d) (C : CX M p m J A T X) (O : OK1 T X) {o : Nat} (ho : o ≤ 60) (hi : ky o 0 0 ∈ its T) (hQ : ∀ M', Tw (p + 201) M M' → CX M' p m J A T X → Q (.returned (some (.int (I (oS X o : Nat))))) M') : Wp d 47 0 [some (.ref p), some (.int (I (o : Nat)))] [] M Q := by
  have k0 := C.1.1.1
  obtain ⟨o1, o2, o3, o4⟩ := O o ho hi
  simp (disch := first | (simp only [dd, dr]; done) | omega) only [W_47, k0, I_lt, I_le, I_inj, inB_I, tc_I, Int.toNat_natCast, fkt, rf1, rf0, cq, Nat.reduceAdd, Nat.reduceEqDiff, Int.reduceToNat, eq_self, true_and, and_true, true_or, or_true, bI_0, bI_1, mm, rAm, mF_sF, mR_sR, false_and, and_false, if_false, if_true, false_or, or_false, not_true_eq_false, not_false_eq_true, and_self]
  refine ca_34 (by omega) (n_stat (k := 3) (n := 2) (by omega) C ho (by omega) (by omega) hi (by omega) (fun M2 T2 C2 => ?_))
  rw [(nb_st o3 o4).2.2]
  simp (disch := first | (simp only [dd, dr]; done) | omega) only [W_47, I_lt, I_le, I_inj, inB_I, tc_I, Int.toNat_natCast, fkt, rf1, rf0, cq, Nat.reduceAdd, Nat.reduceEqDiff, Int.reduceToNat, eq_self, true_and, and_true, true_or, or_true, bI_0, bI_1, mm, rAm, mF_sF, mR_sR, false_and, and_false, if_false, if_true, false_or, or_false, not_true_eq_false, not_false_eq_true, and_self]
  exact hQ M2 T2 C2
/-- what an entry tells -/
def tol (T : Tr) (X : Ob) (o : Nat) (z : Int) : Int := if 0 ≤ z ∧ z < 1000 ∧ ky o 1 z.toNat ∈ its T then (oE X (ky o 1 z.toNat) : Nat) else -1
theorem n_told (hd : 14 ≤ d) (C : CX M p m J A T X) {o : Nat} (ho : o ≤ 60) {z : Int} (z0 : -2147483648 ≤ z) (z1 : z < 2147483648) (hE : ∀ k ∈ its T, oE X k < 256) (hQ : ∀ M', Tw (p + 201) M M' → CX M' p m J A T X → Q (.returned (some (.int (I (tol T X o z))))) M') : Wp d 41 0 [some (.ref p), some (.int (I (o : Nat))), some (.int (I z))] [] M Q := by
  have k0 := C.1.1.1
  have k9 := C.1.1.2.2.2.2.2.2.2.2.1
  have kt := C.2.1.1.1.1
  have fin0 := hQ M (Tw.refl _ _) C
  unfold tol at fin0
  simp (disch := first | (simp only [dd, dr]; done) | omega) only [W_41, k0, I_lt, I_le, I_inj, inB_I, tc_I, Int.toNat_natCast, fkt, rf1, rf0, cq, Nat.reduceAdd, Nat.reduceEqDiff, Int.reduceToNat, eq_self, true_and, and_true, true_or, or_true, bI_0, bI_1, mm, rAm, mF_sF, mR_sR, false_and, and_false, if_false, if_true, false_or, or_false, not_true_eq_false, not_false_eq_true, and_self]
  refine ⟨fun h => ?_, fun h => ?_⟩
  · rw [if_neg (by omega)] at fin0; simp (disch := first | (simp only [dd, dr]; done) | omega) only [W_41, I_lt, I_le, I_inj, inB_I, tc_I, Int.toNat_natCast, fkt, rf1, rf0, cq, Nat.reduceAdd, Nat.reduceEqDiff, Int.reduceToNat, eq_self, true_and, and_true, true_or, or_true, bI_0, bI_1, mm, rAm, mF_sF, mR_sR, false_and, and_false, if_false, if_true, false_or, or_false, not_true_eq_false, not_false_eq_true, and_self]; exact fin0
  · simp (disch := first | (simp only [dd, dr]; done) | omega) only [W_41, I_lt, I_le, I_inj, inB_I, tc_I, Int.toNat_natCast, fkt, rf1, rf0, cq, Nat.reduceAdd, Nat.reduceEqDiff, Int.reduceToNat, eq_self, true_and, and_true, true_or, or_true, bI_0, bI_1, mm, rAm, mF_sF, mR_sR, false_and, and_false, if_false, if_true, false_or, or_false, not_true_eq_false, not_false_eq_true, and_self]
    refine ⟨fun h2 => ?_, fun h2 => ?_⟩
    · rw [if_neg (by omega)] at fin0; simp (disch := first | (simp only [dd, dr]; done) | omega) only [W_41, I_lt, I_le, I_inj, inB_I, tc_I, Int.toNat_natCast, fkt, rf1, rf0, cq, Nat.reduceAdd, Nat.reduceEqDiff, Int.reduceToNat, eq_self, true_and, and_true, true_or, or_true, bI_0, bI_1, mm, rAm, mF_sF, mR_sR, false_and, and_false, if_false, if_true, false_or, or_false, not_true_eq_false, not_false_eq_true, and_self]; exact fin0
    · simp (disch := first | (simp only [dd, dr]; done) | omega) only [W_41, k0, k9, I_lt, I_le, I_inj, inB_I, tc_I, Int.toNat_natCast, fkt, rf1, rf0, cq, Nat.reduceAdd, Nat.reduceEqDiff, Int.reduceToNat, eq_self, true_and, and_true, true_or, or_true, bI_0, bI_1, mm, rAm, mF_sF, mR_sR, false_and, and_false, if_false, if_true, false_or, or_false, not_true_eq_false, not_false_eq_true, and_self]
      obtain ⟨n, rfl⟩ : ∃ n : Nat, z = n := ⟨z.toNat, by omega⟩
      refine ca_24 (by omega) (c_keyOf ?_)
      rw [show ((o : Int) * 4 + 1) * 1024 + (n : Int) = ((ky o 1 n : Nat) : Int) by unfold ky; omega]
      simp (disch := first | (simp only [dd, dr]; done) | omega) only [W_41, kt, I_lt, I_le, I_inj, inB_I, tc_I, Int.toNat_natCast, fkt, rf1, rf0, cq, Nat.reduceAdd, Nat.reduceEqDiff, Int.reduceToNat, eq_self, true_and, and_true, true_or, or_true, bI_0, bI_1, mm, rAm, mF_sF, mR_sR, false_and, and_false, if_false, if_true, false_or, or_false, not_true_eq_false, not_false_eq_true, and_self]
      refine ca_98 (by omega) (n_fnd (by omega) C (by unfold ky; omega) (fun M' q hT C' e14 kq e16 hpl hL hin => ?_))
      have fin := hQ M' hT C'
      unfold tol at fin
      have k0' := C'.1.1.1
      have k9' := C'.1.1.2.2.2.2.2.2.2.2.1
      have kt' := C'.2.1.1.1.1
      have hq3 := hL.1.2.2.2.2.2.2
      have hr35 := hL.1.2.2.2.1
      simp (disch := first | (simp only [dd, dr]; done) | omega) only [W_41, I_lt, I_le, I_inj, inB_I, tc_I, Int.toNat_natCast, fkt, rf1, rf0, cq, Nat.reduceAdd, Nat.reduceEqDiff, Int.reduceToNat, eq_self, true_and, and_true, true_or, or_true, bI_0, bI_1, mm, rAm, mF_sF, mR_sR, false_and, and_false, if_false, if_true, false_or, or_false, not_true_eq_false, not_false_eq_true, and_self]
      refine ⟨fun h3 => ?_, fun h3 => ?_⟩
      · have hi : ky o 1 n ∈ its T := by simpa using h3
        rw [if_pos ⟨by omega, by omega, hi⟩] at fin
        have fin : Q (.returned (some (.int (I ((oE X (ky o 1 n) : Nat) : Int))))) M' := fin
        obtain ⟨b1, b2⟩ := hL.body (hin hi)
        rw [pyO_1 X o (by omega)] at b1 b2
        simp (disch := first | (simp only [dd, dr]; done) | omega) only [W_41, k0', k9', kt', e14, kq, e16, hr35, I_lt, I_le, I_inj, inB_I, tc_I, Int.toNat_natCast, fkt, rf1, rf0, cq, Nat.reduceAdd, Nat.reduceEqDiff, Int.reduceToNat, eq_self, true_and, and_true, true_or, or_true, bI_0, bI_1, mm, rAm, mF_sF, mR_sR, false_and, and_false, if_false, if_true, false_or, or_false, not_true_eq_false, not_false_eq_true, and_self]
        refine ca_126 (by omega) (l_from hL hpl ?_)
        simp (disch := first | (simp only [dd, dr]; done) | omega) only [W_41, I_lt, I_le, I_inj, inB_I, tc_I, Int.toNat_natCast, fkt, rf1, rf0, cq, Nat.reduceAdd, Nat.reduceEqDiff, Int.reduceToNat, eq_self, true_and, and_true, true_or, or_true, bI_0, bI_1, mm, rAm, mF_sF, mR_sR, false_and, and_false, if_false, if_true, false_or, or_false, not_true_eq_false, not_false_eq_true, and_self]
        have := b2 0 (oE X (ky o 1 n)) rfl
        have h3 : [oE X (ky o 1 n), 0, 0].length = 3 := rfl
        rw [h3] at b1
        refine cr_36 (by omega) (c_byteOf (n := 240) (z := ((oE X (ky o 1 n) : Nat) : Int)) hq3 (by omega) (by omega) (by omega) (by rw [Int.toNat_natCast]; exact this) ?_)
        rw [show ((oE X (ky o 1 n) : Nat) : Int) % 256 = ((oE X (ky o 1 n) : Nat) : Int) by have := hE _ hi; omega]
        simp (disch := first | (simp only [dd, dr]; done) | omega) only [W_41, I_lt, I_le, I_inj, inB_I, tc_I, Int.toNat_natCast, fkt, rf1, rf0, cq, Nat.reduceAdd, Nat.reduceEqDiff, Int.reduceToNat, eq_self, true_and, and_true, true_or, or_true, bI_0, bI_1, mm, rAm, mF_sF, mR_sR, false_and, and_false, if_false, if_true, false_or, or_false, not_true_eq_false, not_false_eq_true, and_self]
        exact fin
      · have hi : ¬ ky o 1 n ∈ its T := by simpa using h3
        rw [if_neg (fun h => hi h.2.2)] at fin
        simp (disch := first | (simp only [dd, dr]; done) | omega) only [W_41, I_lt, I_le, I_inj, inB_I, tc_I, Int.toNat_natCast, fkt, rf1, rf0, cq, Nat.reduceAdd, Nat.reduceEqDiff, Int.reduceToNat, eq_self, true_and, and_true, true_or, or_true, bI_0, bI_1, mm, rAm, mF_sF, mR_sR, false_and, and_false, if_false, if_true, false_or, or_false, not_true_eq_false, not_false_eq_true, and_self]
        exact fin
theorem n_bytesOf (hd : 14 ≤ d) (C : CX M p m J A T X) {o k : Nat} (ho : o ≤ 60) (hk : k < 4) (hQ : ∀ M' q, Tw (p + 201) M M' → CX M' p m J A T X → mR M' 14 (p + 201) = some q → kO M' q = 5 → mF M' 16 (p + 201) = I (pl (ky o k 0) (tI T (lfT T (ky o k 0))) : Nat) → pl (ky o k 0) (tI T (lfT T (ky o k 0))) ≤ (tI T (lfT T (ky o k 0))).length → LfIs M' q (tI T (lfT T (ky o k 0))) (pyO X) → (ky o k 0 ∈ its T → (tI T (lfT T (ky o k 0)))[pl (ky o k 0) (tI T (lfT T (ky o k 0)))]? = some (ky o k 0)) → Q (.returned (some (.int (I (if ky o k 0 ∈ its T then ((pyO X (ky o k 0)).length : Nat) else 0 : Nat))))) M') : Wp d 57 0 [some (.ref p), some (.int (I (o : Nat))), some (.int (I (k : Nat)))] [] M Q := by
  have k0 := C.1.1.1
  have k9 := C.1.1.2.2.2.2.2.2.2.2.1
  have kt := C.2.1.1.1.1
  simp (disch := first | (simp only [dd, dr]; done) | omega) only [W_57, k0, k9, I_lt, I_le, I_inj, inB_I, tc_I, Int.toNat_natCast, fkt, rf1, rf0, cq, Nat.reduceAdd, Nat.reduceEqDiff, Int.reduceToNat, eq_self, true_and, and_true, true_or, or_true, bI_0, bI_1, mm, rAm, mF_sF, mR_sR, false_and, and_false, if_false, if_true, false_or, or_false, not_true_eq_false, not_false_eq_true, and_self]
  refine ca_24 (by omega) (c_keyOf ?_)
  rw [show ((o : Int) * 4 + k) * 1024 + 0 = ((ky o k 0 : Nat) : Int) by unfold ky; omega]
  simp (disch := first | (simp only [dd, dr]; done) | omega) only [W_57, kt, I_lt, I_le, I_inj, inB_I, tc_I, Int.toNat_natCast, fkt, rf1, rf0, cq, Nat.reduceAdd, Nat.reduceEqDiff, Int.reduceToNat, eq_self, true_and, and_true, true_or, or_true, bI_0, bI_1, mm, rAm, mF_sF, mR_sR, false_and, and_false, if_false, if_true, false_or, or_false, not_true_eq_false, not_false_eq_true, and_self]
  refine ca_98 (by omega) (n_fnd (by omega) C (by unfold ky; omega) (fun M' q hT C' e14 kq e16 hpl hL hin => ?_))
  have fin := hQ M' q hT C' e14 kq e16 hpl hL hin
  have k0' := C'.1.1.1
  have k9' := C'.1.1.2.2.2.2.2.2.2.2.1
  have kt' := C'.2.1.1.1.1
  have hr38 := hL.1.2.2.1
  have hq2 := hL.1.2.2.2.2.2.1
  simp (disch := first | (simp only [dd, dr]; done) | omega) only [W_57, I_lt, I_le, I_inj, inB_I, tc_I, Int.toNat_natCast, fkt, rf1, rf0, cq, Nat.reduceAdd, Nat.reduceEqDiff, Int.reduceToNat, eq_self, true_and, and_true, true_or, or_true, bI_0, bI_1, mm, rAm, mF_sF, mR_sR, false_and, and_false, if_false, if_true, false_or, or_false, not_true_eq_false, not_false_eq_true, and_self]
  refine ⟨fun h3 => ?_, fun h3 => ?_⟩
  · have hi : ¬ ky o k 0 ∈ its T := by simpa using h3
    rw [if_neg hi] at fin
    simp (disch := first | (simp only [dd, dr]; done) | omega) only [W_57, I_lt, I_le, I_inj, inB_I, tc_I, Int.toNat_natCast, fkt, rf1, rf0, cq, Nat.reduceAdd, Nat.reduceEqDiff, Int.reduceToNat, eq_self, true_and, and_true, true_or, or_true, bI_0, bI_1, mm, rAm, mF_sF, mR_sR, false_and, and_false, if_false, if_true, false_or, or_false, not_true_eq_false, not_false_eq_true, and_self]
    exact fin
  · have hi : ky o k 0 ∈ its T := by simpa using h3
    rw [if_pos hi] at fin
    have hp := hin hi
    have hlt := (List.getElem?_eq_some_iff.mp hp).1
    have h24 := hL.2.2.2.1
    have hs := (hL.2.2.2.2.2.1 _ _ hp).2
    simp (disch := first | (simp only [dd, dr]; done) | omega) only [W_57, k0', k9', kt', e14, kq, e16, hr38, hq2, hs, I_lt, I_le, I_inj, inB_I, tc_I, Int.toNat_natCast, fkt, rf1, rf0, cq, Nat.reduceAdd, Nat.reduceEqDiff, Int.reduceToNat, eq_self, true_and, and_true, true_or, or_true, bI_0, bI_1, mm, rAm, mF_sF, mR_sR, false_and, and_false, if_false, if_true, false_or, or_false, not_true_eq_false, not_false_eq_true, and_self]
    exact fin
end Sml
