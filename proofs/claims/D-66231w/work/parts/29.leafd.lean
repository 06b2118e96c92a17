/-! ===== CONTRACTS: looking into a leaf ===== -/
/-- where a key stands in a leaf, or would -/
def pl (key : Nat) : List Nat → Nat
  | [] => 0
  | x :: l => if x < key then pl key l + 1 else 0
theorem pl_le (key : Nat) : ∀ l, pl key l ≤ l.length
  | [] => Nat.le_refl _
  | x :: l => by
    rw [pl]
    have := pl_le key l
    split <;> simp only [List.length_cons] <;> omega
section LfD
variable {d : Nat} {M : Mem} {Q : Outcome → Mem → Prop} {q : Nat} {ks : List Nat} {py : Nat → List Nat}
theorem l_place (h : LfIs M q ks py) (hks : ∀ x ∈ ks, x < 1000000) {key : Nat} (hkey : key < 1000000) (hQ : Q (.returned (some (.int (I (pl key ks : Nat))))) M) : Wp d 123 0 [some (.ref q), some (.int (I (key : Nat))), none] [] M Q := by
  obtain ⟨k0, k1, k2, k3, k4, k5, k6⟩ := h.1
  have h4 := h.2.2.2.1
  have h37 := h.2.1
  simp (disch := first | (simp only [dd, dr]; done) | omega) only [W_123, I_lt, I_le, I_inj, inB_I, tc_I, Int.toNat_natCast, fkt, rf1, rf0, cq, Nat.reduceAdd, Nat.reduceEqDiff, Int.reduceToNat, eq_self, true_and, and_true, true_or, or_true, bI_0, bI_1, mm, rAm]
  suffices H : ∀ (l : List Nat) (i : Nat), ks.drop i = l → i ≤ ks.length → pl key ks = i + pl key l → Wp d 123 2 [some (.ref q), some (.int (I (key : Nat))), some (.int (I (i : Nat)))] [] M Q from H ks 0 rfl (Nat.zero_le _) (by omega)
  intro l
  induction l with
  | nil =>
    intro i hl hi hp
    have : i = ks.length := by
      have := congrArg List.length hl
      rw [List.length_drop] at this
      simp at this
      omega
    subst this
    simp (disch := first | (simp only [dd, dr]; done) | omega) only [w_123_2, W_123, k0, h37, I_lt, I_le, I_inj, inB_I, tc_I, Int.toNat_natCast, fkt, rf1, rf0, cq, Nat.reduceAdd, Nat.reduceEqDiff, Int.reduceToNat, eq_self, true_and, and_true, true_or, or_true, bI_0, bI_1, mm, rAm]
    refine ⟨fun _ => ?_, fun h => absurd h (by omega)⟩
    simp (disch := first | (simp only [dd, dr]; done) | omega) only [W_123, I_lt, I_le, I_inj, inB_I, tc_I, Int.toNat_natCast, fkt, rf1, rf0, cq, Nat.reduceAdd, Nat.reduceEqDiff, Int.reduceToNat, eq_self, true_and, and_true, true_or, or_true, bI_0, bI_1, mm, rAm]
    rw [hp] at hQ
    exact hQ
  | cons x l ih =>
    intro i hl hi hp
    have hx : ks[i]? = some x := by
      have := congrArg (fun l => l[0]?) hl
      simpa using this
    have hlt := (List.getElem?_eq_some_iff.mp hx).1
    have hx9 := hks x (List.mem_of_getElem? hx)
    have e1 := (h.2.2.2.2.2.1 i x hx).1
    simp (disch := first | (simp only [dd, dr]; done) | omega) only [w_123_2, W_123, k0, h37, I_lt, I_le, I_inj, inB_I, tc_I, Int.toNat_natCast, fkt, rf1, rf0, cq, Nat.reduceAdd, Nat.reduceEqDiff, Int.reduceToNat, eq_self, true_and, and_true, true_or, or_true, bI_0, bI_1, mm, rAm]
    refine ⟨fun h => absurd h (by omega), fun _ => ?_⟩
    simp (disch := first | (simp only [dd, dr]; done) | omega) only [W_123, k0, k1, k4, e1, I_lt, I_le, I_inj, inB_I, tc_I, Int.toNat_natCast, fkt, rf1, rf0, cq, Nat.reduceAdd, Nat.reduceEqDiff, Int.reduceToNat, eq_self, true_and, and_true, true_or, or_true, bI_0, bI_1, mm, rAm]
    refine ⟨fun hc => ?_, fun hc => ?_⟩
    · simp (disch := first | (simp only [dd, dr]; done) | omega) only [W_123, I_lt, I_le, I_inj, inB_I, tc_I, Int.toNat_natCast, fkt, rf1, rf0, cq, Nat.reduceAdd, Nat.reduceEqDiff, Int.reduceToNat, eq_self, true_and, and_true, true_or, or_true, bI_0, bI_1, mm, rAm]
      rw [pl, if_neg (by omega)] at hp
      rw [hp] at hQ
      exact hQ
    · simp (disch := first | (simp only [dd, dr]; done) | omega) only [W_123, I_lt, I_le, I_inj, inB_I, tc_I, Int.toNat_natCast, fkt, rf1, rf0, cq, Nat.reduceAdd, Nat.reduceEqDiff, Int.reduceToNat, eq_self, true_and, and_true, true_or, or_true, bI_0, bI_1, mm, rAm]
      rw [pl, if_pos (by omega)] at hp
      refine ih (i + 1) ?_ (by omega) (by omega)
      rw [← List.drop_drop, hl]
      rfl
theorem l_has (h : LfIs M q ks py) (hks : ∀ x ∈ ks, x < 1000000) {k key : Nat} (hk : k ≤ 1000) (hkey : key < 1000000) (hQ : Q (.returned (some (.int (I (bI (decide (ks[k]? = some key))))))) M) : Wp d 124 0 [some (.ref q), some (.int (I (k : Nat))), some (.int (I (key : Nat)))] [] M Q := by
  obtain ⟨k0, k1, k2, k3, k4, k5, k6⟩ := h.1
  have h4 := h.2.2.2.1
  have h37 := h.2.1
  simp (disch := first | (simp only [dd, dr]; done) | omega) only [W_124, k0, h37, I_lt, I_le, I_inj, inB_I, tc_I, Int.toNat_natCast, fkt, rf1, rf0, cq, Nat.reduceAdd, Nat.reduceEqDiff, Int.reduceToNat, eq_self, true_and, and_true, true_or, or_true, bI_0, bI_1, mm, rAm]
  refine ⟨fun hc => ?_, fun hc => ?_⟩
  · simp (disch := first | (simp only [dd, dr]; done) | omega) only [W_124, I_lt, I_le, I_inj, inB_I, tc_I, Int.toNat_natCast, fkt, rf1, rf0, cq, Nat.reduceAdd, Nat.reduceEqDiff, Int.reduceToNat, eq_self, true_and, and_true, true_or, or_true, bI_0, bI_1, mm, rAm]
    rw [decide_eq_false (by rw [List.getElem?_eq_none (by omega)]; exact fun h => nomatch h)] at hQ
    exact hQ
  · have hlt : k < ks.length := by omega
    have hx : ks[k]? = some ks[k] := List.getElem?_eq_getElem hlt
    have e1 := (h.2.2.2.2.2.1 k _ hx).1
    have hx9 := hks _ (List.mem_of_getElem? hx)
    simp (disch := first | (simp only [dd, dr]; done) | omega) only [W_124, k0, k1, k4, e1, I_lt, I_le, I_inj, inB_I, tc_I, Int.toNat_natCast, fkt, rf1, rf0, cq, Nat.reduceAdd, Nat.reduceEqDiff, Int.reduceToNat, eq_self, true_and, and_true, true_or, or_true, bI_0, bI_1, mm, rAm]
    rw [hx] at hQ
    refine ⟨fun hc => ?_, fun hc => ?_⟩
    · simp (disch := first | (simp only [dd, dr]; done) | omega) only [W_124, I_lt, I_le, I_inj, inB_I, tc_I, Int.toNat_natCast, fkt, rf1, rf0, cq, Nat.reduceAdd, Nat.reduceEqDiff, Int.reduceToNat, eq_self, true_and, and_true, true_or, or_true, bI_0, bI_1, mm, rAm]
      rw [decide_eq_false (by intro h; cases h; omega)] at hQ
      exact hQ
    · simp (disch := first | (simp only [dd, dr]; done) | omega) only [W_124, I_lt, I_le, I_inj, inB_I, tc_I, Int.toNat_natCast, fkt, rf1, rf0, cq, Nat.reduceAdd, Nat.reduceEqDiff, Int.reduceToNat, eq_self, true_and, and_true, true_or, or_true, bI_0, bI_1, mm, rAm]
      rw [decide_eq_true (by congr 1; omega)] at hQ
      exact hQ
theorem l_first (h : LfIs M q ks py) {x : Nat} (hx : ks[0]? = some x) (hQ : Q (.returned (some (.int (I (x : Nat))))) M) : Wp d 122 0 [some (.ref q)] [] M Q := by
  obtain ⟨k0, k1, k2, k3, k4, k5, k6⟩ := h.1
  have e1 := (h.2.2.2.2.2.1 0 _ hx).1
  simp (disch := first | (simp only [dd, dr]; done) | omega) only [W_122, k0, k1, k4, I_lt, I_le, I_inj, inB_I, tc_I, Int.toNat_natCast, fkt, rf1, rf0, cq, Nat.reduceAdd, Nat.reduceEqDiff, Int.reduceToNat, eq_self, true_and, and_true, true_or, or_true, bI_0, bI_1, mm, rAm]
  exact e1 ▸ hQ
end LfD
