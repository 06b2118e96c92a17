/-! ===== THE COMPONENT: lookOver ===== -/
/-- whether two rows are alike -/
def eqn (g gc : Nat → Nat) : Nat → Bool
  | 0 => true
  | n + 1 => eqn g gc n && (g n % 256 == gc n % 256)
theorem eqn_iff {g gc : Nat → Nat} : ∀ n, eqn g gc n = true ↔ ∀ i, i < n → g i % 256 = gc i % 256
  | 0 => ⟨fun _ i hi => by omega, fun _ => rfl⟩
  | n + 1 => by
    rw [eqn, Bool.and_eq_true, eqn_iff n, beq_iff_eq]
    constructor
    · rintro ⟨h1, h2⟩ i hi
      by_cases e : i = n
      · rw [e]; exact h2
      · exact h1 i (by omega)
    · intro h
      exact ⟨fun i hi => h i (by omega), h n (by omega)⟩
/-- whether a block is changed: two images -/
def chb (u uc : Nat → Bool) (g gc : Nat → Nat → Nat) (b : Nat) : Bool := u b && !(uc b && eqn (g b) (gc b) 129)
theorem alk_rows {M : Mem} {a b : Nat} {g gc : Nat → Nat} (h1 : Rw M a g) (h2 : Rw M b gc) : alk M a b 129 = eqn g gc 129 := by
  have e : (∀ i, i < 129 → mA M a i = mA M b i) ↔ (∀ i, i < 129 → g i % 256 = gc i % 256) := by
    refine ⟨fun h i hi => ?_, fun h i hi => ?_⟩
    · have := h i hi
      rw [h1.2 i hi, h2.2 i hi, bB_inj] at this
      omega
    · rw [h1.2 i hi, h2.2 i hi, bB_inj]
      have := h i hi
      omega
  cases hk : alk M a b 129 with
  | true => exact ((eqn_iff 129).mpr (e.mp ((alk_iff M a b 129).mp hk))).symm
  | false =>
    cases hh : eqn g gc 129 with
    | false => rfl
    | true => rw [(alk_iff M a b 129).mpr (e.mpr ((eqn_iff 129).mp hh))] at hk; cases hk
section CLo
variable {d p m J : Nat} {M : Mem} {A : Ad} {T : Tr} {py : Nat → List Nat} {dt : Nat → Nat → Nat} {Q : Outcome → Mem → Prop}
set_option maxHeartbeats 8000000 in
theorem n_lookOver (hd : 42 ≤ d) (P : PK M p m J) (R : RM M (p + 201) (p + 199) m A T py none) (g : Gt m T py) (D : DR M p T dt) {L : Nat → Nat → Nat} {uc : Nat → Bool} {rt : Nat} (hla : ∀ b, b < m → Rw M (p + 304 + b) (L b)) (hL0 : ∀ i, L 0 i = frw m uc rt i) (hQ : ∀ M1 gg, Ro M M1 → (∀ b, tU T b = true → Rw M1 (p + 2 + b) (img m T py dt b)) → (∀ z i, (∀ b, b < 96 → z ≠ p + 2 + b) → mA M1 z i = mA M z i) → (∀ b, b < m → gg b = I (bI (chb (tU T) uc (img m T py dt) L b))) → Q (.returned (some (.int (I (cn (chb (tU T) uc (img m T py dt) L) m : Nat))))) (rA M1 (p + 195) gg)) : Wp d 79 0 [some (.ref p), none, none] [] M Q := by
  have a1 := P.1.1
  have hm := P.2.2.2.2.2.2.2.2.2.2
  simp (disch := first | (simp only [dd, dr]; done) | omega) only [W_79, a1, I_lt, I_le, I_inj, inB_I, tc_I, Int.toNat_natCast, fkt, rf1, rf0, cq, Nat.reduceAdd, Nat.reduceEqDiff, Int.reduceToNat, eq_self, true_and, and_true, true_or, or_true, bI_0, bI_1, mm, rAm, mF_sF, mR_sR, false_and, and_false, if_false, if_true, false_or, or_false, not_true_eq_false, not_false_eq_true, and_self]
  refine ca_25 (by omega) (n_layAll (by omega) P R g D (fun M1 F1 hA hB => ?_))
  simp (disch := first | (simp only [dd, dr]; done) | omega) only [W_79, I_lt, I_le, I_inj, inB_I, tc_I, Int.toNat_natCast, fkt, rf1, rf0, cq, Nat.reduceAdd, Nat.reduceEqDiff, Int.reduceToNat, eq_self, true_and, and_true, true_or, or_true, bI_0, bI_1, mm, rAm, mF_sF, mR_sR, false_and, and_false, if_false, if_true, false_or, or_false, not_true_eq_false, not_false_eq_true, and_self]
  have P1 := P.ro F1
  have R1 := R.ro F1
  obtain ⟨⟨c1, c2, c3, c4, c5, c6, c7, c8, c9, c10, c11⟩, e1, _, ⟨kCh, _⟩, ⟨d1, d2, d3, d4, d5, d6, d7⟩, _, e2, _⟩ := id P1
  obtain ⟨r0, r1, r11, rX, _, rU⟩ := id R1.2.1
  have e1X := e1.1
  have e2X := e2.1
  have la1 : ∀ b, b < m → Rw M1 (p + 304 + b) (L b) := fun b hb => (hla b hb).same F1 (fun i => hB _ i (fun b' hb' => by omega))
  have nr : p + 195 ≠ p + 199 + 1 := by omega
  suffices H : ∀ n' (k : Nat) (G : Nat → Int32), k + n' = m → (∀ b, b < k → G b = I (bI (chb (tU T) uc (img m T py dt) L b))) → Wp d 79 8 [some (.ref p), some (.int (I (cn (chb (tU T) uc (img m T py dt) L) k : Nat))), some (.int (I (k : Nat)))] [] (rA M1 (p + 195) G) Q by
    have := H m 0 (fun q => mA M1 (p + 195) q) (by omega) (fun b hb => by omega)
    rw [rA_id] at this
    exact this
  intro n'
  induction n' with
  | zero =>
    intro k G hk hG
    have : k = m := by omega
    subst this
    simp (disch := first | (simp only [dd, dr]; done) | omega) only [w_79_8, W_79, c1, c11, I_lt, I_le, I_inj, inB_I, tc_I, Int.toNat_natCast, fkt, rf1, rf0, cq, Nat.reduceAdd, Nat.reduceEqDiff, Int.reduceToNat, eq_self, true_and, and_true, true_or, or_true, bI_0, bI_1, mm, rAm, mF_sF, mR_sR, false_and, and_false, if_false, if_true, false_or, or_false, not_true_eq_false, not_false_eq_true, and_self]
    refine ⟨fun _ => ?_, (fun h => by first | exact False.elim h | exact absurd trivial h | (exfalso; omega) | exact absurd rfl h | cases h)⟩
    simp (disch := first | (simp only [dd, dr]; done) | omega) only [W_79, I_lt, I_le, I_inj, inB_I, tc_I, Int.toNat_natCast, fkt, rf1, rf0, cq, Nat.reduceAdd, Nat.reduceEqDiff, Int.reduceToNat, eq_self, true_and, and_true, true_or, or_true, bI_0, bI_1, mm, rAm, mF_sF, mR_sR, false_and, and_false, if_false, if_true, false_or, or_false, not_true_eq_false, not_false_eq_true, and_self]
    exact hQ M1 G F1 hA hB hG
  | succ n' ih =>
    intro k G hk hG
    have hcn := cn_le (chb (tU T) uc (img m T py dt) L) k
    obtain ⟨eQ1, kX1⟩ := e1.2.1 k (by omega)
    obtain ⟨eQ2, kX2⟩ := e2.2.1 k (by omega)
    obtain ⟨eQ0, kX0⟩ := e2.2.1 0 (by omega)
    have eU : mA (rA M1 (p + 195) G) (p + 199 + 1) k = I (bI (tU T k)) := by rw [mA_rA, if_neg (by omega)]; exact rU k (by omega)
    have l0 : mA (rA M1 (p + 195) G) (p + 304 + 0) (1 + k) = bB ((frw m uc rt (1 + k) : Nat) : Int) := by
      rw [mA_rA, if_neg (by omega), ← hL0]; exact (la1 0 (by omega)).2 _ (by omega)
    have ef : frw m uc rt (1 + k) = if uc k = true then 1 else 0 := by
      unfold frw
      rw [if_neg (by omega), if_neg (by omega), if_pos (by omega), show 1 + k - 1 = k by omega]
    have ev : decide (bB ((frw m uc rt (1 + k) : Nat) : Int) = I 1) = uc k := by
      rw [ef]
      cases hu : uc k with
      | true => decide
      | false => decide
    -- the flag is known
    have fin : ∀ v : Bool, v = chb (tU T) uc (img m T py dt) L k → Wp d 79 75 [some (.ref p), some (.int (I (cn (chb (tU T) uc (img m T py dt) L) k : Nat))), some (.int (I (k : Nat)))] [.int (I (bI v)), .int (I (k : Nat)), .ref (p + 195)] (rA M1 (p + 195) G) Q := by
      intro v hv
      generalize hG2 : (fun q_1 => if q_1 = k then I (bI v) else G q_1) = G2
      have hGk : mA (rA M1 (p + 195) G2) (p + 195) k = I (bI v) := by rw [mA_rA, if_pos rfl, ← hG2]; simp
      have next : Wp d 79 8 [some (.ref p), some (.int (I (cn (chb (tU T) uc (img m T py dt) L) (k + 1) : Nat))), some (.int (I ((k + 1 : Nat) : Int)))] [] (rA M1 (p + 195) G2) Q := by
        refine ih (k + 1) G2 (by omega) (fun b hb => ?_)
        rw [← hG2]
        show (if b = k then I (bI v) else G b) = _
        by_cases e : b = k
        · rw [if_pos e, e, hv]
        · rw [if_neg e]; exact hG b (by omega)
      rw [cn, ← hv] at next
      simp (disch := first | (simp only [dd, dr]; done) | omega) only [W_79, kCh, nrw_2b, sA_rA, hG2, I_lt, I_le, I_inj, inB_I, tc_I, Int.toNat_natCast, fkt, rf1, rf0, cq, Nat.reduceAdd, Nat.reduceEqDiff, Int.reduceToNat, eq_self, true_and, and_true, true_or, or_true, bI_0, bI_1, mm, rAm, mF_sF, mR_sR, false_and, and_false, if_false, if_true, false_or, or_false, not_true_eq_false, not_false_eq_true, and_self]
      simp (disch := first | (simp only [dd, dr]; done) | omega) only [W_79, c1, c4, kCh, hGk, I_lt, I_le, I_inj, inB_I, tc_I, Int.toNat_natCast, fkt, rf1, rf0, cq, Nat.reduceAdd, Nat.reduceEqDiff, Int.reduceToNat, eq_self, true_and, and_true, true_or, or_true, bI_0, bI_1, mm, rAm, mF_sF, mR_sR, false_and, and_false, if_false, if_true, false_or, or_false, not_true_eq_false, not_false_eq_true, and_self]
      refine ⟨fun h => ?_, fun h => ?_⟩
      · simp (disch := first | (simp only [dd, dr]; done) | omega) only [W_79, I_lt, I_le, I_inj, inB_I, tc_I, Int.toNat_natCast, fkt, rf1, rf0, cq, Nat.reduceAdd, Nat.reduceEqDiff, Int.reduceToNat, eq_self, true_and, and_true, true_or, or_true, bI_0, bI_1, mm, rAm, mF_sF, mR_sR, false_and, and_false, if_false, if_true, false_or, or_false, not_true_eq_false, not_false_eq_true, and_self]
        rw [h] at next
        rw [show ((k : Int) + 1) = ((k + 1 : Nat) : Int) by omega, show ((cn (chb (tU T) uc (img m T py dt) L) k : Int) + 0) = ((cn (chb (tU T) uc (img m T py dt) L) k + 0 : Nat) : Int) by omega]
        exact next
      · have h' : v = true := by cases hv' : v with | true => rfl | false => exact absurd hv' h
        simp (disch := first | (simp only [dd, dr]; done) | omega) only [W_79, I_lt, I_le, I_inj, inB_I, tc_I, Int.toNat_natCast, fkt, rf1, rf0, cq, Nat.reduceAdd, Nat.reduceEqDiff, Int.reduceToNat, eq_self, true_and, and_true, true_or, or_true, bI_0, bI_1, mm, rAm, mF_sF, mR_sR, false_and, and_false, if_false, if_true, false_or, or_false, not_true_eq_false, not_false_eq_true, and_self]
        rw [h'] at next
        rw [show ((k : Int) + 1) = ((k + 1 : Nat) : Int) by omega, show ((cn (chb (tU T) uc (img m T py dt) L) k : Int) + 1) = ((cn (chb (tU T) uc (img m T py dt) L) k + 1 : Nat) : Int) by omega]
        exact next
    have f0 := fin false
    have f1 := fin true
    rw [bI_f] at f0
    rw [bI_t] at f1
    simp (disch := first | (simp only [dd, dr]; done) | omega) only [w_79_8, W_79, c1, c11, I_lt, I_le, I_inj, inB_I, tc_I, Int.toNat_natCast, fkt, rf1, rf0, cq, Nat.reduceAdd, Nat.reduceEqDiff, Int.reduceToNat, eq_self, true_and, and_true, true_or, or_true, bI_0, bI_1, mm, rAm, mF_sF, mR_sR, false_and, and_false, if_false, if_true, false_or, or_false, not_true_eq_false, not_false_eq_true, and_self]
    refine ⟨(fun h => by first | exact False.elim h | exact absurd trivial h | (exfalso; omega) | exact absurd rfl h | cases h), fun _ => ?_⟩
    simp (disch := first | (simp only [dd, dr]; done) | omega) only [r_79_16, r_79_17, r_79_20, r_79_21, r_79_22, r_79_25, r_79_28, r_79_29, r_79_30, c1, c4, c8, r0, r11, rX, eU, I_lt, I_le, I_inj, inB_I, tc_I, Int.toNat_natCast, fkt, rf1, rf0, cq, Nat.reduceAdd, Nat.reduceEqDiff, Int.reduceToNat, eq_self, true_and, and_true, true_or, or_true, bI_0, bI_1, mm, rAm, mF_sF, mR_sR, false_and, and_false, if_false, if_true, false_or, or_false, not_true_eq_false, not_false_eq_true, and_self]
    refine ⟨fun hu => ?_, fun hu => ?_⟩
    · simp (disch := first | (simp only [dd, dr]; done) | omega) only [r_79_74, I_lt, I_le, I_inj, inB_I, tc_I, Int.toNat_natCast, fkt, rf1, rf0, cq, Nat.reduceAdd, Nat.reduceEqDiff, Int.reduceToNat, eq_self, true_and, and_true, true_or, or_true, bI_0, bI_1, mm, rAm, mF_sF, mR_sR, false_and, and_false, if_false, if_true, false_or, or_false, not_true_eq_false, not_false_eq_true, and_self]
      exact f0 (by unfold chb; rw [hu]; rfl)
    have hu' : tU T k = true := by cases h : tU T k with | true => rfl | false => exact absurd h hu
    simp (disch := first | (simp only [dd, dr]; done) | omega) only [r_79_33, r_79_34, r_79_37, r_79_40, r_79_41, r_79_42, r_79_43, c1, c10, d1, d3, e2X, eQ0, I_lt, I_le, I_inj, inB_I, tc_I, Int.toNat_natCast, fkt, rf1, rf0, cq, Nat.reduceAdd, Nat.reduceEqDiff, Int.reduceToNat, eq_self, true_and, and_true, true_or, or_true, bI_0, bI_1, mm, rAm, mF_sF, mR_sR, false_and, and_false, if_false, if_true, false_or, or_false, not_true_eq_false, not_false_eq_true, and_self]
    refine cr_91 (by omega) (c_isTaken (by rw [rAm.2.2.2.2.2.2.1]; exact kX0) (by omega) l0 ?_)
    rw [ev]
    simp (disch := first | (simp only [dd, dr]; done) | omega) only [r_79_46, I_lt, I_le, I_inj, inB_I, tc_I, Int.toNat_natCast, fkt, rf1, rf0, cq, Nat.reduceAdd, Nat.reduceEqDiff, Int.reduceToNat, eq_self, true_and, and_true, true_or, or_true, bI_0, bI_1, mm, rAm, mF_sF, mR_sR, false_and, and_false, if_false, if_true, false_or, or_false, not_true_eq_false, not_false_eq_true, and_self]
    refine ⟨fun hc => ?_, fun hc => ?_⟩
    · simp (disch := first | (simp only [dd, dr]; done) | omega) only [r_79_70, r_79_71, I_lt, I_le, I_inj, inB_I, tc_I, Int.toNat_natCast, fkt, rf1, rf0, cq, Nat.reduceAdd, Nat.reduceEqDiff, Int.reduceToNat, eq_self, true_and, and_true, true_or, or_true, bI_0, bI_1, mm, rAm, mF_sF, mR_sR, false_and, and_false, if_false, if_true, false_or, or_false, not_true_eq_false, not_false_eq_true, and_self]
      exact f1 (by unfold chb; rw [hu', hc]; rfl)
    have hc' : uc k = true := by cases h : uc k with | true => rfl | false => exact absurd h hc
    simp (disch := first | (simp only [dd, dr]; done) | omega) only [r_79_49, r_79_50, r_79_53, r_79_54, r_79_55, r_79_56, r_79_59, r_79_62, r_79_63, r_79_64, c1, c2, c10, d1, d3, e1X, e2X, eQ1, eQ2, I_lt, I_le, I_inj, inB_I, tc_I, Int.toNat_natCast, fkt, rf1, rf0, cq, Nat.reduceAdd, Nat.reduceEqDiff, Int.reduceToNat, eq_self, true_and, and_true, true_or, or_true, bI_0, bI_1, mm, rAm, mF_sF, mR_sR, false_and, and_false, if_false, if_true, false_or, or_false, not_true_eq_false, not_false_eq_true, and_self]
    have rn1 : Rw (rA M1 (p + 195) G) (p + 2 + k) (img m T py dt k) := ⟨kX1, fun i hi => by rw [mA_rA, if_neg (by omega)]; exact (hA k hu').2 i hi⟩
    have rn2 : Rw (rA M1 (p + 195) G) (p + 304 + k) (L k) := ⟨kX2, fun i hi => by rw [mA_rA, if_neg (by omega)]; exact (la1 k (by omega)).2 i hi⟩
    refine cr_80 (by omega) (c_same kX1 kX2 ?_)
    rw [alk_rows rn1 rn2]
    simp (disch := first | (simp only [dd, dr]; done) | omega) only [r_79_67, I_lt, I_le, I_inj, inB_I, tc_I, Int.toNat_natCast, fkt, rf1, rf0, cq, Nat.reduceAdd, Nat.reduceEqDiff, Int.reduceToNat, eq_self, true_and, and_true, true_or, or_true, bI_0, bI_1, mm, rAm, mF_sF, mR_sR, false_and, and_false, if_false, if_true, false_or, or_false, not_true_eq_false, not_false_eq_true, and_self]
    refine ⟨fun h => ?_, fun h => ?_⟩
    · simp (disch := first | (simp only [dd, dr]; done) | omega) only [r_79_74, I_lt, I_le, I_inj, inB_I, tc_I, Int.toNat_natCast, fkt, rf1, rf0, cq, Nat.reduceAdd, Nat.reduceEqDiff, Int.reduceToNat, eq_self, true_and, and_true, true_or, or_true, bI_0, bI_1, mm, rAm, mF_sF, mR_sR, false_and, and_false, if_false, if_true, false_or, or_false, not_true_eq_false, not_false_eq_true, and_self]
      refine f0 ?_
      have h' : eqn (img m T py dt k) (L k) 129 = true := by cases hh : eqn (img m T py dt k) (L k) 129 with | true => rfl | false => exact absurd hh h
      unfold chb; rw [hu', hc', h']; rfl
    · have h' : eqn (img m T py dt k) (L k) 129 = false := Decidable.not_not.mp h
      simp (disch := first | (simp only [dd, dr]; done) | omega) only [r_79_70, r_79_71, I_lt, I_le, I_inj, inB_I, tc_I, Int.toNat_natCast, fkt, rf1, rf0, cq, Nat.reduceAdd, Nat.reduceEqDiff, Int.reduceToNat, eq_self, true_and, and_true, true_or, or_true, bI_0, bI_1, mm, rAm, mF_sF, mR_sR, false_and, and_false, if_false, if_true, false_or, or_false, not_true_eq_false, not_false_eq_true, and_self]
      refine f1 ?_
      unfold chb; rw [hu', hc', h']; rfl
end CLo
